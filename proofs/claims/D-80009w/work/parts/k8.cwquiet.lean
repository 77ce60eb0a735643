/-! CodeWriter: values where nothing is written -/
theorem lk4 {v : Int32} {k : Int → mj_R} (h1 : ¬ v = 7) (h2 : ¬ v = 9) (h3 : ¬ v = 34) (h4 : ¬ v = 48) : mj_lk v 225 [(7, 43), (9, 83), (34, 155), (48, 167)] k = k 225 := by
  unfold mj_lk; rw [if_neg (show ¬ v = Int32.ofInt 7 from h1)]
  unfold mj_lk; rw [if_neg (show ¬ v = Int32.ofInt 9 from h2)]
  unfold mj_lk; rw [if_neg (show ¬ v = Int32.ofInt 34 from h3)]
  unfold mj_lk; rw [if_neg (show ¬ v = Int32.ofInt 48 from h4)]
  rfl
section
variable {nt : sp_NT} {N M : Nat} {P : yP} {X : List (Nat × Bool)} {b : Nat} {lm lm' : Nat → Nat} {lv lv' : Nat → Bool} {x y : mj_X} {g h G H : wG} {res par : Nat → Int32}
def yS (P : yP) (x x' : mj_X) : Prop := yfr (yw (p_pf P) (p_lf P)) (p_pf P) x x' ∧ (x'.1 0 29 = 0 → x.1 0 29 = 0 ∧ x'.1 0 48 = x.1 0 48 ∧ x'.1 0 47 = x.1 0 47)
theorem yS.rf : yS P x x := ⟨yfr.rf _ _ _, fun z => ⟨z, rfl, rfl⟩⟩
theorem yS.tr {z : mj_X} (a : yS P x y) (b : yS P y z) : yS P x z := ⟨a.1.tr b.1, fun w => by
  obtain ⟨u1, u2, u3⟩ := b.2 w
  obtain ⟨v1, v2, v3⟩ := a.2 u1
  exact ⟨v1, u2.trans v2, u3.trans v3⟩⟩
/-- a result where nothing is written -/
def QR (nt : sp_NT) (N : Nat) (P : yP) (X : List (Nat × Bool)) (b : Nat) (lm : Nat → Nat) (lv : Nat → Bool) (g : wG) (r : mj_R) (x : mj_X) : Prop := ∃ x', r = some (none, x') ∧ Y1 nt N P X b lm lv x' g ∧ yq x' ∧ yS P x x'
theorem QR.id_ (a : Y1 nt N P X b lm lv x g) (hl : yq x) : QR nt N P X b lm lv g (some (none, x)) x := ⟨x, rfl, a, hl, yS.rf⟩
theorem QR.bi {X' : List (Nat × Bool)} {b' : Nat} {r : mj_R} {k : mj_X → mj_R} (a : QR nt N P X b lm lv g r x) (hk : ∀ x', Y1 nt N P X b lm lv x' g → yq x' → QR nt N P X' b' lm lv g (k x') x') : QR nt N P X' b' lm lv g (mj_rV r k) x := by
  obtain ⟨x1, e1, q1, h1, f1⟩ := a
  obtain ⟨x2, e2, q2, h2, f2⟩ := hk x1 q1 h1
  exact ⟨x2, by rw [e1, mj_rV_k, e2], q2, h2, f1.tr f2⟩
theorem QR.end_ {r : mj_R} (a : QR nt N P X b lm lv g r x) : QR nt N P X b lm lv g (mj_rV r fun x1 => some (none, x1)) x := by
  obtain ⟨x1, e1, q⟩ := a
  exact ⟨x1, by rw [e1, mj_rV_k], q⟩
theorem QR.e {r : mj_R} {k : mj_X → mj_R} (h : r = some (none, x)) (a : QR nt N P X b lm lv g (k x) x) : QR nt N P X b lm lv g (mj_rV r k) x := by
  rw [h, mj_rV_k]; exact a
theorem QR.kj {n : Nat} {r : mj_R} (q : QR nt N P X b lm lv g r x) (hl : yq x) (a : Y1 nt N P X b lm lv x g) (hm : wM g G) (hp : g_pl G = g_pl g) (hq : w_q g = true → G = g) (hn : n ≤ g_nl g) : KJ nt N P X b n g r x lm lv G := by
  obtain ⟨x1, e1, q1, h1, f1, s1⟩ := q
  obtain ⟨lm2, lv2, x2, e2, q2, l2, f2, t2⟩ := KJ.quiet (n := n) (r := some (none, x1)) q1 h1 rfl hm hp hq hn
  injection e2 with e2
  injection e2 with e2 e3
  subst e3
  refine ⟨lm2, lv2, x1, e1, q2, l2, f1, fun z => ?_⟩
  obtain ⟨u1, u2, u3⟩ := s1 z
  obtain ⟨-, u4⟩ := t2 z
  exact ⟨u1, yT.tr (yT.rf (g := g) (h := g) rfl u2 u3) u4⟩
/-- a label -/
theorem QR.lb {b' : Nat} {X' : List (Nat × Bool)} {d : Nat} (hd : 1 ≤ d) (a : Y1 nt N P X b lm lv x g) (hl : yq x) (hb : b + 1 ≤ 49900) {k : Int32 → mj_X → mj_R} (hk : ∀ i x', Y1 nt N P ((i, true) :: X) (b + 1) lm lv x' g → yq x' → QR nt N P X' b' lm lv g (k (nI i) x') x') : QR nt N P X' b' lm lv g (mj_rI (kX0 d 64 [.ref 0] x) k) x := by
  have key : ∃ i x', kX0 d 64 [.ref 0] x = some (some (.int (nI i)), x') ∧ Y1 nt N P ((i, true) :: X) (b + 1) lm lv x' g ∧ yq x' ∧ yS P x x' := by
    have hb1 := a.2.1
    rcases a.2.2.2 with ⟨h0, hL, o1, o2, o3, o4, ⟨b1, b2, b3, b4⟩, o6, ⟨v1, v2, v3, v4⟩, o8_, o9⟩ | ⟨m, hL, ho⟩
    · obtain ⟨i, x', e, hL', f, f2, h36, h37, hj⟩ := e_label hd hL (by omega)
      have ef := f.1
      have fy := yz_yw (pf := p_pf P) (lf := p_lf P) f f2
      have E : ∀ k, k ≠ 0 → k ≠ 36 → k ≠ 37 → x'.1 k = x.1 k := fun k h1 h2 h3 => funext fun j => ef k j (by unfold yz; split; exact absurd rfl h1; exact absurd rfl h2; exact absurd rfl h3; rfl)
      have him : ∀ l, l < g_nl g → lv l = true → lm l ≠ i := by
        obtain ⟨fr, L, l1, l2, l3, l4, l5, l6, l7, l8, l9⟩ := hL'
        exact fun l hl hv z => (l7 l hl hv).2 (by rw [z]; exact List.mem_append.mpr (Or.inr (List.mem_cons_self ..)))
      have hiX : ∀ p, p ∈ X → p.1 ≠ i := by
        obtain ⟨fr, L, l1, l2, l3, l4, l5, l6, l7, l8, l9⟩ := hL'
        have := (List.nodup_cons.mp (List.nodup_append.mp l4).2.1).1
        exact fun p hp z => this (by show i ∈ X.map Prod.fst; rw [← z]; exact List.mem_map_of_mem hp)
      refine ⟨i, x', e, ⟨a.1.fr fy, by simp only [List.length_cons]; omega, hb, Or.inl ⟨(ef 0 29 rfl).trans h0, ?_, ?_⟩⟩, ?_, fy, fun _ => ⟨h0, ef 0 48 rfl, ef 0 47 rfl⟩⟩
      · simp only [List.length_cons]
        rw [show g_us g + (X.length + 1) = g_us g + X.length + 1 by omega]; exact hL'
      · refine ⟨o1, o2, (ef 0 30 rfl).trans o3, (ef 0 31 rfl).trans o4, ⟨(ef 0 28 rfl).trans b1, b2, b3, by rw [E 28 (by decide) (by decide) (by decide)]; exact b4⟩, ?_, ⟨fun l hl hv => ?_, v2, v3, fun p hp hf => ?_⟩, ?_, ?_⟩
        · unfold yF at *
          rw [ef 0 42 rfl, E 40 (by decide) (by decide) (by decide), E 41 (by decide) (by decide) (by decide), E 42 (by decide) (by decide) (by decide)]; exact o6
        · have hj' := hj (lm l) (him l hl hv)
          rw [hj'.1, hj'.2]; exact v1 l hl hv
        · rcases List.mem_cons.mp hp with rfl | hp
          · exact h36
          · rw [(hj p.1 (hiX p hp)).1]; exact v4 p hp hf
        · exact ⟨(ef 0 43 rfl).trans o8_.1, (ef 0 44 rfl).trans o8_.2.1, o8_.2.2.1, y_po.same (E 18 (by decide) (by decide) (by decide)) (E 19 (by decide) (by decide) (by decide)) f2 _ o8_.2.2.2⟩
        · unfold yN at *
          rw [ef 0 46 rfl, ef 0 47 rfl, ef 0 48 rfl, E 24 (by decide) (by decide) (by decide)]; exact o9
      · rcases hl with z | z
        · exact Or.inl ((ef 0 30 rfl).trans z)
        · exact absurd h0 z
    · obtain ⟨i, x', e, hL', f, f2, h36, h37, hj⟩ := e_label hd hL (by omega)
      have ef := f.1
      have fy := yz_yw (pf := p_pf P) (lf := p_lf P) f f2
      obtain ⟨m1, m2, m3, m4, m5, m6⟩ := m
      have h29 : ¬ x'.1 0 29 = 0 := by rw [ef 0 29 rfl, m1]; decide
      refine ⟨i, x', e, ⟨a.1.fr fy, by simp only [List.length_cons]; omega, hb, Or.inr ⟨⟨(ef 0 29 rfl).trans m1, by rw [ef 0 30 rfl]; exact m2, (ef 0 31 rfl).trans m3, by rw [ef 0 43 rfl]; exact m4, by rw [ef 0 28 rfl]; exact m5, by rw [ef 0 48 rfl]; exact m6⟩, hL', ho⟩⟩, Or.inr h29, fy, fun z => absurd z h29⟩
  obtain ⟨i, x1, e1, q1, h1, f1⟩ := key
  obtain ⟨x2, e2, q2, h2, f2⟩ := hk i x1 q1 h1
  exact ⟨x2, by rw [e1, mj_rI_k, e2], q2, h2, f1.tr f2⟩
/-- a label that S does not have is put and sealed -/
theorem QR.pl {d i : Nat} {f : Bool} (hd : 2 ≤ d) (a : Y1 nt N P ((i, f) :: X) (b + 1) lm lv x g) (hl : yq x) : QR nt N P X b lm lv g (kX0 d 70 [.ref 0, .int (nI i)] x) x := by
  obtain ⟨d, rfl⟩ : ∃ c, d = c + 1 := ⟨d - 1, by omega⟩
  obtain ⟨d', rfl⟩ : ∃ e, d = e + 1 := ⟨d - 1, by omega⟩
  have hb1 := a.2.1
  have hb2 := a.2.2.1
  simp only [List.length_cons] at hb1
  have hi : i < 49990 ∧ x.1 37 i = 0 := by
    rcases a.2.2.2 with ⟨-, hL, -⟩ | ⟨-, hL, -⟩
    all_goals
      obtain ⟨fr, L, l1, l2, l3, l4, l5, l6, l7, l8, l9⟩ := hL
      exact ⟨Nat.lt_of_lt_of_le (l5 i (List.mem_append.mpr (Or.inr (List.mem_cons_self ..)))) l2, l9 (i, f) (List.mem_cons_self ..)⟩
  have fin : ∀ al : Int32, (x.1 0 30 = 0 → al = 0) → (∃ bb, al = sp_b bb) → QR nt N P X b lm lv g (kX0 (d' + 1) 72 [.ref 0, .int (nI i)] (mj_wI (mj_wI x 36 i (x.1 0 28)) 0 30 al)) x := by
    intro al hal hbb
    have f0 : yfr (yw (p_pf P) (p_lf P)) (p_pf P) x (mj_wI (mj_wI (mj_wI (mj_wI x 36 i (x.1 0 28)) 0 30 al) 36 i (x.1 0 38)) 0 38 (nI i)) := ((((yfr.rf _ _ _).w _ rfl).w _ rfl).w _ rfl).w _ rfl
    rw [eX0_seal, nI_clamp (by omega), mj_g_k (mj_in_nI (by omega) (by omega)), if_pos (show (mj_wI (mj_wI x 36 i (x.1 0 28)) 0 30 al).1 37 i = 0 from hi.2), mj_g_k (mj_in_nI (by omega) (by omega))]
    refine ⟨_, rfl, ⟨a.1.fr f0, by omega, by omega, ?_⟩, ?_, f0, fun z => ⟨z, rfl, rfl⟩⟩
    · rcases a.2.2.2 with ⟨h0, hL, o1, o2, o3, o4, o5, o6, ⟨v1, v2, v3, v4⟩, o8_, o9⟩ | ⟨⟨m1, m2, m3, m4⟩, hL, ho⟩
      · have h30 : x.1 0 30 = 0 := hl.resolve_right (fun q => q h0)
        have hne : ∀ l, l < g_nl g → lv l = true → lm l ≠ i := by
          obtain ⟨fr, L, l1, l2, l3, l4, l5, l6, l7, l8, l9⟩ := hL
          exact fun l hl hv z => (l7 l hl hv).2 (by rw [z]; exact List.mem_append.mpr (Or.inr (List.mem_cons_self ..)))
        have hnX : ∀ p, p ∈ X → p.1 ≠ i := by
          obtain ⟨fr, L, l1, l2, l3, l4, l5, l6, l7, l8, l9⟩ := hL
          have := (List.nodup_cons.mp (List.nodup_append.mp l4).2.1).1
          exact fun p hp z => this (by show i ∈ X.map Prod.fst; rw [← z]; exact List.mem_map_of_mem hp)
        have L1 := (hL.at36 (v := x.1 0 28) (Or.inr ⟨(i, f), List.mem_cons_self .., rfl⟩))
        have L2 : yL ((i, f) :: X) (g_nl g) lm lv (mj_wI (mj_wI x 36 i (x.1 0 28)) 0 30 al) (g_us g + ((i, f) :: X).length) := L1.fr rfl rfl rfl rfl
        refine Or.inl ⟨h0, L2.free (u' := g_us g + X.length) (by simp only [List.length_cons]; omega), o1, o2, ?_, o4, o5, o6, ⟨fun l hl hv => ?_, v2, v3, fun p hp hf => ?_⟩, ⟨o8_.1, o8_.2.1, o8_.2.2.1, (by refine y_po.same (x := x) ?_ ?_ ?_ _ o8_.2.2.2 <;> rfl)⟩, o9⟩
        · show al = _
          rw [hal h30, ← h30]; exact o3
        · show upd (upd (x.1 36) i (x.1 0 28)) i (x.1 0 38) (lm l) = _ ∧ x.1 37 (lm l) = _
          rw [pk_un (hne l hl hv), pk_un (hne l hl hv)]; exact v1 l hl hv
        · show upd (upd (x.1 36) i (x.1 0 28)) i (x.1 0 38) p.1 = -1
          rw [pk_un (hnX p hp), pk_un (hnX p hp)]; exact v4 p (List.mem_cons_of_mem _ hp) hf
      · have L1 := (hL.at36 (v := x.1 0 28) (Or.inr ⟨(i, f), List.mem_cons_self .., rfl⟩))
        have L2 : yL ((i, f) :: X) (g_nl g) lm lv (mj_wI (mj_wI x 36 i (x.1 0 28)) 0 30 al) (b + 1) := L1.fr rfl rfl rfl rfl
        exact Or.inr ⟨⟨m1, hbb, m3, m4⟩, L2.free (Nat.le_refl _), ho⟩
    · rcases hl with z | z
      · exact Or.inl (hal z)
      · exact Or.inr z
  rw [eX0_putLast, eX0_put, nI_clamp (by omega), mj_g_k (mj_in_nI (by omega) (by omega)), mj_g_k (mj_in_nI (by omega) (by omega)), if_pos hi.2]
  by_cases h30 : x.1 0 30 = 0
  · rw [if_pos h30, mj_rV_k]; exact (fin 0 (fun _ => rfl) ⟨false, rfl⟩).end_
  · rw [if_neg h30, mj_rV_k]; exact (fin 1 (fun z => absurd z h30) ⟨true, rfl⟩).end_
/-- jumps -/
theorem QR.go {d : Nat} (hd : 4 ≤ d) (a : Y1 nt N P X b lm lv x g) (hl : yq x) (l : Int32) : QR nt N P X b lm lv g (kX0 d 66 [.ref 0, .int l] x) x := by
  obtain ⟨d, rfl⟩ : ∃ c, d = c + 1 := ⟨d - 1, by omega⟩
  rw [eX0_jump2]
  by_cases h30 : x.1 0 30 = 0
  · rw [if_pos h30]; exact QR.id_ a hl
  · have h29 : ¬ x.1 0 29 = 0 := hl.resolve_left h30
    rw [if_neg h30]
    obtain ⟨d', rfl⟩ : ∃ e, d = e + 1 := ⟨d - 1, by omega⟩
    have e : ∀ cc : Int32, rX0_jump d' (22, [some (.ref 0), some (.int l), some (.int (x.1 0 28))], [.int cc, .ref 0], x) = some (none, mj_wI x 0 30 0) := by
      intro cc
      rw [bX0_jump_22, c_codeq (by omega) hl, mj_rV_k, c_offq (by omega) hl, mj_rV_k]
    have e2 : kX0 (d' + 1) 67 [.ref 0, .int l] x = some (none, mj_wI x 0 30 0) := by
      rw [eX0_jump, e, e]; split <;> rfl
    rw [e2, mj_rV_k]
    have f : yfr (yw (p_pf P) (p_lf P)) (p_pf P) x (mj_wI x 0 30 0) := (yfr.rf _ _ _).w _ rfl
    obtain ⟨⟨m1, m2, m3⟩, hL, ho⟩ := a.mc h29
    exact ⟨_, rfl, ⟨a.1.fr f, a.2.1, a.2.2.1, Or.inr ⟨⟨m1, ⟨false, rfl⟩, m3⟩, hL, ho⟩⟩, Or.inr h29, f, fun z => absurd z h29⟩
theorem QR.br {d : Nat} (hd : 4 ≤ d) (hl : yq x) (op l : Int32) : kX0 d 74 [.ref 0, .int op, .int l] x = some (none, x) := by
  obtain ⟨d, rfl⟩ : ∃ c, d = c + 1 := ⟨d - 1, by omega⟩
  obtain ⟨d', rfl⟩ : ∃ e, d = e + 1 := ⟨d - 1, by omega⟩
  rw [eX0_jumpIf]
  split
  · rw [c_codeq (by omega) hl, mj_rV_k, c_offq (by omega) hl, mj_rV_k]
  · rw [eX0_contrary, mj_rI_k, c_codeq (by omega) hl, mj_rV_k, e42 (d := d' + 1) (by omega) 8 x hl, mj_rV_k, c_codeq (by omega) hl, mj_rV_k, c_offq (by omega) hl, mj_rV_k]
theorem QR.k {d t : Nat} {v : Int64} (hd : 4 ≤ d) (h1 : 1 ≤ t) (h4 : t ≤ 4) (a : Y1 nt N P X b lm lv x g) (hl : yq x) : QR nt N P X b lm lv g (kX0 d 50 [.ref 0, .int (nI t), .long v] x) x := by
  by_cases h29 : x.1 0 29 = 0
  · obtain ⟨d, rfl⟩ : ∃ c, d = c + 1 := ⟨d - 1, by omega⟩
    rw [eX0_constant, if_pos (a.dead hl h29).1]; exact QR.id_ a hl
  · obtain ⟨x', e, q, f, z⟩ := c_kM (d := d) (by omega) h1 h4 (v := v) a h29
    exact ⟨x', e, q, Or.inr z, f, fun w => absurd w z⟩
theorem QR.one {d t : Nat} (hd : 5 ≤ d) (h1 : 1 ≤ t) (h4 : t ≤ 4) (a : Y1 nt N P X b lm lv x g) (hl : yq x) : QR nt N P X b lm lv g (kX0 d 49 [.ref 0, .int (nI t)] x) x := by
  obtain ⟨d, rfl⟩ : ∃ c, d = c + 1 := ⟨d - 1, by omega⟩
  rw [eX0_one]
  have ht : t = 1 ∨ t = 2 ∨ t = 3 ∨ t = 4 := by omega
  rcases ht with rfl | rfl | rfl | rfl
  · rw [if_neg (by decide), if_neg (by decide)]; exact (QR.k (t := 1) (by omega) h1 h4 a hl).end_
  · rw [if_neg (by decide), if_neg (by decide)]; exact (QR.k (t := 2) (by omega) h1 h4 a hl).end_
  · rw [if_pos (by rfl)]; exact (QR.k (t := 3) (by omega) h1 h4 a hl).end_
  · rw [if_neg (by decide), if_pos (by rfl)]; exact (QR.k (t := 4) (by omega) h1 h4 a hl).end_
theorem QR.inv {d : Nat} {s : Int32} {v : Int64} (hd : 4 ≤ d) (a : Y1 nt N P X b lm lv x g) (hl : yq x) : QR nt N P X b lm lv g (kX0 d 54 [.ref 0, .int s, .long v] x) x := by
  obtain ⟨d, rfl⟩ : ∃ c, d = c + 1 := ⟨d - 1, by omega⟩
  rw [eX0_invoke]
  by_cases h30 : x.1 0 30 = 0
  · rw [if_pos h30]; exact QR.id_ a hl
  · have h29 : ¬ x.1 0 29 = 0 := hl.resolve_left h30
    rw [if_neg h30]
    obtain ⟨i, x1, e1, q1, f1, z1⟩ := c_poolM (d := d) (by omega) (s := s) (v := v) a h29
    refine ⟨x1, ?_, q1, Or.inr z1, f1, fun w => absurd w z1⟩
    rw [e1, mj_rI_k, c_codeq (by omega) (Or.inr z1), mj_rV_k, e42 (d := d) (by omega) i x1 (Or.inr z1), mj_rV_k]
/-- a value, a condition where nothing is written -/
def QV (nt : sp_NT) (N f : Nat) : Prop := ∀ (n : Int32) (P : yP) (X : List (Nat × Bool)) (b : Nat) (lm : Nat → Nat) (lv : Nat → Bool) (x : mj_X) (g : wG) (d : Nat) (w : Int32), wE nt N f n → 6 * f + 13 ≤ d → b + 4 * f + 2 ≤ 49900 → Y1 nt N P X b lm lv x g → yq x → QR nt N P X b lm lv g (kX0 d 35 [.ref 0, .int n, .int w] x) x
def QC (nt : sp_NT) (N f : Nat) : Prop := ∀ (n : Int32) (P : yP) (X : List (Nat × Bool)) (b : Nat) (lm : Nat → Nat) (lv : Nat → Bool) (x : mj_X) (g : wG) (d : Nat) (so l : Int32), wE nt N f n → nT nt n = 1 → 6 * f + 11 ≤ d → b + 4 * f ≤ 49900 → Y1 nt N P X b lm lv x g → yq x → QR nt N P X b lm lv g (kX0 d 65 [.ref 0, .int n, .int so, .int l] x) x
end
