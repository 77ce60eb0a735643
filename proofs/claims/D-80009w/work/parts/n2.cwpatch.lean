/-! jumps: where they lie -/
theorem w_fes_mem (p s : Nat) : ∀ (l : List (Int32 × Nat)) (a : Nat) (r : List (Nat × Nat × Nat × Bool)) (q : Nat × Nat × Nat × Bool), q ∈ w_fes p a s l r → q ∈ r ∨ ∃ k x, k < l.length ∧ x ∈ l ∧ q = (a + s * k, p, x.2, true) := by
  intro l
  induction l with
  | nil => intro a r q h; exact Or.inl h
  | cons y l ih =>
    intro a r q h
    rcases ih _ _ q h with h | ⟨k, x, h1, h2, h3⟩
    · rcases List.mem_cons.mp h with z | z
      · exact Or.inr ⟨0, y, by simp, List.mem_cons_self .., by rw [z]; simp⟩
      · exact Or.inl z
    · refine Or.inr ⟨k + 1, x, by simp only [List.length_cons]; omega, List.mem_cons_of_mem _ h2, ?_⟩
      rw [h3, Nat.mul_add]; congr 1; omega
/-- a jump's place within what is written -/
def w_qin (w : Bool) (its : List (wI × wF)) (q : Nat × Nat × Nat × Bool) : Prop := q.1 + (bif q.2.2.2 then 4 else 2) ≤ (w_by_ w w_z its).length ∧ q.2.1 < (w_by_ w w_z its).length ∧ ∃ i F, (i, F) ∈ its ∧ ((i.1 = 20 ∨ i.1 = 21) ∧ q.2.2.1 = w_l0 i ∨ ∃ x, x ∈ i.2.2.2.2 ∧ q.2.2.1 = x.2)
theorem w_qin.cons {w : Bool} {its : List (wI × wF)} {q : Nat × Nat × Nat × Bool} (h : w_qin w its q) (e : wI × wF) : w_qin w (e :: its) q := by
  obtain ⟨h1, h2, i, F, h3, h4⟩ := h
  have := w_by_mono w w_z [e] its
  exact ⟨Nat.le_trans h1 this, Nat.lt_of_lt_of_le h2 this, i, F, List.mem_cons_of_mem _ h3, h4⟩
theorem w_qin_all (w : Bool) : ∀ (its : List (wI × wF)) (q : Nat × Nat × Nat × Bool), q ∈ w_fxs w w_z its → w_qin w its q := by
  intro its
  induction its with
  | nil => intro q h; cases h
  | cons e its ih =>
    intro q h
    have h : q ∈ w_fx w (w_by_ w w_z its).length e.1 (w_fxs w w_z its) := h
    have len : (w_by_ w w_z (e :: its)).length = (w_by_ w w_z its).length + (w_enc w w_z (w_by_ w w_z its).length e.1).length := by
      show (w_by_ w w_z its ++ w_enc w w_z (w_by_ w w_z its).length e.1).length = _
      rw [List.length_append]
    have pos := w_enc_pos w w_z (w_by_ w w_z its).length e.1
    obtain ⟨⟨t, i⟩, F⟩ := e
    generalize hp : (w_by_ w w_z its).length = p at *
    by_cases c20 : t = 20
    · subst c20
      rcases List.mem_cons.mp (show q ∈ (p + 1, p, w_l0 (20, i), w) :: w_fxs w w_z its from h) with z | z
      · refine ⟨?_, ?_, (20, i), F, List.mem_cons_self .., Or.inl ⟨Or.inl rfl, by rw [z]⟩⟩
        · rw [len, z]
          cases w
          · show p + 1 + 2 ≤ p + ([o8 167] ++ o16 _).length; simp [o16]
          · show p + 1 + 4 ≤ p + ([o8 200] ++ o32 _).length; simp [o32]
        · rw [len, z]; show p < p + _; omega
      · exact (ih q z).cons _
    by_cases c21 : t = 21
    · subst c21
      cases w
      · rcases List.mem_cons.mp (show q ∈ (p + 1, p, w_l0 (21, i), false) :: w_fxs false w_z its from h) with z | z
        · refine ⟨?_, ?_, (21, i), F, List.mem_cons_self .., Or.inl ⟨Or.inr rfl, by rw [z]⟩⟩
          · rw [len, z]; show p + 1 + 2 ≤ p + ([o8 _] ++ o16 _).length; simp [o16]
          · rw [len, z]; show p < p + _; omega
        · exact (ih q z).cons _
      · rcases List.mem_cons.mp (show q ∈ (p + 7 - 3, p + 3, w_l0 (21, i), true) :: w_fxs true w_z its from h) with z | z
        · refine ⟨?_, ?_, (21, i), F, List.mem_cons_self .., Or.inl ⟨Or.inr rfl, by rw [z]⟩⟩
          · rw [len, z]; show p + 7 - 3 + 4 ≤ p + ([o8 _] ++ (o16 _ ++ ([o8 _] ++ o32 _))).length; simp [o16, o32]
          · rw [len, z]; show p + 3 < p + ([o8 _] ++ (o16 _ ++ ([o8 _] ++ o32 _))).length; simp [o16, o32]
        · exact (ih q z).cons _
    by_cases c22 : t = 22
    · subst c22
      obtain ⟨i1, i2, i3, l⟩ := i
      cases l with
      | nil => exact (ih q h).cons _
      | cons d l =>
        have elen : (w_enc w w_z p (22, i1, i2, i3, d :: l)).length = 1 + (3 - p % 4) + (12 + 4 * l.length) := by
          show ([o8 170] ++ (w_pad p ++ (o32 _ ++ (o32 _ ++ (o32 _ ++ w_ent _ l))))).length = _
          simp only [List.length_append, w_pad_len]
          have : ∀ (o : Nat → Int32) (l : List (Int32 × Nat)), (w_ent o l).length = 4 * l.length := by
            intro o l
            induction l with
            | nil => rfl
            | cons a r ih => show (o32 _ ++ w_ent o r).length = _; rw [List.length_append, ih]; simp [o32]; omega
          rw [this]; simp [o32]; omega
        rcases w_fes_mem p 4 l _ _ q h with z | ⟨k, x, z1, z2, z3⟩
        · rcases List.mem_cons.mp z with z | z
          · refine ⟨?_, ?_, _, F, List.mem_cons_self .., Or.inr ⟨d, List.mem_cons_self .., by rw [z]⟩⟩
            · rw [len, elen, z]; show p + 4 - p % 4 + 4 ≤ _; omega
            · rw [len, z]; show p < p + _; omega
          · exact (ih q z).cons _
        · refine ⟨?_, ?_, _, F, List.mem_cons_self .., Or.inr ⟨x, List.mem_cons_of_mem _ z2, by rw [z3]⟩⟩
          · rw [len, elen, z3]; show p + 16 - p % 4 + 4 * k + 4 ≤ _; omega
          · rw [len, z3]; show p < p + _; omega
    by_cases c23 : t = 23
    · subst c23
      obtain ⟨i1, i2, i3, l⟩ := i
      cases l with
      | nil => exact (ih q h).cons _
      | cons d l =>
        have elen : (w_enc w w_z p (23, i1, i2, i3, d :: l)).length = 1 + (3 - p % 4) + (8 + 8 * l.length) := by
          show ([o8 171] ++ (w_pad p ++ (o32 _ ++ (o32 _ ++ w_lke _ l)))).length = _
          simp only [List.length_append, w_pad_len]
          have : ∀ (o : Nat → Int32) (l : List (Int32 × Nat)), (w_lke o l).length = 8 * l.length := by
            intro o l
            induction l with
            | nil => rfl
            | cons a r ih => show (o32 _ ++ (o32 _ ++ w_lke o r)).length = _; rw [List.length_append, List.length_append, ih]; simp [o32]; omega
          rw [this]; simp [o32]; omega
        rcases w_fes_mem p 8 l _ _ q h with z | ⟨k, x, z1, z2, z3⟩
        · rcases List.mem_cons.mp z with z | z
          · refine ⟨?_, ?_, _, F, List.mem_cons_self .., Or.inr ⟨d, List.mem_cons_self .., by rw [z]⟩⟩
            · rw [len, elen, z]; show p + 4 - p % 4 + 4 ≤ _; omega
            · rw [len, z]; show p < p + _; omega
          · exact (ih q z).cons _
        · refine ⟨?_, ?_, _, F, List.mem_cons_self .., Or.inr ⟨x, List.mem_cons_of_mem _ z2, by rw [z3]⟩⟩
          · rw [len, elen, z3]; show p + 16 - p % 4 + 8 * k + 4 ≤ _; omega
          · rw [len, z3]; show p < p + _; omega
    · have := (w_enc_o (w := w) (o := w_z) (p := p) (i := (t, i)) c20 c21 c22 c23).2
      rw [this] at h
      exact (ih q h).cons _
theorem z_l1.at_ {α : Type} {f : Nat → α → Prop} : ∀ {e r : List α} {a : α}, z_l1 f (e ++ a :: r) → f r.length a := by
  intro e
  induction e with
  | nil => intro r a h; exact h.1
  | cons b e ih => intro r a h; exact ih h.2
theorem nI_m1s {n : Nat} (h : n < 2 ^ 30) : (-1 - nI n).toInt = -1 - (n : Int) := by
  have e1 : (-1 : Int32).toInt = -1 := by decide
  rw [Int32.toInt_sub, e1, nI_toInt (by omega)]
  exact Int.bmod_eq_of_le (by omega) (by omega)
theorem nI_m1m {n : Nat} (h : n < 2 ^ 30) : (-1 : Int32) - (-1 - nI n) = nI n := by
  have e1 : (-1 : Int32).toInt = -1 := by decide
  apply Int32.toInt_inj.mp
  rw [Int32.toInt_sub, nI_m1s h, e1, nI_toInt (by omega)]
  rw [show (-1 : Int) - (-1 - (n : Int)) = n by omega]
  exact Int.bmod_eq_of_le (by omega) (by omega)
theorem nI_m1neg {n : Nat} (h : n < 2 ^ 30) : -1 - nI n < 0 := by
  have e0 : (0 : Int32).toInt = 0 := by decide
  rw [Int32.lt_iff_toInt_lt, nI_m1s h, e0]; omega
/-- too far for two bytes -/
def w_fq (o : Nat → Nat → Int32) (q : Nat × Nat × Nat × Bool) : Bool := !q.2.2.2 && !sp_i (o q.2.1 q.2.2.1) (-32768) 32767
def w_far (w : Bool) (g : wG) : Bool := (w_fxs w w_z (g_it g)).any (w_fq (w_off w (g_it g) (g_lat g)))
section
variable {nt : sp_NT} {N M : Nat} {P : yP} {sb : Nat} {x y : mj_X} {res par : Nat → Int32} {lm : Nat → Nat} {lv : Nat → Bool} {G : wG}
/-- a jump as CodeWriter keeps it -/
theorem yR.q (h : yR P lm lv x G) (hgo : ∀ q, q ∈ w_fxs (p_w P) w_z (g_it G) → g_goes G q.2.2.1 = true) {e r : List (Nat × Nat × Nat × Bool)} {q : Nat × Nat × Nat × Bool} (hF : w_fxs (p_w P) w_z (g_it G) = e ++ q :: r) :
    x.1 40 r.length = (bif q.2.2.2 then -1 - nI q.1 else nI q.1) ∧ x.1 41 r.length = nI q.2.1 ∧ x.1 42 r.length = nI (lm q.2.2.1) ∧ lm q.2.2.1 < 49990 ∧ x.1 36 (lm q.2.2.1) - nI q.2.1 = w_off (p_w P) (g_it G) (g_lat G) q.2.1 q.2.2.1 ∧ q.1 + (bif q.2.2.2 then 4 else 2) ≤ 65535 ∧ r.length < 25000 := by
  obtain ⟨⟨fr, L, l1, l2, l3, l4, l5, l6, l7, l8, l9⟩, ⟨o1, o2, o3, o4, ⟨b1, b2, b3, b4⟩, ⟨f1, f2, f3, f4⟩, ⟨v1, v2, v3, v4⟩, o9⟩, -⟩ := h
  have hm : q ∈ w_fxs (p_w P) w_z (g_it G) := by rw [hF]; simp
  have hq := w_qin_all (p_w P) (g_it G) q hm
  have nl := f3 q hm
  have lv1 := v2 _ nl (hgo q hm)
  rw [hF] at f4
  obtain ⟨a1, a2, a3⟩ := f4.at_
  refine ⟨a1, a2, a3, ?_, ?_, Nat.le_trans hq.1 b2, ?_⟩
  · have := (l7 _ nl lv1).1; omega
  · rw [(v1 _ nl lv1).1]; unfold w_off z_lo
    cases g_lat G q.2.2.1 <;> rfl
  · have : (w_fxs (p_w P) w_z (g_it G)).length = e.length + (r.length + 1) := by rw [hF]; simp
    omega
theorem k_tooL {d : Nat} (hd : 1 ≤ d) (h : yR P lm lv x G) (hgo : ∀ q, q ∈ w_fxs (p_w P) w_z (g_it G) → g_goes G q.2.2.1 = true) : ∀ (n : Nat) (e r : List (Nat × Nat × Nat × Bool)) (o2 : Option Value), e.length = n → w_fxs (p_w P) w_z (g_it G) = e ++ r →
    rX0_tooFar d (2, [some (.ref 0), some (.int (nI r.length)), o2], [], x) = some (some (.int (sp_b (e.any (w_fq (w_off (p_w P) (g_it G) (g_lat G)))))), x) := by
  have h42 : x.1 0 42 = nI (w_fxs (p_w P) w_z (g_it G)).length ∧ (w_fxs (p_w P) w_z (g_it G)).length ≤ 25000 := ⟨h.2.1.2.2.2.2.2.1.1, h.2.1.2.2.2.2.2.1.2.1⟩
  intro n
  induction n with
  | zero =>
    intro e r o2 he hF
    have : e = [] := List.length_eq_zero_iff.mp he
    subst this
    rw [bX0_tooFar_2, h42.1, hF, List.nil_append, if_pos (by exact nI_le (Nat.le_refl _) (by rw [hF, List.nil_append] at h42; omega))]
    rfl
  | succ n ih =>
    intro e r o2 he hF
    have hne : e ≠ [] := fun z => by rw [z] at he; simp at he
    obtain ⟨e', q, rfl⟩ : ∃ e' q, e = e' ++ [q] := ⟨e.dropLast, e.getLast hne, (List.dropLast_concat_getLast hne).symm⟩
    have hF' : w_fxs (p_w P) w_z (g_it G) = e' ++ q :: r := by rw [hF]; simp
    have len : (w_fxs (p_w P) w_z (g_it G)).length = e'.length + (r.length + 1) := by rw [hF']; simp
    obtain ⟨a1, a2, a3, a4, a5, a6, a7⟩ := h.q hgo hF'
    have he' : e'.length = n := by simpa using he
    have g1 : ∀ s : mj_R, mj_g (nI r.length) 45000 s = s := fun s => mj_g_k (mj_in_nI (by omega) (by decide)) s
    have g2 : ∀ s : mj_R, mj_g (nI (lm q.2.2.1)) 50000 s = s := fun s => mj_g_k (mj_in_nI (by omega) (by decide)) s
    rw [bX0_tooFar_2, h42.1, if_neg (by rw [nI_leI (by omega) (by omega)]; omega), nI_clamp (by omega), a3, g1, g2, g1, g1, a1, a2, nI_clamp (by omega), a5, nI_1]
    have nxt := ih e' (q :: r) (some (.int (w_off (p_w P) (g_it G) (g_lat G) q.2.1 q.2.2.1))) he' hF'
    rw [List.length_cons] at nxt
    rw [List.any_append, List.any_cons, List.any_nil, Bool.or_false]
    cases hl : q.2.2.2
    · simp only [cond_false]
      rw [if_neg (nI_pos (by rw [hl] at a6; simp only [cond_false] at a6; omega)), sX0_isIn hd, mj_rI_k, show ∀ v : Int32, sp_in v.toInt64 (-32768) 32767 = sp_i v (-32768) 32767 from fun v => sp_in_i v (-32768) 32767]
      have ef : w_fq (w_off (p_w P) (g_it G) (g_lat G)) q = !sp_i (w_off (p_w P) (g_it G) (g_lat G) q.2.1 q.2.2.1) (-32768) 32767 := by unfold w_fq; rw [hl]; rfl
      rw [ef]
      cases sp_i (w_off (p_w P) (g_it G) (g_lat G) q.2.1 q.2.2.1) (-32768) 32767
      · rw [if_pos (by decide), Bool.not_false, Bool.or_true]; rfl
      · rw [if_neg (by decide), nxt, Bool.not_true, Bool.or_false]
    · simp only [cond_true]
      have ef : w_fq (w_off (p_w P) (g_it G) (g_lat G)) q = false := by unfold w_fq; rw [hl]; rfl
      have neg : -1 - nI q.1 < 0 := nI_m1neg (by rw [hl] at a6; simp only [cond_true] at a6; omega)
      rw [if_pos neg, nxt, ef, Bool.or_false]
theorem k_tooFar {d : Nat} (hd : 1 ≤ d) (h : yR P lm lv x G) (hgo : ∀ q, q ∈ w_fxs (p_w P) w_z (g_it G) → g_goes G q.2.2.1 = true) : kX0 (d + 1) 95 [.ref 0] x = some (some (.int (sp_b (w_far (p_w P) G))), x) := by
  rw [eX0_tooFar]
  exact k_tooL hd h hgo _ _ [] none rfl (List.append_nil _).symm
/-- what was written, with another text -/
def set28 (A : Nat → Int32) (x : mj_X) : mj_X := (fun a => if a = 28 then A else x.1 a, x.2)
theorem set28_w (A : Nat → Int32) (x : mj_X) (j : Nat) (v : Int32) : mj_wI (set28 A x) 28 j v = set28 (upd A j v) x := by
  unfold mj_wI set28
  refine Prod.ext ?_ rfl
  funext a
  show (if a = 28 then upd (if a = 28 then A else x.1 a) j v else (if a = 28 then A else x.1 a)) = (if a = 28 then upd A j v else x.1 a)
  by_cases e : a = 28
  · rw [if_pos e, if_pos e, if_pos e]
  · rw [if_neg e, if_neg e, if_neg e]
theorem set28_n (A : Nat → Int32) (x : mj_X) {a : Nat} (h : a ≠ 28) : (set28 A x).1 a = x.1 a := if_neg h
theorem k_put4 {d : Nat} {a1 a3 v : Int32} {b : Nat} {A : Nat → Int32} (hb : b + 4 ≤ 65535) : rX0_patch d (78, [some (.ref 0), some (.int a1), some (.int v), some (.int a3), some (.int (nI b)), some (.int (3 : Int32))], [], set28 A x) = rX0_patch d (2, [some (.ref 0), some (.int (a1 + 1)), some (.int v), some (.int a3), some (.int (nI (b + 4))), some (.int (-1 : Int32))], [], set28 (w_put4 b v A) x) := by
  have g : ∀ (j : Nat) (s : mj_R), j < 65551 → mj_g (nI j) 65551 s = s := fun j s hj => mj_g_k (mj_in_nI hj (by decide)) s
  rw [bX0_patch_78, if_neg (by decide), g _ _ (by omega), nI_clamp (by omega), set28_w, o8_o8, nI_1, show (3 : Int32) + -1 = 2 from by decide, show ((8 : Int32) * 3) &&& 31 = 24 from by decide]
  rw [bX0_patch_78, if_neg (by decide), g _ _ (by omega), nI_clamp (by omega), set28_w, o8_o8, nI_1, show (2 : Int32) + -1 = 1 from by decide, show ((8 : Int32) * 2) &&& 31 = 16 from by decide]
  rw [bX0_patch_78, if_neg (by decide), g _ _ (by omega), nI_clamp (by omega), set28_w, o8_o8, nI_1, show (1 : Int32) + -1 = 0 from by decide, show ((8 : Int32) * 1) &&& 31 = 8 from by decide]
  rw [bX0_patch_78, if_neg (by decide), g _ _ (by omega), nI_clamp (by omega), set28_w, o8_o8, nI_1, show (0 : Int32) + -1 = -1 from by decide, show ((8 : Int32) * 0) &&& 31 = 0 from by decide]
  rw [bX0_patch_78, if_pos (by decide), show v >>> (0 : Int32) = v from Int32.shiftRight_zero]
  rfl
theorem k_put2 {d : Nat} {a1 a3 v : Int32} {b : Nat} {A : Nat → Int32} (hb : b + 2 ≤ 65535) : rX0_patch d (78, [some (.ref 0), some (.int a1), some (.int v), some (.int a3), some (.int (nI b)), some (.int (1 : Int32))], [], set28 A x) = rX0_patch d (2, [some (.ref 0), some (.int (a1 + 1)), some (.int v), some (.int a3), some (.int (nI (b + 2))), some (.int (-1 : Int32))], [], set28 (w_put2 b v A) x) := by
  have g : ∀ (j : Nat) (s : mj_R), j < 65551 → mj_g (nI j) 65551 s = s := fun j s hj => mj_g_k (mj_in_nI hj (by decide)) s
  rw [bX0_patch_78, if_neg (by decide), g _ _ (by omega), nI_clamp (by omega), set28_w, o8_o8, nI_1, show (1 : Int32) + -1 = 0 from by decide, show ((8 : Int32) * 1) &&& 31 = 8 from by decide]
  rw [bX0_patch_78, if_neg (by decide), g _ _ (by omega), nI_clamp (by omega), set28_w, o8_o8, nI_1, show (0 : Int32) + -1 = -1 from by decide, show ((8 : Int32) * 0) &&& 31 = 0 from by decide]
  rw [bX0_patch_78, if_pos (by decide), show v >>> (0 : Int32) = v from Int32.shiftRight_zero]
  rfl
theorem k_patL {d : Nat} (h : yR P lm lv x G) (hgo : ∀ q, q ∈ w_fxs (p_w P) w_z (g_it G) → g_goes G q.2.2.1 = true) : ∀ (n : Nat) (e r : List (Nat × Nat × Nat × Bool)) (A : Nat → Int32) (o2 o3 o4 o5 : Option Value), e.length = n → w_fxs (p_w P) w_z (g_it G) = e ++ r →
    rX0_patch d (2, [some (.ref 0), some (.int (nI r.length)), o2, o3, o4, o5], [], set28 A x) = some (none, set28 (w_pat (w_off (p_w P) (g_it G) (g_lat G)) 0 e A) x) := by
  have h42 : x.1 0 42 = nI (w_fxs (p_w P) w_z (g_it G)).length ∧ (w_fxs (p_w P) w_z (g_it G)).length ≤ 25000 := ⟨h.2.1.2.2.2.2.2.1.1, h.2.1.2.2.2.2.2.1.2.1⟩
  intro n
  induction n with
  | zero =>
    intro e r A o2 o3 o4 o5 he hF
    have : e = [] := List.length_eq_zero_iff.mp he
    subst this
    rw [bX0_patch_2, set28_n _ _ (by decide), h42.1, hF, List.nil_append, if_pos (by exact nI_le (Nat.le_refl _) (by rw [hF, List.nil_append] at h42; omega))]
    rfl
  | succ n ih =>
    intro e r A o2 o3 o4 o5 he hF
    have hne : e ≠ [] := fun z => by rw [z] at he; simp at he
    obtain ⟨e', q, rfl⟩ : ∃ e' q, e = e' ++ [q] := ⟨e.dropLast, e.getLast hne, (List.dropLast_concat_getLast hne).symm⟩
    have hF' : w_fxs (p_w P) w_z (g_it G) = e' ++ q :: r := by rw [hF]; simp
    have len : (w_fxs (p_w P) w_z (g_it G)).length = e'.length + (r.length + 1) := by rw [hF']; simp
    obtain ⟨a1, a2, a3, a4, a5, a6, a7⟩ := h.q hgo hF'
    have he' : e'.length = n := by simpa using he
    have g1 : ∀ s : mj_R, mj_g (nI r.length) 45000 s = s := fun s => mj_g_k (mj_in_nI (by omega) (by decide)) s
    have g2 : ∀ s : mj_R, mj_g (nI (lm q.2.2.1)) 50000 s = s := fun s => mj_g_k (mj_in_nI (by omega) (by decide)) s
    rw [w_pat_app]
    have e1 : w_pat (w_off (p_w P) (g_it G) (g_lat G)) 0 [q] A = w_p1 (w_off (p_w P) (g_it G) (g_lat G)) 0 q A := rfl
    rw [e1]
    rw [bX0_patch_2, set28_n _ _ (by decide), set28_n _ _ (by decide), set28_n _ _ (by decide), set28_n _ _ (by decide), set28_n _ _ (by decide), h42.1, if_neg (by rw [nI_leI (by omega) (by omega)]; omega), nI_clamp (by omega), a3, g1, g2, g1, g1, a1, a2, nI_clamp (by omega), a5]
    unfold w_p1
    cases hl : q.2.2.2
    · rw [hl] at a6; simp only [cond_false] at a6 ⊢
      rw [if_pos (nI_pos' (by omega)), bX0_patch_43, if_pos rfl, g1, set28_n _ _ (by decide), nI_clamp (by omega), a1, hl, cond_false, bX0_patch_65, if_pos rfl, k_put2 (by omega), nI_1, Nat.zero_add]
      have nxt := ih e' (q :: r) (w_put2 q.1 (w_off (p_w P) (g_it G) (g_lat G) q.2.1 q.2.2.1) A) (some (.int (w_off (p_w P) (g_it G) (g_lat G) q.2.1 q.2.2.1))) (some (.int (0 : Int32))) (some (.int (nI (q.1 + 2)))) (some (.int (-1 : Int32))) he' hF'
      rw [List.length_cons] at nxt
      exact nxt
    · rw [hl] at a6; simp only [cond_true] at a6 ⊢
      have neg : ¬ (0 : Int32) ≤ -1 - nI q.1 := by
        have e0 : (0 : Int32).toInt = 0 := by decide
        rw [Int32.le_iff_toInt_le, nI_m1s (by omega), e0]; omega
      rw [if_neg neg, bX0_patch_43, if_neg (by decide), g1, set28_n _ _ (by decide), nI_clamp (by omega), a1, hl, cond_true, bX0_patch_65, if_neg (by decide)]
      have eb : (-1 : Int32) - (-1 - nI q.1) = nI q.1 := nI_m1m (by omega)
      rw [eb, k_put4 (by omega), nI_1, Nat.zero_add]
      have nxt := ih e' (q :: r) (w_put4 q.1 (w_off (p_w P) (g_it G) (g_lat G) q.2.1 q.2.2.1) A) (some (.int (w_off (p_w P) (g_it G) (g_lat G) q.2.1 q.2.2.1))) (some (.int (1 : Int32))) (some (.int (nI (q.1 + 4)))) (some (.int (-1 : Int32))) he' hF'
      rw [List.length_cons] at nxt
      exact nxt
theorem k_patch {d : Nat} (h : yR P lm lv x G) (hgo : ∀ q, q ∈ w_fxs (p_w P) w_z (g_it G) → g_goes G q.2.2.1 = true) : ∃ A, kX0 (d + 1) 97 [.ref 0] x = some (none, set28 A x) ∧ z_ar A 0 (w_by_ (p_w P) (w_off (p_w P) (g_it G) (g_lat G)) (g_it G)) := by
  refine ⟨w_pat (w_off (p_w P) (g_it G) (g_lat G)) 0 (w_fxs (p_w P) w_z (g_it G)) (x.1 28), ?_, (w_pat_all (g_it G) (x.1 28) h.2.1.2.2.2.2.1.2.2.2).1⟩
  rw [eX0_patch]
  have e : x = set28 (x.1 28) x := by
    unfold set28
    refine Prod.ext ?_ rfl
    funext a
    show x.1 a = if a = 28 then x.1 28 else x.1 a
    split
    · rename_i e; rw [e]
    · rfl
  have := k_patL (d := d) h hgo _ (w_fxs (p_w P) w_z (g_it G)) [] (x.1 28) none none none none rfl (List.append_nil _).symm
  rw [← e] at this
  exact this
end
