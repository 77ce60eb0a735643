/-! CodeWriter's writer against S: the relation -/
theorem sp_bi {α : Type} {c : Bool} {p q : α} : (if sp_b c = 0 then p else q) = if c = false then p else q := by cases c <;> rfl
theorem lg_if {α : Type} {a b : Int64} {p q : α} : (if lg_cmp a b = 0 then p else q) = if a = b then p else q := by
  by_cases h : a = b
  · rw [if_pos h, if_pos (by rw [lg_cmp_eq0]; exact h)]
  · rw [if_neg h, if_neg (by rw [lg_cmp_eq0]; exact h)]
/-- what does not change: members, of four bytes, where bytes, pool, ranges, lines of the member begin, lines told before -/
abbrev yP : Type := Nat × Bool × Nat × Nat × Nat × Nat × Nat
def p_M (P : yP) : Nat := P.1
def p_w (P : yP) : Bool := P.2.1
def p_cf (P : yP) : Nat := P.2.2.1
def p_pf (P : yP) : Nat := P.2.2.2.1
def p_rf (P : yP) : Nat := P.2.2.2.2.1
def p_lf (P : yP) : Nat := P.2.2.2.2.2.1
def p_tb (P : yP) : Nat := P.2.2.2.2.2.2
/-- nothing else was changed -/
def yfr (Z : Nat → Nat → Bool) (pf : Nat) (x y : mj_X) : Prop := (∀ k j, Z k j = false → y.1 k j = x.1 k j) ∧ ∀ k j, (k = 20 → j < pf) → y.2 k j = x.2 k j
theorem yfr.rf (Z : Nat → Nat → Bool) (pf : Nat) (x : mj_X) : yfr Z pf x x := ⟨fun _ _ _ => rfl, fun _ _ _ => rfl⟩
theorem yfr.tr {Z : Nat → Nat → Bool} {pf : Nat} {x y z : mj_X} (a : yfr Z pf x y) (b : yfr Z pf y z) : yfr Z pf x z := ⟨fun k j h => (b.1 k j h).trans (a.1 k j h), fun k j h => (b.2 k j h).trans (a.2 k j h)⟩
theorem yfr.w {Z : Nat → Nat → Bool} {pf : Nat} {x y : mj_X} (a : yfr Z pf x y) {k j : Nat} (v : Int32) (h : Z k j = true) : yfr Z pf x (mj_wI y k j v) := by
  refine ⟨fun p q hz => ?_, fun p q hz => a.2 p q hz⟩
  rw [mj_wI_1]
  by_cases e1 : p = k
  · by_cases e2 : q = j
    · subst e1; subst e2; rw [h] at hz; simp at hz
    · rw [if_pos e1, if_neg e2]; exact a.1 p q hz
  · rw [if_neg e1]; exact a.1 p q hz
theorem yfr.wl {Z : Nat → Nat → Bool} {pf : Nat} {x y : mj_X} (a : yfr Z pf x y) {j : Nat} (v : Int64) (h : pf ≤ j) : yfr Z pf x (mj_wL y 20 j v) := by
  refine ⟨fun p q hz => a.1 p q hz, fun p q hz => ?_⟩
  rw [mj_wL_2]
  by_cases e : p = 20
  · have := hz e
    rw [if_pos e, if_neg (by omega)]; exact a.2 p q hz
  · rw [if_neg e]; exact a.2 p q hz
theorem yfr.mono {Z Z' : Nat → Nat → Bool} {pf : Nat} {x y : mj_X} (f : yfr Z pf x y) (h : ∀ k j, Z' k j = false → Z k j = false) : yfr Z' pf x y := ⟨fun k j hz => f.1 k j (h k j hz), f.2⟩
/-- what a value may change -/
def yw (pf lf : Nat) (k j : Nat) : Bool := match k with
  | 0 => [28, 29, 30, 37, 38, 42, 43, 44, 46, 47, 48].elem j
  | 18 => Nat.ble pf j
  | 19 => Nat.ble pf j
  | 24 => Nat.ble (2 * lf) j
  | 28 => true
  | 36 => true
  | 37 => true
  | 40 => true
  | 41 => true
  | 42 => true
  | _ => false
/-- nothing is written -/
def yq (x : mj_X) : Prop := x.1 0 30 = 0 ∨ ¬ x.1 0 29 = 0
/-! bytes -/
def eE (M cf : Nat) (x : mj_X) : Prop := x.1 0 7 = nI M ∧ M ≤ 40 ∧ x.1 12 M = nI cf ∧ cf ≤ 90000
def eB (w : Bool) (cf : Nat) (B : List Int32) (x : mj_X) : Prop := x.1 0 29 = 0 ∧ x.1 0 30 = 1 ∧ x.1 0 31 = sp_b w ∧ x.1 0 28 = nI B.length ∧ B.length ≤ 65535 ∧ cf + B.length ≤ 90000 ∧ z_ar (x.1 28) 0 B
def yb (k j : Nat) : Bool := match k with
  | 0 => [28, 29].elem j
  | 28 => true
  | _ => false
def EM (w : Bool) (cf : Nat) (x : mj_X) (B bs : List Int32) (x' : mj_X) : Prop := yfr yb 0 x x' ∧ x'.2 = x.2 ∧ (eB w cf (B ++ bs) x' ∨ (x'.1 0 29 = 1 ∧ (65535 < (B ++ bs).length ∨ 90000 < cf + (B ++ bs).length) ∧ ∃ n, n ≤ 65535 ∧ x'.1 0 28 = nI n))
def EK (w : Bool) (M cf : Nat) (bs : List Int32) (k : mj_X → mj_R) : Prop := (∀ y, yq y → k y = some (none, y)) ∧ ∀ y B, eE M cf y → eB w cf B y → ∃ y', k y = some (none, y') ∧ EM w cf y B bs y'
theorem eE.yb {M cf : Nat} {x y : mj_X} (h : eE M cf x) (f : yfr yb 0 x y) : eE M cf y := by
  obtain ⟨h1, h2, h3, h4⟩ := h
  exact ⟨by rw [f.1 0 7 rfl]; exact h1, h2, by rw [f.1 12 M rfl]; exact h3, h4⟩
theorem EK.id_ (w : Bool) (M cf : Nat) : EK w M cf [] (fun y => some (none, y)) := ⟨fun _ _ => rfl, fun y B _ h => ⟨y, rfl, yfr.rf _ _ _, rfl, Or.inl (by rw [List.append_nil]; exact h)⟩⟩
theorem EK.seq {w : Bool} {M cf : Nat} {bs cs : List Int32} {r k : mj_X → mj_R} (a : EK w M cf bs r) (b : EK w M cf cs k) : EK w M cf (bs ++ cs) (fun y => mj_rV (r y) k) := by
  refine ⟨fun y h => ?_, fun y B he h => ?_⟩
  · show mj_rV (r y) k = _
    rw [a.1 y h, mj_rV_k]; exact b.1 y h
  · obtain ⟨y1, e1, f1, g1, r1⟩ := a.2 y B he h
    rcases r1 with r1 | ⟨r1, r2, r3⟩
    · obtain ⟨y2, e2, f2, g2, r2⟩ := b.2 y1 (B ++ bs) (he.yb f1) r1
      refine ⟨y2, ?_, f1.tr f2, g2.trans g1, by rw [List.append_assoc] at r2; exact r2⟩
      show mj_rV (r y) k = _
      rw [e1, mj_rV_k, e2]
    · refine ⟨y1, ?_, f1, g1, Or.inr ⟨r1, ?_, r3⟩⟩
      · show mj_rV (r y) k = _
        rw [e1, mj_rV_k]; exact b.1 y1 (Or.inr (by rw [r1]; decide))
      · rw [← List.append_assoc, List.length_append (as := B ++ bs)]; omega
theorem EK.emit {w : Bool} {M cf d : Nat} (hd : 1 ≤ d) (v : Int32) : EK w M cf [o8 v] (fun y => kX0 d 38 [.ref 0, .int v] y) := by
  obtain ⟨d, rfl⟩ : ∃ c, d = c + 1 := ⟨d - 1, by omega⟩
  refine ⟨fun y h => ?_, fun y B he h => ?_⟩
  · show kX0 (d + 1) 38 [.ref 0, .int v] y = _
    rw [eX0_emit]
    rcases h with h | h
    · rw [if_pos h]
    · rw [if_neg h]; split <;> rfl
  · obtain ⟨h1, h2, h3, h4, h5, h6, h7⟩ := h
    obtain ⟨e1, e2, e3, e4⟩ := he
    show ∃ y', kX0 (d + 1) 38 [.ref 0, .int v] y = some (none, y') ∧ _
    rw [eX0_emit, if_neg (by rw [h2]; decide), if_pos h1, h4, e1, nI_clamp (by omega), e3, nI_add]
    have ln : (B ++ [o8 v]).length = B.length + 1 := by rw [List.length_append]; rfl
    by_cases q : B.length = 65535
    · rw [if_pos (show (65535 : Int32) ≤ nI B.length by rw [q]; decide)]
      exact ⟨_, rfl, (yfr.rf _ _ _).w _ rfl, rfl, Or.inr ⟨rfl, Or.inl (by omega), ⟨B.length, h5, h4⟩⟩⟩
    · rw [if_neg (show ¬ (65535 : Int32) ≤ nI B.length from nI_ge (b := 65535) (by omega) (by omega)), mj_g_k (mj_in_nI (by omega) (by omega))]
      by_cases q2 : cf + B.length = 90000
      · rw [if_neg (show ¬ nI (cf + B.length) < 90000 by rw [q2]; decide)]
        exact ⟨_, rfl, (yfr.rf _ _ _).w _ rfl, rfl, Or.inr ⟨rfl, Or.inr (by omega), ⟨B.length, h5, h4⟩⟩⟩
      · rw [if_pos (show nI (cf + B.length) < 90000 from nI_lt (b := 90000) (by omega) (by omega)), mj_g_k (mj_in_nI (by omega) (by omega)), nI_clamp (by omega), nI_1, o8_o8]
        refine ⟨_, rfl, ((yfr.rf _ _ _).w _ rfl).w _ rfl, rfl, Or.inl ⟨h1, h2, h3, ?_, by omega, by omega, ?_⟩⟩
        · show nI _ = nI _; rw [ln]
        · have := h7.snoc (o8 v)
          rw [Nat.zero_add] at this; exact this
theorem EK.two {w : Bool} {M cf d : Nat} (hd : 2 ≤ d) (v : Int32) : EK w M cf (o16 v) (fun y => kX0 d 42 [.ref 0, .int v] y) := by
  obtain ⟨d, rfl⟩ : ∃ c, d = c + 1 := ⟨d - 1, by omega⟩
  have h := (EK.emit (w := w) (M := M) (cf := cf) (d := d) (by omega) (v >>> 8)).seq ((EK.emit (w := w) (M := M) (cf := cf) (d := d) (by omega) v).seq (EK.id_ w M cf))
  have e : (fun y => kX0 (d + 1) 42 [.ref 0, .int v] y) = (fun y => mj_rV (kX0 d 38 [.ref 0, .int (v >>> 8)] y) fun y => mj_rV (kX0 d 38 [.ref 0, .int v] y) fun y => some (none, y)) := by
    funext y; rw [eX0_two]; rfl
  rw [e]; exact h
theorem EK.four {w : Bool} {M cf d : Nat} (hd : 3 ≤ d) (v : Int32) : EK w M cf (o32 v) (fun y => kX0 d 69 [.ref 0, .int v] y) := by
  obtain ⟨d, rfl⟩ : ∃ c, d = c + 1 := ⟨d - 1, by omega⟩
  have h := (EK.two (w := w) (M := M) (cf := cf) (d := d) (by omega) (v >>> 16)).seq ((EK.two (w := w) (M := M) (cf := cf) (d := d) (by omega) v).seq (EK.id_ w M cf))
  have e : (fun y => kX0 (d + 1) 69 [.ref 0, .int v] y) = (fun y => mj_rV (kX0 d 42 [.ref 0, .int (v >>> 16)] y) fun y => mj_rV (kX0 d 42 [.ref 0, .int v] y) fun y => some (none, y)) := by
    funext y; rw [eX0_four]; rfl
  have e2 : o32 v = o16 (v >>> 16) ++ (o16 v ++ []) := by
    unfold o32 o16
    rw [show v >>> (24 : Int32) = v >>> (16 : Int32) >>> (8 : Int32) from ?_]; rfl
    apply Int32.toBitVec_inj.mp
    rw [Int32.toBitVec_shiftRight, Int32.toBitVec_shiftRight, Int32.toBitVec_shiftRight]
    show v.toBitVec.sshiftRight 24 = (v.toBitVec.sshiftRight 16).sshiftRight 8
    rw [← BitVec.sshiftRight_add]
  rw [e, e2]; exact h
theorem e38 {d : Nat} (hd : 1 ≤ d) (v : Int32) (x : mj_X) (h : yq x) : kX0 d 38 [.ref 0, .int v] x = some (none, x) := (EK.emit (w := true) (M := 0) (cf := 0) hd v).1 x h
theorem e42 {d : Nat} (hd : 2 ≤ d) (v : Int32) (x : mj_X) (h : yq x) : kX0 d 42 [.ref 0, .int v] x = some (none, x) := (EK.two (w := true) (M := 0) (cf := 0) hd v).1 x h
theorem e69 {d : Nat} (hd : 3 ≤ d) (v : Int32) (x : mj_X) (h : yq x) : kX0 d 69 [.ref 0, .int v] x = some (none, x) := (EK.four (w := true) (M := 0) (cf := 0) hd v).1 x h
/-! labels -/
def y_ch (a : Nat → Int32) : Int32 → List Nat → Prop
  | v, [] => v = -1
  | v, f :: r => v = nI f ∧ y_ch a (a f) r
theorem y_ch.un {a : Nat → Int32} {i : Nat} {u : Int32} : ∀ {fr : List Nat} {v : Int32}, y_ch a v fr → i ∉ fr → y_ch (upd a i u) v fr := by
  intro fr
  induction fr with
  | nil => intro v h _; exact h
  | cons f r ih =>
    intro v h hi
    refine ⟨h.1, ?_⟩
    rw [pk_un (fun e => hi (by rw [e]; simp))]
    exact ih h.2 (fun q => hi (List.mem_cons_of_mem _ q))
/-- X: labels that are held and that S does not have (true: not put yet) -/
def yL (X : List (Nat × Bool)) (nl : Nat) (lm : Nat → Nat) (lv : Nat → Bool) (x : mj_X) (u : Nat) : Prop := ∃ (fr : List Nat) (L : Nat), x.1 0 37 = nI L ∧ L ≤ 49990 ∧ y_ch (x.1 36) (x.1 0 38) fr ∧ (fr ++ X.map Prod.fst).Nodup ∧ (∀ f, f ∈ fr ++ X.map Prod.fst → f < L) ∧ L ≤ u + fr.length
  ∧ (∀ l, l < nl → lv l = true → lm l < L ∧ lm l ∉ fr ++ X.map Prod.fst) ∧ (∀ l l', l < nl → l' < nl → lv l = true → lv l' = true → lm l = lm l' → l = l') ∧ (∀ p, p ∈ X → x.1 37 p.1 = 0)
def yV (w : Bool) (X : List (Nat × Bool)) (lm : Nat → Nat) (lv : Nat → Bool) (its : List (wI × wF)) (x : mj_X) (g : wG) : Prop := (∀ l, l < g_nl g → lv l = true → x.1 36 (lm l) = z_lo w its (g_lat g l) ∧ x.1 37 (lm l) = sp_b (g_goes g l))
  ∧ (∀ l, l < g_nl g → g_goes g l = true → lv l = true) ∧ (∀ l i, l < g_nl g → g_lat g l = some i → i ≤ its.length) ∧ (∀ p, p ∈ X → p.2 = true → x.1 36 p.1 = -1)
def yF (nl : Nat) (lm : Nat → Nat) (x : mj_X) (F : List (Nat × Nat × Nat × Bool)) : Prop := x.1 0 42 = nI F.length ∧ F.length ≤ 25000 ∧ (∀ q, q ∈ F → q.2.2.1 < nl) ∧ z_l1 (fun k q => x.1 40 k = (bif q.2.2.2 then -1 - nI q.1 else nI q.1) ∧ x.1 41 k = nI q.2.1 ∧ x.1 42 k = nI (lm q.2.2.1)) F
def y_po (pf : Nat) (x : mj_X) : List (Nat × Int64) → Prop
  | [] => True
  | e :: r => (x.1 18 (pf + r.length) = nI (w_pi r) ∧ x.1 19 (pf + r.length) = nI e.1 ∧ x.2 20 (pf + r.length) = e.2 ∧ e.1 < 100) ∧ y_po pf x r
def yPo (pf : Nat) (x : mj_X) (po : List (Nat × Int64)) : Prop := x.1 0 43 = nI (pf + po.length) ∧ x.1 0 44 = nI (w_pi po) ∧ po.length ≤ 100 ∧ y_po pf x po
def yN (w : Bool) (lf tb : Nat) (its : List (wI × wF)) (x : mj_X) (ln : List (Nat × Int32)) (pn : Int32) : Prop := x.1 0 46 = nI (lf + ln.length) ∧ x.1 0 47 = pn ∧ lf + ln.length ≤ 20000 ∧ (∀ e, e ∈ ln → e.1 ≤ its.length)
  ∧ z_l1 (fun k e => x.1 24 (2 * (lf + k)) = nI (w_at w its e.1) ∧ x.1 24 (2 * (lf + k) + 1) = e.2) ln ∧ ∃ t, x.1 0 48 = nI t ∧ t ≤ tb + its.length
/-- while all is exact -/
def y1 (P : yP) (X : List (Nat × Bool)) (lm : Nat → Nat) (lv : Nat → Bool) (x : mj_X) (g : wG) : Prop := g_ov g = false ∧ g_us g ≤ 45000 ∧ x.1 0 30 = sp_b (g_al g) ∧ x.1 0 31 = sp_b (p_w P)
  ∧ (x.1 0 28 = nI (w_by_ (p_w P) w_z (g_it g)).length ∧ (w_by_ (p_w P) w_z (g_it g)).length ≤ 65535 ∧ p_cf P + (w_by_ (p_w P) w_z (g_it g)).length ≤ 90000 ∧ z_ar (x.1 28) 0 (w_by_ (p_w P) w_z (g_it g)))
  ∧ yF (g_nl g) lm x (w_fxs (p_w P) w_z (g_it g)) ∧ yV (p_w P) X lm lv (g_it g) x g ∧ yPo (p_pf P) x (g_po g) ∧ yN (p_w P) (p_lf P) (p_tb P) (g_it g) x (g_ln g) (g_pn g)
/-- more than a member can have -/
def c_over (P : yP) (g : wG) : Prop := w_over (p_w P) (p_rf P) (p_lf P) g ∨ 90000 < p_cf P + (w_by_ (p_w P) w_z (g_it g)).length
theorem c_over.mono {P : yP} {g h : wG} (a : c_over P g) (m : wM g h) : c_over P h := by
  rcases a with a | a
  · exact Or.inl (a.mono m)
  · right
    obtain ⟨e, m2⟩ := m.2.1
    rw [m2]
    exact Nat.lt_of_lt_of_le a (Nat.add_le_add_left (w_by_mono _ _ _ _) _)
def yM (P : yP) (x : mj_X) : Prop := x.1 0 29 = 1 ∧ (∃ b, x.1 0 30 = sp_b b) ∧ x.1 0 31 = sp_b (p_w P) ∧ (∃ n, p_pf P ≤ n ∧ n ≤ 8000 ∧ x.1 0 43 = nI n) ∧ (∃ n, n ≤ 65535 ∧ x.1 0 28 = nI n) ∧ ∃ t, x.1 0 48 = nI t ∧ t ≤ p_tb P + 65536
/-- what stays while a value is written -/
def yE (nt : sp_NT) (N : Nat) (P : yP) (pl : Nat → Option Nat) (x : mj_X) : Prop := cw_T x nt N ∧ eE (p_M P) (p_cf P) x ∧ x.1 17 (p_M P) = nI (p_pf P) ∧ (∃ r, x.1 21 (p_M P) = nI r ∧ r ≤ p_rf P) ∧ x.1 23 (p_M P) = nI (p_lf P) ∧ p_pf P ≤ 7000 ∧ p_pf P ≤ 8000 ∧ p_lf P ≤ 20000 ∧ p_tb P ≤ 1000000000
  ∧ ∀ v p, v < 4000 → pl v = some p → x.1 35 v = nI p ∧ p < 256
theorem yE.fr {nt : sp_NT} {N : Nat} {P : yP} {pl : Nat → Option Nat} {x y : mj_X} (h : yE nt N P pl x) (f : yfr (yw (p_pf P) (p_lf P)) (p_pf P) x y) : yE nt N P pl y := by
  obtain ⟨⟨t1, t2, t3, t4, t5, t6, t7, t8⟩, ⟨a1, a2, a3, a4⟩, h3, h4, h5, h6, h7, h8, h9, h10⟩ := h
  have e := f.1
  refine ⟨⟨?_, t2, ?_, ?_, ?_, ?_, ?_, ?_⟩, ⟨?_, a2, ?_, a4⟩, ?_, ?_, ?_, h6, h7, h8, h9, fun v p hv hp => ?_⟩
  · rw [e 0 6 rfl]; exact t1
  · funext j; rw [e 1 j rfl, t3]
  · funext j; rw [e 2 j rfl, t4]
  · funext j; rw [e 3 j rfl, t5]
  · funext j; rw [e 4 j rfl, t6]
  · funext j; rw [e 5 j rfl, t7]
  · funext j; rw [e 6 j rfl, t8]
  · rw [e 0 7 rfl]; exact a1
  · rw [e 12 _ rfl]; exact a3
  · rw [e 17 _ rfl]; exact h3
  · rw [e 21 _ rfl]; exact h4
  · rw [e 23 _ rfl]; exact h5
  · rw [e 35 v rfl]; exact h10 v p hv hp
section
variable (nt : sp_NT) (N : Nat) (P : yP) (X : List (Nat × Bool)) (b : Nat)
def Y1 (lm : Nat → Nat) (lv : Nat → Bool) (x : mj_X) (g : wG) : Prop := yE nt N P (g_pl g) x ∧ 45000 + X.length ≤ b ∧ b ≤ 49900
  ∧ ((x.1 0 29 = 0 ∧ yL X (g_nl g) lm lv x (g_us g + X.length) ∧ y1 P X lm lv x g) ∨ (yM P x ∧ yL X (g_nl g) lm lv x b ∧ c_over P g))
end
/-- lines that were told -/
def yT (x : mj_X) (g : wG) (x' : mj_X) (G : wG) : Prop := (g_it G = g_it g ∧ x'.1 0 48 = x.1 0 48 ∧ x'.1 0 47 = x.1 0 47) ∨ ((g_it g).length < (g_it G).length ∧ x.1 0 48 ≤ x'.1 0 48 ∧ (¬ x.1 0 47 = -1 → x.1 0 48 < x'.1 0 48))
theorem yT.tr {x y z : mj_X} {g h k : wG} (a : yT x g y h) (b : yT y h z k) : yT x g z k := by
  rcases a with ⟨a1, a2, a3⟩ | ⟨a1, a2, a3⟩
  · rcases b with ⟨b1, b2, b3⟩ | ⟨b1, b2, b3⟩
    · exact Or.inl ⟨b1.trans a1, b2.trans a2, b3.trans a3⟩
    · refine Or.inr ⟨by rw [← a1]; exact b1, by rw [← a2]; exact b2, fun q => ?_⟩
      rw [← a2]; exact b3 (by rw [a3]; exact q)
  · rcases b with ⟨b1, b2, b3⟩ | ⟨b1, b2, b3⟩
    · exact Or.inr ⟨by rw [b1]; exact a1, by rw [b2]; exact a2, fun q => by rw [b2]; exact a3 q⟩
    · exact Or.inr ⟨Nat.lt_trans a1 b1, Int32.le_trans a2 b2, fun q => Int32.lt_of_lt_of_le (a3 q) b2⟩
theorem yT.rf {x y : mj_X} {g h : wG} (h1 : g_it h = g_it g) (h2 : y.1 0 48 = x.1 0 48) (h3 : y.1 0 47 = x.1 0 47) : yT x g y h := Or.inl ⟨h1, h2, h3⟩
section
variable (nt : sp_NT) (N : Nat) (P : yP) (X : List (Nat × Bool)) (b : Nat)
/-- a method's result: the first n labels stay -/
def KJ (n : Nat) (g : wG) (r : mj_R) (x : mj_X) (lm : Nat → Nat) (lv : Nat → Bool) (G : wG) : Prop := ∃ lm' lv' x', r = some (none, x') ∧ Y1 nt N P X b lm' lv' x' G ∧ (∀ l, l < n → lm' l = lm l ∧ lv' l = lv l) ∧ yfr (yw (p_pf P) (p_lf P)) (p_pf P) x x' ∧ (x'.1 0 29 = 0 → x.1 0 29 = 0 ∧ yT x g x' G)
end
section
variable {nt : sp_NT} {N : Nat} {P : yP} {X : List (Nat × Bool)} {b : Nat} {lm lm' : Nat → Nat} {lv lv' : Nat → Bool} {x y : mj_X} {g h G H : wG}
theorem KJ.bi {X' : List (Nat × Bool)} {b' n n1 : Nat} {r : mj_R} {k : mj_X → mj_R} (hn : n ≤ n1) (a : KJ nt N P X b n1 g r x lm lv G) (hk : ∀ lm' lv' x', Y1 nt N P X b lm' lv' x' G → (∀ l, l < n1 → lm' l = lm l ∧ lv' l = lv l) → yfr (yw (p_pf P) (p_lf P)) (p_pf P) x x' → (x'.1 0 29 = 0 → x.1 0 29 = 0) → KJ nt N P X' b' n G (k x') x' lm' lv' H) : KJ nt N P X' b' n g (mj_rV r k) x lm lv H := by
  obtain ⟨lm1, lv1, x1, e1, q1, l1, f1, t1⟩ := a
  obtain ⟨lm2, lv2, x2, e2, q2, l2, f2, t2⟩ := hk lm1 lv1 x1 q1 l1 f1 (fun q => (t1 q).1)
  refine ⟨lm2, lv2, x2, by rw [e1, mj_rV_k, e2], q2, fun l hl => ?_, f1.tr f2, fun q => ?_⟩
  · have a := l1 l (by omega)
    have b := l2 l hl
    exact ⟨b.1.trans a.1, b.2.trans a.2⟩
  · obtain ⟨u1, u2⟩ := t2 q
    obtain ⟨v1, v2⟩ := t1 u1
    exact ⟨v1, v2.tr u2⟩
theorem KJ.id_ {n : Nat} (q : Y1 nt N P X b lm lv x g) : KJ nt N P X b n g (some (none, x)) x lm lv g := ⟨lm, lv, x, rfl, q, fun _ _ => ⟨rfl, rfl⟩, yfr.rf _ _ _, fun z => ⟨z, yT.rf rfl rfl rfl⟩⟩
theorem KJ.end_ {n : Nat} {r : mj_R} (a : KJ nt N P X b n g r x lm lv G) : KJ nt N P X b n g (mj_rV r fun x1 => some (none, x1)) x lm lv G := by
  obtain ⟨lm1, lv1, x1, e1, q⟩ := a
  exact ⟨lm1, lv1, x1, by rw [e1, mj_rV_k], q⟩
theorem KJ.le {n n1 : Nat} {r : mj_R} (a : KJ nt N P X b n1 g r x lm lv G) (hn : n ≤ n1) : KJ nt N P X b n g r x lm lv G := by
  obtain ⟨lm1, lv1, x1, e1, q1, l1, f1⟩ := a
  exact ⟨lm1, lv1, x1, e1, q1, fun l hl => l1 l (by omega), f1⟩
theorem yL.mono {nl u u' : Nat} (a : yL X nl lm lv x u) (hu : u ≤ u') : yL X nl lm lv x u' := by
  obtain ⟨fr, L, l1, l2, l3, l4, l5, l6, l7⟩ := a
  exact ⟨fr, L, l1, l2, l3, l4, l5, by omega, l7⟩
theorem Y1.mono {b' : Nat} (a : Y1 nt N P X b lm lv x g) (h1 : b ≤ b') (h2 : b' ≤ 49900) : Y1 nt N P X b' lm lv x g := by
  obtain ⟨e, a1, a2, a3⟩ := a
  refine ⟨e, by omega, h2, ?_⟩
  rcases a3 with a3 | ⟨a3, a4, a5⟩
  · exact Or.inl a3
  · exact Or.inr ⟨a3, a4.mono h1, a5⟩
theorem Y1.T (a : Y1 nt N P X b lm lv x g) : x.1 1 = nt 0 ∧ x.1 2 = nt 1 ∧ x.1 3 = nt 2 ∧ x.1 4 = nt 3 ∧ N ≤ 4000 := ⟨a.1.1.2.2.1, a.1.1.2.2.2.1, a.1.1.2.2.2.2.1, a.1.1.2.2.2.2.2.1, a.1.1.2.1⟩
theorem Y1.nd (a : Y1 nt N P X b lm lv x g) {n : Int32} (hn : sp_nd N n = true) (r : mj_R) : mj_g n 4000 r = r := mj_g_k (sp_nd_in a.T.2.2.2.2 hn (Nat.le_refl _)) r
theorem Y1.ex (a : Y1 nt N P X b lm lv x g) (h0 : x.1 0 29 = 0) : yL X (g_nl g) lm lv x (g_us g + X.length) ∧ y1 P X lm lv x g := by
  rcases a.2.2.2 with q | q
  · exact q.2
  · exact absurd h0 (by rw [q.1.1]; decide)
theorem Y1.mc (a : Y1 nt N P X b lm lv x g) (h0 : ¬ x.1 0 29 = 0) : yM P x ∧ yL X (g_nl g) lm lv x b ∧ c_over P g := by
  rcases a.2.2.2 with q | q
  · exact absurd q.1 h0
  · exact q
/-- S is quiet just when the heap is, while all is exact -/
theorem Y1.live (a : Y1 nt N P X b lm lv x g) (h : ¬ yq x) : x.1 0 29 = 0 ∧ x.1 0 30 = 1 ∧ w_q g = false := by
  have h1 : ¬ x.1 0 30 = 0 := fun q => h (Or.inl q)
  have h2 : x.1 0 29 = 0 := Decidable.byContradiction fun q => h (Or.inr q)
  obtain ⟨-, e1, -, e2, -⟩ := a.ex h2
  cases ha : g_al g
  · rw [ha] at e2; exact absurd e2 h1
  · rw [ha] at e2; exact ⟨h2, e2, (w_q_iff g).mpr ⟨ha, e1⟩⟩
theorem Y1.dead (a : Y1 nt N P X b lm lv x g) (h : yq x) (h0 : x.1 0 29 = 0) : x.1 0 30 = 0 ∧ g_al g = false ∧ w_q g = true := by
  obtain ⟨-, e1, -, e2, -⟩ := a.ex h0
  have h3 : x.1 0 30 = 0 := h.resolve_right (fun q => q h0)
  cases ha : g_al g
  · exact ⟨h3, rfl, by unfold w_q; rw [ha]; rfl⟩
  · rw [ha, h3] at e2; exact absurd e2 (by decide)
/-- S may go on when it was much -/
theorem yL.nl {nl nl' u : Nat} (a : yL X nl lm lv x u) : yL X nl' (fun l => if l < nl then lm l else 0) (fun l => if l < nl then lv l else false) x u := by
  obtain ⟨fr, L, l1, l2, l3, l4, l5, l6, l7, l8, l9⟩ := a
  refine ⟨fr, L, l1, l2, l3, l4, l5, l6, fun l hl hv => ?_, fun l l' hl hl' hv hv' he => ?_, l9⟩
  · have hv : (if l < nl then lv l else false) = true := hv
    show (if l < nl then lm l else 0) < L ∧ (if l < nl then lm l else 0) ∉ _
    by_cases q : l < nl
    · rw [if_pos q] at hv ⊢; exact l7 l q hv
    · rw [if_neg q] at hv; cases hv
  · have hv : (if l < nl then lv l else false) = true := hv
    have hv' : (if l' < nl then lv l' else false) = true := hv'
    have he : (if l < nl then lm l else 0) = (if l' < nl then lm l' else 0) := he
    by_cases q : l < nl
    · by_cases q' : l' < nl
      · rw [if_pos q] at hv he; rw [if_pos q'] at hv' he; exact l8 l l' q q' hv hv' he
      · rw [if_neg q'] at hv'; cases hv'
    · rw [if_neg q] at hv; cases hv
theorem Y1.skip (a : Y1 nt N P X b lm lv x g) (h0 : ¬ x.1 0 29 = 0) (hm : wM g G) (hp : g_pl G = g_pl g) : Y1 nt N P X b (fun l => if l < g_nl g then lm l else 0) (fun l => if l < g_nl g then lv l else false) x G := by
  obtain ⟨m1, m2, m3⟩ := a.mc h0
  exact ⟨by rw [hp]; exact a.1, a.2.1, a.2.2.1, Or.inr ⟨m1, m2.nl, m3.mono hm⟩⟩
theorem KJ.skip {n : Nat} (a : Y1 nt N P X b lm lv x g) (h0 : ¬ x.1 0 29 = 0) (hm : wM g G) (hp : g_pl G = g_pl g) (hn : n ≤ g_nl g) : KJ nt N P X b n g (some (none, x)) x lm lv G :=
  ⟨_, _, x, rfl, a.skip h0 hm hp, fun l hl => ⟨if_pos (by omega), if_pos (by omega)⟩, yfr.rf _ _ _, fun z => absurd z h0⟩
end
