/-! CodeWriterModel: isLeft -/
def loS (a : Nat → Int32) : Nat → Int32
  | 0 => 0
  | n + 1 => loS a n + a n
def lz (wa k j : Nat) : Bool := Nat.beq k 29 && Nat.ble wa j
/-- what is around: wa of them, lo are loops -/
def lA (nt : sp_NT) (N : Nat) (rs : Int32) (wa lo : Nat) (x : mj_X) : Prop := md_T x nt N ∧ x.1 0 30 = rs ∧ x.1 0 29 = nI wa ∧ loS (x.1 29) wa = nI lo ∧ lo ≤ wa
theorem loS_cg {a b : Nat → Int32} : ∀ n, (∀ j, j < n → a j = b j) → loS a n = loS b n := by
  intro n
  induction n with
  | zero => intro _; rfl
  | succ n ih => intro h; unfold loS; rw [ih (fun j hj => h j (by omega)), h n (by omega)]
theorem lz_f {wa k j : Nat} (h : k ≠ 29 ∨ j < wa) : lz wa k j = false := by
  unfold lz
  rcases h with h | h
  · rw [show Nat.beq k 29 = false from by cases q : Nat.beq k 29; rfl; exact absurd (Nat.eq_of_beq_eq_true q) h]; rfl
  · rw [show Nat.ble wa j = false from by cases q : Nat.ble wa j; rfl; exact absurd (Nat.le_of_ble_eq_true q) (by omega)]; exact Bool.and_false _
section
variable {nt : sp_NT} {N M : Nat} {res par : Nat → Int32} {rs : Int32} {wa lo : Nat} {x y : mj_X}
theorem lA.fr (h : lA nt N rs wa lo x) (f : zfr (lz wa) x y) : lA nt N rs wa lo y := by
  obtain ⟨⟨t1, t2, t3, t4, t5, t6, t7, t8⟩, h1, h2, h3, h4⟩ := h
  have e : ∀ k j, k ≠ 29 → y.1 k j = x.1 k j := fun k j q => f.2 k j (lz_f (Or.inl q))
  refine ⟨⟨?_, t2, ?_, ?_, ?_, ?_, ?_, ?_⟩, ?_, ?_, ?_, h4⟩
  · rw [e 0 0 (by decide)]; exact t1
  · funext j; rw [e 2 j (by decide), t3]
  · funext j; rw [e 3 j (by decide), t4]
  · funext j; rw [e 4 j (by decide), t5]
  · funext j; rw [e 5 j (by decide), t6]
  · funext j; rw [e 6 j (by decide), t7]
  · funext j; rw [e 7 j (by decide), t8]
  · rw [e 0 30 (by decide)]; exact h1
  · rw [e 0 29 (by decide)]; exact h2
  · rw [loS_cg (b := x.1 29) wa (fun j hj => f.2 29 j (lz_f (Or.inr hj)))]; exact h3
/-- a result, and nothing is changed but what lies above -/
def lR (r : mj_R) (wa : Nat) (x : mj_X) (b : Bool) : Prop := ∃ y, r = some (some (.int (sp_b b)), y) ∧ zfr (lz wa) x y
theorem lR.and {r : mj_R} {k : mj_X → mj_R} {b1 b2 : Bool} (h : lR r wa x b1) (hk : ∀ y, zfr (lz wa) x y → b1 = true → lR (k y) wa y b2) : lR (mj_rI r fun v x1 => if v = 0 then some (some (.int (0 : Int32)), x1) else k x1) wa x (b1 && b2) := by
  obtain ⟨y, h1, h2⟩ := h
  rw [h1, mj_rI_k, sp_ib]
  cases b1
  · exact ⟨y, rfl, h2⟩
  · rw [if_neg (by decide)]
    obtain ⟨z, k1, k2⟩ := hk y h2 rfl
    exact ⟨z, k1, h2.tr k2⟩
theorem lR.ret {r : mj_R} {b : Bool} (h : lR r wa x b) : lR (mj_rI r fun v x1 => if v = 0 then some (some (.int (0 : Int32)), x1) else some (some (.int (1 : Int32)), x1)) wa x b := by
  obtain ⟨y, h1, h2⟩ := h
  rw [h1, mj_rI_k, sp_ib]
  cases b
  · exact ⟨y, rfl, h2⟩
  · exact ⟨y, rfl, h2⟩
theorem lR.gb {r : mj_R} {b : Bool} (h : lR r wa x b) : lR (mj_rI r fun v x1 => mj_gb v (some (some (.int v), x1))) wa x b := by
  obtain ⟨y, h1, h2⟩ := h
  rw [h1, mj_rI_k, mj_gb_b]
  exact ⟨y, rfl, h2⟩
theorem lR.k (b : Bool) (v : Int32) (h : v = sp_b b) : lR (some (some (.int v), x)) wa x b := ⟨x, by rw [h], zfr.rf _ _⟩
/-- within one more -/
theorem l_isIn {d : Nat} {n : Int32} {f k : Nat} (hk : k ≤ 1) (h : lA nt N rs wa lo x) (hw : wa ≤ 45) (ih : ∀ y, lA nt N rs (wa + 1) (lo + k) y → lR (kX1 d 31 [.ref 0, .int n] y) (wa + 1) y (sp_lf nt rs f n (lo + k) (wa + 1))) : lR (kX1 (d + 1) 32 [.ref 0, .int n, .int (nI k)] x) wa x (sp_lf nt rs f n (lo + k) (wa + 1)) := by
  have h' := h
  obtain ⟨⟨t1, t2, t3, t4, t5, t6, t7, t8⟩, h1, h2, h3, h4⟩ := h'
  rw [eX1_isIn, h2, mj_g_k (mj_in_nI (by omega) (by decide)), nI_clamp (by omega), show nI wa + 1 = nI (wa + 1) from nI_add wa 1]
  have a1 : lA nt N rs (wa + 1) (lo + k) (mj_wI (mj_wI x 29 wa (nI k)) 0 29 (nI (wa + 1))) := by
    refine ⟨⟨t1, t2, t3, t4, t5, t6, t7, t8⟩, h1, rfl, ?_, by omega⟩
    show loS _ wa + (mj_wI (mj_wI x 29 wa (nI k)) 0 29 (nI (wa + 1))).1 29 wa = _
    rw [loS_cg (b := x.1 29) wa (fun j hj => by
      rw [mj_wI_1, if_neg (by decide), mj_wI_1, if_pos rfl, if_neg (by omega)]), h3, mj_wI_1, if_neg (by decide), mj_wI_1, if_pos rfl, if_pos rfl]
    exact nI_add lo k
  obtain ⟨y, r1, r2⟩ := ih _ a1
  rw [r1, mj_rI_k, mj_gb_b]
  refine ⟨_, rfl, r2.1, fun p q hz => ?_⟩
  have y29 : y.1 0 29 = nI (wa + 1) := by rw [r2.2 0 29 (lz_f (Or.inl (by decide)))]; rfl
  rw [mj_wI_1]
  by_cases e1 : p = 0
  · by_cases e2 : q = 29
    · rw [if_pos e1, if_pos e2, e1, e2, y29, h2]
      rw [← nI_add wa 1]
      show nI wa + 1 - 1 = nI wa
      rw [Int32.add_sub_cancel]
    · rw [if_pos e1, if_neg e2, r2.2 p q (lz_f (Or.inl (by omega))), mj_wI_1, if_pos e1, if_neg e2, mj_wI_1, if_neg (by omega)]
  · rw [if_neg e1]
    by_cases e3 : p = 29
    · have lt : q < wa := by
        rw [e3] at hz
        unfold lz at hz
        have : Nat.ble wa q = false := by simpa using hz
        exact Nat.lt_of_not_le (fun z => by rw [Nat.ble_eq.mpr z] at this; cases this)
      rw [r2.2 p q (lz_f (Or.inr (by omega))), mj_wI_1, if_neg e1, mj_wI_1, if_pos e3, if_neg (by omega)]
    · rw [r2.2 p q (lz_f (Or.inl e3)), mj_wI_1, if_neg e1, mj_wI_1, if_neg e3]
/-- the count of loops -/
theorem l_count {d : Nat} {a1 a2 a3 : Int32} (h : lA nt N rs wa lo x) (hw : wa ≤ 45) : ∀ (n j : Nat), j + n = wa → rX1_isLeft d (260, [some (.ref 0), some (.int a1), some (.int a2), some (.int a3), some (.int (loS (x.1 29) j)), some (.int (nI j)), none, none], [], x) = some (some (.int (sp_b (decide (a2 < nI lo)))), x) := by
  intro n
  induction n with
  | zero =>
    intro j e
    rw [bX1_isLeft_260, h.2.2.1, if_pos (by rw [show j = wa by omega]; exact Int32.le_refl _), show j = wa by omega, h.2.2.2.1]
    by_cases q : a2 < nI lo
    · rw [if_neg (Int32.not_le.mpr q), decide_eq_true q]; rfl
    · rw [if_pos (Int32.not_lt.mp q), decide_eq_false q]; rfl
  | succ n ih =>
    intro j e
    rw [bX1_isLeft_260, h.2.2.1, if_neg (by rw [Int32.le_iff_toInt_le, nI_toInt (by omega), nI_toInt (by omega)]; omega), mj_g_k (mj_in_nI (by omega) (by decide)), nI_clamp (by omega), show nI j + 1 = nI (j + 1) from nI_add j 1]
    exact ih (j + 1) (by omega)
/-- the induction's hypothesis: all statements at fuel f -/
def lH (nt : sp_NT) (N : Nat) (rs : Int32) (f : Nat) : Prop := ∀ (n : Int32) (wa lo d : Nat) (x : mj_X), wA nt N f n → wa + f ≤ 44 → 2 * f + 1 ≤ d → lA nt N rs wa lo x → lR (kX1 d 31 [.ref 0, .int n] x) wa x (sp_lf nt rs f n lo wa)
theorem lA.g (h : lA nt N rs wa lo x) {n : Int32} (hn : sp_nd N n = true) : ∀ r : mj_R, mj_g n 4000 r = r := fun r => mj_g_k (sp_nd_in h.1.2.1 hn (Nat.le_refl _)) r
theorem l_hand (hT : wTb nt N M res par) {d : Nat} {a1 a2 a3 : Int32} : ∀ (l : List Int32) (F : Nat) (p : Int32) (o7 : Option Value) (b0 : Bool) (x : mj_X), (∀ m, m < F → lH nt N rs m) → sp_Ch nt N 76 l p → (p = -1 ∨ nD nt p ≤ F) → wa + F ≤ 44 → 2 * F + 1 ≤ d → lA nt N rs wa lo x →
    lR (rX1_isLeft d (348, [some (.ref 0), some (.int a1), some (.int a2), some (.int a3), none, some (.int (sp_b b0)), some (.int p), o7], [], x)) wa x (b0 && (decide (p = -1) || sp_lf nt rs F p lo wa)) := by
  intro l
  induction l with
  | nil =>
    intro F p o7 b0 x _ hp _ _ _ _
    have hp : p = -1 := hp
    rw [bX1_isLeft_348, if_pos hp, mj_gb_b, decide_eq_true hp, Bool.true_or, Bool.and_true]
    exact lR.k _ _ rfl
  | cons q l ih =>
    intro F p o7 b0 x H hp hD hw hd hA
    obtain ⟨e1, e2, e3, e4, e5⟩ := hp
    subst e1
    have np := nd_n1 e2
    have hD : nD nt p ≤ F := hD.resolve_left np
    have gp := hA.g e2
    rw [bX1_isLeft_348, if_neg np, decide_eq_false np, Bool.false_or]
    cases b0
    · rw [if_pos (show sp_b false = 0 from rfl), mj_gb_b]; exact lR.k _ _ rfl
    rw [if_neg (show ¬ sp_b true = 0 by decide), Bool.true_and]
    have hd1 := (hT.d e2).1
    obtain ⟨F, rfl⟩ : ∃ e, F = e + 1 := ⟨F - 1, by omega⟩
    obtain ⟨⟨h1, h2, h3⟩, h4⟩ := wE_catches hT e2 hD e3
    have hd2 := (hT.d h1).1
    obtain ⟨F, rfl⟩ : ∃ e, F = e + 1 := ⟨F - 1, by omega⟩
    have gh := hA.g h1
    have x3 : x.1 3 p.toNatClampNeg = nA nt p := by rw [hA.1.2.2.2.1]
    have x4 : x.1 4 p.toNatClampNeg = nB nt p := by rw [hA.1.2.2.2.2.1]
    have xk : x.1 2 (nA nt p).toNatClampNeg = nK nt (nA nt p) := by rw [hA.1.2.2.1]
    have xb : x.1 4 (nA nt p).toNatClampNeg = nB nt (nA nt p) := by rw [hA.1.2.2.2.2.1]
    rw [gp, x3, gh, xk]
    have tl : ∀ (s0 : Int32) (G : Nat), G < F + 1 → wA nt N G (nB nt s0) → sp_nd N s0 = true → sp_lf nt rs (F + 1) (nA nt p) lo wa = sp_lf nt rs G (nB nt s0) lo wa →
        lR (rX1_isLeft d (398, [some (.ref 0), some (.int a1), some (.int a2), some (.int a3), none, some (.int (sp_b true)), some (.int p), o7], [.int s0], x)) wa x (sp_lf nt rs (F + 1 + 1) p lo wa) := by
      intro s0 G hG hS hs0 es
      rw [bX1_isLeft_398, hA.g hs0, show x.1 4 s0.toNatClampNeg = nB nt s0 by rw [hA.1.2.2.2.2.1], ol76 e3, es]
      obtain ⟨y, r1, r2⟩ := H G (by omega) (nB nt s0) wa lo d x hS (by omega) (by omega) hA
      have hB := hA.fr r2
      rw [r1, mj_rI_k, hB.g e2, show y.1 4 p.toNatClampNeg = nB nt p by rw [hB.1.2.2.2.2.1]]
      obtain ⟨z, s1, s2⟩ := ih (F + 1) (nB nt p) (some (.int s0)) (sp_lf nt rs G (nB nt s0) lo wa) y (fun m hm => H m (by omega)) e5 (h4.imp id (fun q => q.2.1)) (by omega) (by omega) hB
      exact ⟨z, s1, r2.tr s2⟩
    rcases h3 with k7 | k7
    · rw [k7, if_neg (by decide), gp]
      obtain ⟨-, -, c3⟩ := wE_catch hT h1 h2 k7
      exact tl (nA nt p) F (by omega) c3 h1 (ol77 k7)
    · rw [k7, if_pos (by decide), gp, gh, xb]
      obtain ⟨-, -, -, c4, c5, c6⟩ := wE_with hT h1 h2 k7
      have hd3 := (hT.d c4).1
      obtain ⟨F, rfl⟩ : ∃ e, F = e + 1 := ⟨F - 1, by omega⟩
      obtain ⟨-, -, c9⟩ := wE_catch hT c4 c5 c6
      exact tl (nB nt (nA nt p)) F (by omega) c9 c4 (by rw [ol78 k7, ol77 c6])
theorem l_case (hT : wTb nt N M res par) {d : Nat} {a1 a2 a3 : Int32} : ∀ (l : List Int32) (F : Nat) (p : Int32) (b0 : Bool) (x : mj_X), (∀ m, m < F → lH nt N rs m) → sp_Ch nt N 82 l p → (p = -1 ∨ nD nt p ≤ F) → wa + F ≤ 44 → 2 * F + 1 ≤ d → lA nt N rs wa lo x →
    lR (rX1_isLeft d (434, [some (.ref 0), some (.int a1), some (.int a2), some (.int a3), none, none, some (.int (sp_b b0)), some (.int p)], [], x)) wa x (b0 && (decide (p = -1) || sp_lf nt rs F p lo (wa + 1))) := by
  intro l
  induction l with
  | nil =>
    intro F p b0 x _ hp _ _ _ _
    have hp : p = -1 := hp
    rw [bX1_isLeft_434, if_pos hp, mj_gb_b, decide_eq_true hp, Bool.true_or, Bool.and_true]
    exact lR.k _ _ rfl
  | cons q l ih =>
    intro F p b0 x H hp hD hw hd hA
    obtain ⟨e1, e2, e3, e4, e5⟩ := hp
    subst e1
    have np := nd_n1 e2
    have hD : nD nt p ≤ F := hD.resolve_left np
    have gp := hA.g e2
    rw [bX1_isLeft_434, if_neg np, decide_eq_false np, Bool.false_or]
    cases b0
    · rw [if_pos (show sp_b false = 0 from rfl), mj_gb_b]; exact lR.k _ _ rfl
    rw [if_neg (show ¬ sp_b true = 0 by decide), Bool.true_and]
    have hd1 := (hT.d e2).1
    obtain ⟨F, rfl⟩ : ∃ e, F = e + 1 := ⟨F - 1, by omega⟩
    obtain ⟨⟨h1, h2, h3⟩, h4⟩ := wE_cases hT e2 hD e3
    have hd2 := (hT.d h1).1
    obtain ⟨F, rfl⟩ : ∃ e, F = e + 1 := ⟨F - 1, by omega⟩
    have gh := hA.g h1
    have x3 : x.1 3 p.toNatClampNeg = nA nt p := by rw [hA.1.2.2.2.1]
    have xb : x.1 4 (nA nt p).toNatClampNeg = nB nt (nA nt p) := by rw [hA.1.2.2.2.2.1]
    have hS : wA nt N F (nB nt (nA nt p)) := by
      rcases h3 with k8 | k8
      · exact wE_case hT h1 h2 k8
      · exact wE_dflt hT h1 h2 k8
    have es : sp_lf nt rs (F + 1) (nA nt p) lo (wa + 1) = sp_lf nt rs F (nB nt (nA nt p)) lo (wa + 1) := by
      rcases h3 with k8 | k8
      · exact ol83 k8
      · exact ol84 k8
    obtain ⟨d, rfl⟩ : ∃ e, d = e + 1 := ⟨d - 1, by omega⟩
    rw [gp, x3, gh, xb, ol82 e3, es]
    obtain ⟨y, r1, r2⟩ := l_isIn (d := d) (n := nB nt (nA nt p)) (f := F) (k := 0) (by decide) hA (by omega) (fun y hy => H F (by omega) _ _ _ _ _ hS (by omega) (by omega) hy)
    have hB := hA.fr r2
    rw [show (0 : Int32) = nI 0 from rfl, r1, mj_rI_k, hB.g e2, show y.1 4 p.toNatClampNeg = nB nt p by rw [hB.1.2.2.2.2.1]]
    obtain ⟨z, s1, s2⟩ := ih (F + 1) (nB nt p) (sp_lf nt rs F (nB nt (nA nt p)) lo (wa + 1)) y (fun m hm => H m (by omega)) e5 (h4.imp id (fun q => q.2.1)) (by omega) (by omega) hB
    exact ⟨z, s1, r2.tr s2⟩
/-- isLeft of CodeWriterModel -/
theorem sX1_isLeft (hT : wTb nt N M res par) (hN : N < 4000) : ∀ f, lH nt N rs f := by
  intro f
  induction f using Nat.strongRecOn with
  | ind f H =>
    intro n wa lo d x hA0 hw hd hA
    obtain ⟨hn, hk, hD⟩ := hA0
    have h1 := (hT.d hn).1
    obtain ⟨f, rfl⟩ : ∃ e, f = e + 1 := ⟨f - 1, by omega⟩
    obtain ⟨d, rfl⟩ : ∃ e, d = e + 1 := ⟨d - 1, by omega⟩
    have gn := hA.g hn
    have x3 : x.1 3 n.toNatClampNeg = nA nt n := by rw [hA.1.2.2.2.1]
    have x4 : x.1 4 n.toNatClampNeg = nB nt n := by rw [hA.1.2.2.2.2.1]
    have xk : ∀ k, nK nt n = k → x.1 2 n.toNatClampNeg = k := fun k e => by rw [hA.1.2.2.1]; exact e
    have I : ∀ (c : Int32) (y : mj_X), wA nt N f c → lA nt N rs wa lo y → lR (kX1 d 31 [.ref 0, .int c] y) wa y (sp_lf nt rs f c lo wa) := fun c y hc hy => H f (Nat.lt_succ_self _) c wa lo d y hc (by omega) (by omega) hy
    have two : ∀ {b1 : Bool} {r : mj_R} (c : Int32), wA nt N f c → lR r wa x b1 → lR (mj_rI r fun v2 x1 => if v2 = 0 then some (some (.int (0 : Int32)), x1) else mj_rI (kX1 d 31 [.ref 0, .int c] x1) fun v4 x3 => if v4 = 0 then some (some (.int (0 : Int32)), x3) else some (some (.int (1 : Int32)), x3)) wa x (b1 && sp_lf nt rs f c lo wa) := fun c hc hr => hr.and (fun y hy _ => (I c y hc (hA.fr hy)).ret)
    have inn : ∀ (c : Int32) (y : mj_X) (k : Nat), k ≤ 1 → wA nt N f c → lA nt N rs wa lo y → lR (kX1 d 32 [.ref 0, .int c, .int (nI k)] y) wa y (sp_lf nt rs f c (lo + k) (wa + 1)) := fun c y k hk1 hc hy => by
      obtain ⟨d, rfl⟩ : ∃ e, d = e + 1 := ⟨d - 1, by have := (hT.d hc.1).1; have := hc.2.2; omega⟩
      exact l_isIn hk1 hy (by omega) (fun z hz => H f (Nat.lt_succ_self _) c _ _ _ z hc (by omega) (by omega) hz)
    have tr1 : ∀ (e : sp_lf nt rs (f + 1) n lo wa = true), lR (rX1_isLeft d (479, [some (.ref 0), some (.int n), some (.int (nA nt n)), some (.int (nB nt n)), none, none, none, none], [], x)) wa x (sp_lf nt rs (f + 1) n lo wa) := fun e => by
      rw [bX1_isLeft_479, e]; exact lR.k _ _ rfl
    rcases sp_Sk_iff.mp hk with e | e | e | e | e | e | e | e | e | e | e | e | e | e | e | e | e | e
    · rw [wX1_isLeft_0_out d n x (by rw [xk _ e]; exact Or.inl (by decide)), gn, gn, gn, x3, x4]
      exact tr1 (by rw [sp_lf_s, show nt 0 n.toNatClampNeg = 60 from e]; rfl)
    · rw [wX1_isLeft_0_out d n x (by rw [xk _ e]; exact Or.inl (by decide)), gn, gn, gn, x3, x4]
      exact tr1 (by rw [sp_lf_s, show nt 0 n.toNatClampNeg = 61 from e]; rfl)
    · rw [wX1_isLeft_0_62 d n x (xk _ e), gn, gn, gn, x3, x4, bX1_isLeft_132, ol62 e]
      obtain ⟨a, b⟩ := wE_seq hT hn hD e
      exact two _ b (I _ x a hA)
    · rw [wX1_isLeft_0_63 d n x (xk _ e), gn, gn, gn, x3, x4, bX1_isLeft_154, ol63 e]
      exact (I _ x (wE_block hT hn hD e) hA).gb
    · rw [wX1_isLeft_0_64 d n x (xk _ e), gn, gn, gn, x3, x4, bX1_isLeft_160, ol64 e]
      exact (I _ x (wE_if hT hn hD e).2.2 hA).gb
    · rw [wX1_isLeft_0_65 d n x (xk _ e), gn, gn, gn, x3, x4, bX1_isLeft_166, ol65 e]
      obtain ⟨-, -, c1, c2, c3⟩ := wE_ifelse hT hn hD e
      have hd2 := (hT.d c1).1
      obtain ⟨f, rfl⟩ : ∃ e, f = e + 1 := ⟨f - 1, by omega⟩
      obtain ⟨a, b⟩ := wE_branch hT c1 c2 c3
      rw [hA.g c1, show x.1 3 (nB nt n).toNatClampNeg = nA nt (nB nt n) by rw [hA.1.2.2.2.1], ol66 c3]
      refine (H f (by omega) _ wa lo d x a (by omega) (by omega) hA).and (fun y hy _ => ?_)
      have hB := hA.fr hy
      rw [hB.g c1, show y.1 4 (nB nt n).toNatClampNeg = nB nt (nB nt n) by rw [hB.1.2.2.2.2.1]]
      exact (H f (by omega) _ wa lo d y b (by omega) (by omega) hB).ret
    · rw [wX1_isLeft_0_67 d n x (xk _ e), gn, gn, gn, x3, x4, bX1_isLeft_198, ol67 e]
      exact (inn _ x 1 (by decide) (wE_while hT hn hD e).2.2 hA).gb
    · rw [wX1_isLeft_0_68 d n x (xk _ e), gn, gn, gn, x3, x4, bX1_isLeft_205, ol68 e]
      exact (inn _ x 1 (by decide) (wE_until hT hn hD e).1 hA).gb
    · rw [wX1_isLeft_0_69 d n x (xk _ e), gn, gn, gn, x3, x4, bX1_isLeft_212, ol69 e]
      obtain ⟨c1, c2, c3, c4⟩ := wE_for hT hn hD e
      have hd2 := (hT.d c1).1
      have c5 : wA nt N f (nB nt (nA nt n)) := by
        obtain ⟨f', hf⟩ : ∃ e, f = e + 1 := ⟨f - 1, by omega⟩
        rw [hf] at c2 ⊢
        have := (wE_head hT c1 c2 c3).2.2
        exact ⟨this.1, this.2.1, by have := this.2.2; omega⟩
      rw [hA.g c1, show x.1 4 (nA nt n).toNatClampNeg = nB nt (nA nt n) by rw [hA.1.2.2.2.2.1]]
      exact (I _ x c5 hA).and (fun y hy _ => (inn _ y 1 (by decide) c4 (hA.fr hy)).ret)
    · rw [wX1_isLeft_0_71 d n x (xk _ e), gn, gn, gn, x3, x4, bX1_isLeft_240, ol71 e, hA.2.2.1]
      by_cases q : nA nt n < nI wa
      · rw [if_neg (Int32.not_le.mpr q), decide_eq_true q]; exact lR.k _ _ rfl
      · rw [if_pos (Int32.not_lt.mp q), decide_eq_false q]; exact lR.k _ _ rfl
    · rw [wX1_isLeft_0_72 d n x (xk _ e), gn, gn, gn, x3, x4, bX1_isLeft_254, ol72 e]
      have := l_count (d := d) (a1 := n) (a2 := nA nt n) (a3 := nB nt n) hA (by omega) wa 0 (by omega)
      rw [show (0 : Int32) = loS (x.1 29) 0 from rfl, show loS (x.1 29) 0 = loS (x.1 29) 0 from rfl]
      exact ⟨x, this, zfr.rf _ _⟩
    · rw [wX1_isLeft_0_73 d n x (xk _ e), gn, gn, gn, x3, x4, bX1_isLeft_299, ol73 e, hA.2.1]
      by_cases q : nA nt n = -1
      · rw [if_pos q, if_pos q]
        by_cases r0 : rs = 0
        · rw [if_pos r0, decide_eq_true r0]; exact lR.k _ _ rfl
        · rw [if_neg r0, decide_eq_false r0]; exact lR.k _ _ rfl
      · rw [if_neg q, if_neg q]
        have c1 := ((wE_ret hT hn hD e).resolve_left q).1.1
        rw [hA.g c1, show x.1 5 (nA nt n).toNatClampNeg = nt 3 (nA nt n).toNatClampNeg by rw [hA.1.2.2.2.2.2.1]]
        by_cases r0 : nt 3 (nA nt n).toNatClampNeg = rs
        · rw [if_pos r0, decide_eq_true r0.symm]; exact lR.k _ _ rfl
        · rw [if_neg r0, decide_eq_false (fun q => r0 q.symm)]; exact lR.k _ _ rfl
    · rw [wX1_isLeft_0_74 d n x (xk _ e), gn, gn, gn, x3, x4]
      exact tr1 (by rw [sp_lf_s, show nt 0 n.toNatClampNeg = 74 from e]; rfl)
    · rw [wX1_isLeft_0_75 d n x (xk _ e), gn, gn, gn, x3, x4, bX1_isLeft_338, ol75 e]
      obtain ⟨a, c1, c2, c3⟩ := wE_try hT hn hD e
      obtain ⟨y, r1, r2⟩ := I _ x a hA
      rw [r1, mj_rI_k]
      obtain ⟨l, l1, l2⟩ := (hT.1.w hT.2.1 hN).of (Or.inr (Or.inl rfl)) c1 c3
      obtain ⟨z, s1, s2⟩ := l_hand (d := d) (a1 := n) (a2 := nA nt n) (a3 := nB nt n) hT l f (nB nt n) none (sp_lf nt rs f (nA nt n) lo wa) y (fun m hm => H m (by omega)) l1 (Or.inr c2) (by omega) (by omega) (hA.fr r2)
      rw [decide_eq_false (nd_n1 c1), Bool.false_or] at s1
      exact ⟨z, s1, r2.tr s2⟩
    · rw [wX1_isLeft_0_79 d n x (xk _ e), gn, gn, gn, x3, x4, bX1_isLeft_132, ol79 e]
      obtain ⟨a, b⟩ := wE_fin hT hn hD e
      exact two _ b (I _ x a hA)
    · rw [wX1_isLeft_0_80 d n x (xk _ e), gn, gn, gn, x3, x4, bX1_isLeft_160, ol80 e]
      exact (I _ x (wE_lock hT hn hD e).2.2.2 hA).gb
    · rw [wX1_isLeft_0_81 d n x (xk _ e), gn, gn, gn, x3, x4, bX1_isLeft_428, ol81 e]
      obtain ⟨-, -, c1, c2, c3⟩ := wE_switch hT hn hD e
      obtain ⟨l, l1, l2⟩ := (hT.1.w hT.2.1 hN).of (Or.inr (Or.inr (Or.inl rfl))) c1 c3
      have := l_case (d := d) (a1 := n) (a2 := nA nt n) (a3 := nB nt n) hT l f (nB nt n) true x (fun m hm => H m (by omega)) l1 (Or.inr c2) (by omega) (by omega) hA
      rw [decide_eq_false (nd_n1 c1), Bool.false_or, Bool.true_and] at this
      exact this
    · rw [wX1_isLeft_0_85 d n x (xk _ e), gn, gn, gn, x3, x4, bX1_isLeft_160, ol85 e]
      exact (I _ x (wE_line hT hn hD e).2.2 hA).gb
end
