/-! CodeWriterModel: what may stand where, kind by kind -/
theorem sp_val_rng {nt : sp_NT} {N : Nat} (hW : sp_TY nt N) (k : Int32) : 0 ≤ sp_val nt (sp_fr nt N) k ∧ sp_val nt (sp_fr nt N) k ≤ 8 := by
  unfold sp_val
  cases hh : sp_fr nt N k
  · simp
  · cases sp_E (nt 0 k.toNatClampNeg)
    · simp
    · have := hW k (sp_fr_nd hh)
      exact ⟨this.1, this.2.1⟩
theorem sp_val_fk {nt : sp_NT} {fr : Int32 → Bool} {k q : Int32} (h : sp_fk nt fr k q = true) (hq : sp_E q = false) : sp_val nt fr k = 0 := by
  unfold sp_fk at h
  simp only [Bool.and_eq_true, decide_eq_true_eq] at h
  unfold sp_val
  rw [h.2, hq]; simp
theorem sp_val_fk1 {nt : sp_NT} {fr : Int32 → Bool} {k q : Int32} (h : sp_fk nt fr k q = true) (hq : sp_E q = true) : sp_val nt fr k = nt 3 k.toNatClampNeg := by
  unfold sp_fk at h
  simp only [Bool.and_eq_true, decide_eq_true_eq] at h
  unfold sp_val
  rw [h.2, hq, h.1]; rfl
theorem sp_val_v {nt : sp_NT} {fr : Int32 → Bool} {k : Int32} (h : ¬ sp_val nt fr k = 0) : nt 3 k.toNatClampNeg = sp_val nt fr k := by
  unfold sp_val at h ⊢
  cases hh : (fr k && sp_E (nt 0 k.toNatClampNeg))
  · rw [hh] at h; exact absurd rfl h
  · rfl
theorem sp_val_m1 {nt : sp_NT} {N : Nat} : sp_val nt (sp_fr nt N) (-1) = 0 := by unfold sp_val sp_fr; rw [sp_nd_m1]; rfl
theorem sp_fk_m1 {nt : sp_NT} {N : Nat} {q : Int32} : sp_fk nt (sp_fr nt N) (-1) q = false := by unfold sp_fk sp_fr; rw [sp_nd_m1]; rfl
theorem sp_fk_2 {nt : sp_NT} {fr : Int32 → Bool} {k q r : Int32} (h : sp_fk nt fr k q = true) (h2 : sp_fk nt fr k r = true) : q = r := by
  unfold sp_fk at h h2
  simp only [Bool.and_eq_true, decide_eq_true_eq] at h h2
  rw [← h.2, h2.2]
theorem sp_tg_eq {nt : sp_NT} {N : Nat} (hW : sp_TY nt N) (k : Int32) : (sp_fk nt (sp_fr nt N) k 6 && decide (nt 3 k.toNatClampNeg ≤ 4) || sp_fk nt (sp_fr nt N) k 8) = !decide (sp_tg nt (sp_fr nt N) k = 0) := by
  unfold sp_fk sp_tg
  cases hh : sp_fr nt N k
  · simp
  · have h3 := (hW k (sp_fr_nd hh)).2.2.1
    by_cases h6 : nt 0 k.toNatClampNeg = 6
    · have h1 : 1 ≤ nt 3 k.toNatClampNeg := h3 (Or.inl (by rw [h6]; decide))
      have h0 : ¬ nt 3 k.toNatClampNeg = 0 := fun e => by rw [e] at h1; exact absurd h1 (by decide)
      by_cases h4 : nt 3 k.toNatClampNeg ≤ 4 <;> simp [h6, h4, h0]
    · by_cases h8 : nt 0 k.toNatClampNeg = 8
      · have h1 : 1 ≤ nt 3 k.toNatClampNeg := h3 (Or.inl (by rw [h8]; decide))
        have h0 : ¬ nt 3 k.toNatClampNeg = 0 := fun e => by rw [e] at h1; exact absurd h1 (by decide)
        simp [h8, h0]
      · simp [h6, h8]
theorem sp_E_eq {nt : sp_NT} {N : Nat} (hW : sp_TY nt N) (k : Int32) : (sp_fr nt N k && sp_E (nt 0 k.toNatClampNeg)) = (!decide (sp_val nt (sp_fr nt N) k = 0) || sp_fk nt (sp_fr nt N) k 48) := by
  unfold sp_fk sp_val
  cases hh : sp_fr nt N k
  · simp
  · have h3 := (hW k (sp_fr_nd hh)).2.2.1
    by_cases h48 : nt 0 k.toNatClampNeg = 48
    · rw [h48]; simp [show sp_E 48 = true from rfl]
    · cases hE : sp_E (nt 0 k.toNatClampNeg)
      · simp [h48]
      · have : nt 0 k.toNatClampNeg ≤ 47 ∨ nt 0 k.toNatClampNeg = 51 := by
          unfold sp_E sp_i at hE
          simp only [Bool.or_eq_true, Bool.and_eq_true, decide_eq_true_eq] at hE
          grind
        have h1 := h3 this
        have h0 : ¬ nt 3 k.toNatClampNeg = 0 := fun e => by rw [e] at h1; exact absurd h1 (by decide)
        simp [h0]
theorem sp_tg_4 {nt : sp_NT} {N : Nat} (hW : sp_TY nt N) (k : Int32) : sp_tg nt (sp_fr nt N) k ≤ 4 := by
  unfold sp_tg
  cases hh : sp_fr nt N k
  · simp
  · have h3 := (hW k (sp_fr_nd hh)).2.2.2
    by_cases h8 : nt 0 k.toNatClampNeg = 8
    · simp [h8, h3 h8]
    · by_cases h4 : nt 0 k.toNatClampNeg = 6 <;> by_cases h5 : nt 3 k.toNatClampNeg ≤ 4 <;> simp [h8, h4, h5]
theorem sp_tg_v {nt : sp_NT} {N : Nat} (hW : sp_TY nt N) {k : Int32} (h : ¬ sp_tg nt (sp_fr nt N) k = 0) : nt 3 k.toNatClampNeg = sp_tg nt (sp_fr nt N) k ∧ sp_tg nt (sp_fr nt N) k = sp_val nt (sp_fr nt N) k := by
  unfold sp_tg at h ⊢
  unfold sp_val
  cases hh : sp_fr nt N k
  · rw [hh] at h; exact absurd rfl h
  · rw [hh] at h
    by_cases h6 : nt 0 k.toNatClampNeg = 6
    · have e : sp_E (nt 0 k.toNatClampNeg) = true := by rw [h6]; rfl
      by_cases h4 : nt 3 k.toNatClampNeg ≤ 4
      · simp [h6, h4, show sp_E 6 = true from rfl]
      · simp [h6, h4] at h
    · by_cases h8 : nt 0 k.toNatClampNeg = 8
      · simp [h8, show sp_E 8 = true from rfl]
      · simp [h6, h8] at h
theorem tX1_a61 {d : Nat} (hd : 4 ≤ d) {y : mj_X} {nt : sp_NT} {N M : Nat} {par : Nat → Int32} (h : md_T y nt N) (hW : sp_W nt N M par) (a b : Int32) : kX1 (d + 1) 14 [.ref 0, .int 61, .int a, .int b] y = some (some (.int (sp_b (sp_ao nt (sp_fr nt N) 61 a b))), y) := by
  have hN := h.2.1
  rw [wX1_isRightStatement_0_61 _ _ _ _ _ rfl]
  simp only [bX1_isRightStatement_116, sX1_isFree (show 2 ≤ d by omega) h, sX1_isA (show 3 ≤ d by omega) h, sX1_isOf (show 4 ≤ d by omega) h, sX1_isStatement (show 3 ≤ d by omega) h, sX1_isExpression (show 3 ≤ d by omega) h, sX1_isBetween (show 4 ≤ d by omega) h, sX1_isTarget (show 4 ≤ d by omega) h, sp_tg_eq hW.2.2, sX1_isThere (show 1 ≤ d by omega) h, sX1_elementOf (show 1 ≤ d by omega), sX1_isExpressionKind (show 1 ≤ d by omega), mj_rI_k, sp_b0, mj_gb_b, h.2.2.1, h.2.2.2.2.2.1]
  simp only [sp_ao]
  have hg : ∀ (k q : Int32) r, sp_fk nt (sp_fr nt N) k q = true → mj_g k 4000 r = r := fun k q r hq => mj_g_k (sp_nd_in hN (sp_fk_nd hq) (Nat.le_refl _)) r
  have hv : ∀ (k : Int32) r, ¬ sp_val nt (sp_fr nt N) k = 0 → mj_g k 4000 r = r := fun k r hq => mj_g_k (sp_nd_in hN (sp_val_nd hq) (Nat.le_refl _)) r
  have ht : ∀ (k : Int32) r, ¬ sp_tg nt (sp_fr nt N) k = 0 → mj_g k 4000 r = r := fun k r hq => mj_g_k (sp_nd_in hN (sp_tg_nd hq) (Nat.le_refl _)) r
  have hw : ∀ (k : Int32) r, sp_nd N k = true → mj_g k 4000 r = r := fun k r hq => mj_g_k (sp_nd_in hN hq (Nat.le_refl _)) r
  have f1 := sp_val_rng hW.2.2 a
  have f2 := sp_val_rng hW.2.2 b
  have f3 : ∀ k q, sp_fk nt (sp_fr nt N) k q = true → sp_E q = false → sp_val nt (sp_fr nt N) k = 0 := fun k q => sp_val_fk
  have f4 : ∀ k, ¬ sp_val nt (sp_fr nt N) k = 0 → nt 3 k.toNatClampNeg = sp_val nt (sp_fr nt N) k := fun k => sp_val_v
  have f5 : sp_val nt (sp_fr nt N) (-1) = 0 := sp_val_m1
  have f6 : ∀ k, ¬ sp_tg nt (sp_fr nt N) k = 0 → nt 3 k.toNatClampNeg = sp_tg nt (sp_fr nt N) k ∧ sp_tg nt (sp_fr nt N) k = sp_val nt (sp_fr nt N) k := fun k => sp_tg_v hW.2.2
  have f9 := sp_tg_4 hW.2.2 a
  have g2 := sp_E_eq hW.2.2 a
  have g1 : ∀ k q r, sp_fk nt (sp_fr nt N) k q = true → sp_fk nt (sp_fr nt N) k r = true → q = r := fun k q r => sp_fk_2
  have f7 : ∀ k, sp_nd N k = true → 0 ≤ nt 3 k.toNatClampNeg := fun k hk => (hW.2.2 k hk).1
  have f8 : ∀ k q, sp_fk nt (sp_fr nt N) k q = true → sp_nd N k = true := fun k q => sp_fk_nd
  have e5 : sp_E 5 = false := rfl
  have e49 : sp_E 49 = false := rfl
  have e33 : sp_E 33 = false := rfl
  simp <;> grind [sp_b, sp_isv, sp_i]
theorem tX1_a62 {d : Nat} (hd : 4 ≤ d) {y : mj_X} {nt : sp_NT} {N M : Nat} {par : Nat → Int32} (h : md_T y nt N) (hW : sp_W nt N M par) (a b : Int32) : kX1 (d + 1) 14 [.ref 0, .int 62, .int a, .int b] y = some (some (.int (sp_b (sp_ao nt (sp_fr nt N) 62 a b))), y) := by
  have hN := h.2.1
  rw [wX1_isRightStatement_0_62 _ _ _ _ _ rfl]
  simp only [bX1_isRightStatement_150, sX1_isFree (show 2 ≤ d by omega) h, sX1_isA (show 3 ≤ d by omega) h, sX1_isOf (show 4 ≤ d by omega) h, sX1_isStatement (show 3 ≤ d by omega) h, sX1_isExpression (show 3 ≤ d by omega) h, sX1_isBetween (show 4 ≤ d by omega) h, sX1_isTarget (show 4 ≤ d by omega) h, sp_tg_eq hW.2.2, sX1_isThere (show 1 ≤ d by omega) h, sX1_elementOf (show 1 ≤ d by omega), sX1_isExpressionKind (show 1 ≤ d by omega), mj_rI_k, sp_b0, mj_gb_b, h.2.2.1, h.2.2.2.2.2.1]
  simp only [sp_ao]
  have hg : ∀ (k q : Int32) r, sp_fk nt (sp_fr nt N) k q = true → mj_g k 4000 r = r := fun k q r hq => mj_g_k (sp_nd_in hN (sp_fk_nd hq) (Nat.le_refl _)) r
  have hv : ∀ (k : Int32) r, ¬ sp_val nt (sp_fr nt N) k = 0 → mj_g k 4000 r = r := fun k r hq => mj_g_k (sp_nd_in hN (sp_val_nd hq) (Nat.le_refl _)) r
  have ht : ∀ (k : Int32) r, ¬ sp_tg nt (sp_fr nt N) k = 0 → mj_g k 4000 r = r := fun k r hq => mj_g_k (sp_nd_in hN (sp_tg_nd hq) (Nat.le_refl _)) r
  have hw : ∀ (k : Int32) r, sp_nd N k = true → mj_g k 4000 r = r := fun k r hq => mj_g_k (sp_nd_in hN hq (Nat.le_refl _)) r
  have f1 := sp_val_rng hW.2.2 a
  have f2 := sp_val_rng hW.2.2 b
  have f3 : ∀ k q, sp_fk nt (sp_fr nt N) k q = true → sp_E q = false → sp_val nt (sp_fr nt N) k = 0 := fun k q => sp_val_fk
  have f4 : ∀ k, ¬ sp_val nt (sp_fr nt N) k = 0 → nt 3 k.toNatClampNeg = sp_val nt (sp_fr nt N) k := fun k => sp_val_v
  have f5 : sp_val nt (sp_fr nt N) (-1) = 0 := sp_val_m1
  have f6 : ∀ k, ¬ sp_tg nt (sp_fr nt N) k = 0 → nt 3 k.toNatClampNeg = sp_tg nt (sp_fr nt N) k ∧ sp_tg nt (sp_fr nt N) k = sp_val nt (sp_fr nt N) k := fun k => sp_tg_v hW.2.2
  have f9 := sp_tg_4 hW.2.2 a
  have g2 := sp_E_eq hW.2.2 a
  have g1 : ∀ k q r, sp_fk nt (sp_fr nt N) k q = true → sp_fk nt (sp_fr nt N) k r = true → q = r := fun k q r => sp_fk_2
  have f7 : ∀ k, sp_nd N k = true → 0 ≤ nt 3 k.toNatClampNeg := fun k hk => (hW.2.2 k hk).1
  have f8 : ∀ k q, sp_fk nt (sp_fr nt N) k q = true → sp_nd N k = true := fun k q => sp_fk_nd
  have e5 : sp_E 5 = false := rfl
  have e49 : sp_E 49 = false := rfl
  have e33 : sp_E 33 = false := rfl
  simp <;> grind [sp_b, sp_isv, sp_i]
theorem tX1_a63 {d : Nat} (hd : 4 ≤ d) {y : mj_X} {nt : sp_NT} {N M : Nat} {par : Nat → Int32} (h : md_T y nt N) (hW : sp_W nt N M par) (a b : Int32) : kX1 (d + 1) 14 [.ref 0, .int 63, .int a, .int b] y = some (some (.int (sp_b (sp_ao nt (sp_fr nt N) 63 a b))), y) := by
  have hN := h.2.1
  rw [wX1_isRightStatement_0_63 _ _ _ _ _ rfl]
  simp only [bX1_isRightStatement_177, sX1_isFree (show 2 ≤ d by omega) h, sX1_isA (show 3 ≤ d by omega) h, sX1_isOf (show 4 ≤ d by omega) h, sX1_isStatement (show 3 ≤ d by omega) h, sX1_isExpression (show 3 ≤ d by omega) h, sX1_isBetween (show 4 ≤ d by omega) h, sX1_isTarget (show 4 ≤ d by omega) h, sp_tg_eq hW.2.2, sX1_isThere (show 1 ≤ d by omega) h, sX1_elementOf (show 1 ≤ d by omega), sX1_isExpressionKind (show 1 ≤ d by omega), mj_rI_k, sp_b0, mj_gb_b, h.2.2.1, h.2.2.2.2.2.1]
  simp only [sp_ao]
  have hg : ∀ (k q : Int32) r, sp_fk nt (sp_fr nt N) k q = true → mj_g k 4000 r = r := fun k q r hq => mj_g_k (sp_nd_in hN (sp_fk_nd hq) (Nat.le_refl _)) r
  have hv : ∀ (k : Int32) r, ¬ sp_val nt (sp_fr nt N) k = 0 → mj_g k 4000 r = r := fun k r hq => mj_g_k (sp_nd_in hN (sp_val_nd hq) (Nat.le_refl _)) r
  have ht : ∀ (k : Int32) r, ¬ sp_tg nt (sp_fr nt N) k = 0 → mj_g k 4000 r = r := fun k r hq => mj_g_k (sp_nd_in hN (sp_tg_nd hq) (Nat.le_refl _)) r
  have hw : ∀ (k : Int32) r, sp_nd N k = true → mj_g k 4000 r = r := fun k r hq => mj_g_k (sp_nd_in hN hq (Nat.le_refl _)) r
  have f1 := sp_val_rng hW.2.2 a
  have f2 := sp_val_rng hW.2.2 b
  have f3 : ∀ k q, sp_fk nt (sp_fr nt N) k q = true → sp_E q = false → sp_val nt (sp_fr nt N) k = 0 := fun k q => sp_val_fk
  have f4 : ∀ k, ¬ sp_val nt (sp_fr nt N) k = 0 → nt 3 k.toNatClampNeg = sp_val nt (sp_fr nt N) k := fun k => sp_val_v
  have f5 : sp_val nt (sp_fr nt N) (-1) = 0 := sp_val_m1
  have f6 : ∀ k, ¬ sp_tg nt (sp_fr nt N) k = 0 → nt 3 k.toNatClampNeg = sp_tg nt (sp_fr nt N) k ∧ sp_tg nt (sp_fr nt N) k = sp_val nt (sp_fr nt N) k := fun k => sp_tg_v hW.2.2
  have f9 := sp_tg_4 hW.2.2 a
  have g2 := sp_E_eq hW.2.2 a
  have g1 : ∀ k q r, sp_fk nt (sp_fr nt N) k q = true → sp_fk nt (sp_fr nt N) k r = true → q = r := fun k q r => sp_fk_2
  have f7 : ∀ k, sp_nd N k = true → 0 ≤ nt 3 k.toNatClampNeg := fun k hk => (hW.2.2 k hk).1
  have f8 : ∀ k q, sp_fk nt (sp_fr nt N) k q = true → sp_nd N k = true := fun k q => sp_fk_nd
  have e5 : sp_E 5 = false := rfl
  have e49 : sp_E 49 = false := rfl
  have e33 : sp_E 33 = false := rfl
  simp <;> grind [sp_b, sp_isv, sp_i]
theorem tX1_a64 {d : Nat} (hd : 4 ≤ d) {y : mj_X} {nt : sp_NT} {N M : Nat} {par : Nat → Int32} (h : md_T y nt N) (hW : sp_W nt N M par) (a b : Int32) : kX1 (d + 1) 14 [.ref 0, .int 64, .int a, .int b] y = some (some (.int (sp_b (sp_ao nt (sp_fr nt N) 64 a b))), y) := by
  have hN := h.2.1
  rw [wX1_isRightStatement_0_64 _ _ _ _ _ rfl]
  simp only [bX1_isRightStatement_196, sX1_isFree (show 2 ≤ d by omega) h, sX1_isA (show 3 ≤ d by omega) h, sX1_isOf (show 4 ≤ d by omega) h, sX1_isStatement (show 3 ≤ d by omega) h, sX1_isExpression (show 3 ≤ d by omega) h, sX1_isBetween (show 4 ≤ d by omega) h, sX1_isTarget (show 4 ≤ d by omega) h, sp_tg_eq hW.2.2, sX1_isThere (show 1 ≤ d by omega) h, sX1_elementOf (show 1 ≤ d by omega), sX1_isExpressionKind (show 1 ≤ d by omega), mj_rI_k, sp_b0, mj_gb_b, h.2.2.1, h.2.2.2.2.2.1]
  simp only [sp_ao]
  have hg : ∀ (k q : Int32) r, sp_fk nt (sp_fr nt N) k q = true → mj_g k 4000 r = r := fun k q r hq => mj_g_k (sp_nd_in hN (sp_fk_nd hq) (Nat.le_refl _)) r
  have hv : ∀ (k : Int32) r, ¬ sp_val nt (sp_fr nt N) k = 0 → mj_g k 4000 r = r := fun k r hq => mj_g_k (sp_nd_in hN (sp_val_nd hq) (Nat.le_refl _)) r
  have ht : ∀ (k : Int32) r, ¬ sp_tg nt (sp_fr nt N) k = 0 → mj_g k 4000 r = r := fun k r hq => mj_g_k (sp_nd_in hN (sp_tg_nd hq) (Nat.le_refl _)) r
  have hw : ∀ (k : Int32) r, sp_nd N k = true → mj_g k 4000 r = r := fun k r hq => mj_g_k (sp_nd_in hN hq (Nat.le_refl _)) r
  have f1 := sp_val_rng hW.2.2 a
  have f2 := sp_val_rng hW.2.2 b
  have f3 : ∀ k q, sp_fk nt (sp_fr nt N) k q = true → sp_E q = false → sp_val nt (sp_fr nt N) k = 0 := fun k q => sp_val_fk
  have f4 : ∀ k, ¬ sp_val nt (sp_fr nt N) k = 0 → nt 3 k.toNatClampNeg = sp_val nt (sp_fr nt N) k := fun k => sp_val_v
  have f5 : sp_val nt (sp_fr nt N) (-1) = 0 := sp_val_m1
  have f6 : ∀ k, ¬ sp_tg nt (sp_fr nt N) k = 0 → nt 3 k.toNatClampNeg = sp_tg nt (sp_fr nt N) k ∧ sp_tg nt (sp_fr nt N) k = sp_val nt (sp_fr nt N) k := fun k => sp_tg_v hW.2.2
  have f9 := sp_tg_4 hW.2.2 a
  have g2 := sp_E_eq hW.2.2 a
  have g1 : ∀ k q r, sp_fk nt (sp_fr nt N) k q = true → sp_fk nt (sp_fr nt N) k r = true → q = r := fun k q r => sp_fk_2
  have f7 : ∀ k, sp_nd N k = true → 0 ≤ nt 3 k.toNatClampNeg := fun k hk => (hW.2.2 k hk).1
  have f8 : ∀ k q, sp_fk nt (sp_fr nt N) k q = true → sp_nd N k = true := fun k q => sp_fk_nd
  have e5 : sp_E 5 = false := rfl
  have e49 : sp_E 49 = false := rfl
  have e33 : sp_E 33 = false := rfl
  simp <;> grind [sp_b, sp_isv, sp_i]
theorem tX1_a65 {d : Nat} (hd : 4 ≤ d) {y : mj_X} {nt : sp_NT} {N M : Nat} {par : Nat → Int32} (h : md_T y nt N) (hW : sp_W nt N M par) (a b : Int32) : kX1 (d + 1) 14 [.ref 0, .int 65, .int a, .int b] y = some (some (.int (sp_b (sp_ao nt (sp_fr nt N) 65 a b))), y) := by
  have hN := h.2.1
  rw [wX1_isRightStatement_0_65 _ _ _ _ _ rfl]
  simp only [bX1_isRightStatement_219, sX1_isFree (show 2 ≤ d by omega) h, sX1_isA (show 3 ≤ d by omega) h, sX1_isOf (show 4 ≤ d by omega) h, sX1_isStatement (show 3 ≤ d by omega) h, sX1_isExpression (show 3 ≤ d by omega) h, sX1_isBetween (show 4 ≤ d by omega) h, sX1_isTarget (show 4 ≤ d by omega) h, sp_tg_eq hW.2.2, sX1_isThere (show 1 ≤ d by omega) h, sX1_elementOf (show 1 ≤ d by omega), sX1_isExpressionKind (show 1 ≤ d by omega), mj_rI_k, sp_b0, mj_gb_b, h.2.2.1, h.2.2.2.2.2.1]
  simp only [sp_ao]
  have hg : ∀ (k q : Int32) r, sp_fk nt (sp_fr nt N) k q = true → mj_g k 4000 r = r := fun k q r hq => mj_g_k (sp_nd_in hN (sp_fk_nd hq) (Nat.le_refl _)) r
  have hv : ∀ (k : Int32) r, ¬ sp_val nt (sp_fr nt N) k = 0 → mj_g k 4000 r = r := fun k r hq => mj_g_k (sp_nd_in hN (sp_val_nd hq) (Nat.le_refl _)) r
  have ht : ∀ (k : Int32) r, ¬ sp_tg nt (sp_fr nt N) k = 0 → mj_g k 4000 r = r := fun k r hq => mj_g_k (sp_nd_in hN (sp_tg_nd hq) (Nat.le_refl _)) r
  have hw : ∀ (k : Int32) r, sp_nd N k = true → mj_g k 4000 r = r := fun k r hq => mj_g_k (sp_nd_in hN hq (Nat.le_refl _)) r
  have f1 := sp_val_rng hW.2.2 a
  have f2 := sp_val_rng hW.2.2 b
  have f3 : ∀ k q, sp_fk nt (sp_fr nt N) k q = true → sp_E q = false → sp_val nt (sp_fr nt N) k = 0 := fun k q => sp_val_fk
  have f4 : ∀ k, ¬ sp_val nt (sp_fr nt N) k = 0 → nt 3 k.toNatClampNeg = sp_val nt (sp_fr nt N) k := fun k => sp_val_v
  have f5 : sp_val nt (sp_fr nt N) (-1) = 0 := sp_val_m1
  have f6 : ∀ k, ¬ sp_tg nt (sp_fr nt N) k = 0 → nt 3 k.toNatClampNeg = sp_tg nt (sp_fr nt N) k ∧ sp_tg nt (sp_fr nt N) k = sp_val nt (sp_fr nt N) k := fun k => sp_tg_v hW.2.2
  have f9 := sp_tg_4 hW.2.2 a
  have g2 := sp_E_eq hW.2.2 a
  have g1 : ∀ k q r, sp_fk nt (sp_fr nt N) k q = true → sp_fk nt (sp_fr nt N) k r = true → q = r := fun k q r => sp_fk_2
  have f7 : ∀ k, sp_nd N k = true → 0 ≤ nt 3 k.toNatClampNeg := fun k hk => (hW.2.2 k hk).1
  have f8 : ∀ k q, sp_fk nt (sp_fr nt N) k q = true → sp_nd N k = true := fun k q => sp_fk_nd
  have e5 : sp_E 5 = false := rfl
  have e49 : sp_E 49 = false := rfl
  have e33 : sp_E 33 = false := rfl
  simp <;> grind [sp_b, sp_isv, sp_i]
theorem tX1_a66 {d : Nat} (hd : 4 ≤ d) {y : mj_X} {nt : sp_NT} {N M : Nat} {par : Nat → Int32} (h : md_T y nt N) (hW : sp_W nt N M par) (a b : Int32) : kX1 (d + 1) 14 [.ref 0, .int 66, .int a, .int b] y = some (some (.int (sp_b (sp_ao nt (sp_fr nt N) 66 a b))), y) := by
  have hN := h.2.1
  rw [wX1_isRightStatement_0_66 _ _ _ _ _ rfl]
  simp only [bX1_isRightStatement_150, sX1_isFree (show 2 ≤ d by omega) h, sX1_isA (show 3 ≤ d by omega) h, sX1_isOf (show 4 ≤ d by omega) h, sX1_isStatement (show 3 ≤ d by omega) h, sX1_isExpression (show 3 ≤ d by omega) h, sX1_isBetween (show 4 ≤ d by omega) h, sX1_isTarget (show 4 ≤ d by omega) h, sp_tg_eq hW.2.2, sX1_isThere (show 1 ≤ d by omega) h, sX1_elementOf (show 1 ≤ d by omega), sX1_isExpressionKind (show 1 ≤ d by omega), mj_rI_k, sp_b0, mj_gb_b, h.2.2.1, h.2.2.2.2.2.1]
  simp only [sp_ao]
  have hg : ∀ (k q : Int32) r, sp_fk nt (sp_fr nt N) k q = true → mj_g k 4000 r = r := fun k q r hq => mj_g_k (sp_nd_in hN (sp_fk_nd hq) (Nat.le_refl _)) r
  have hv : ∀ (k : Int32) r, ¬ sp_val nt (sp_fr nt N) k = 0 → mj_g k 4000 r = r := fun k r hq => mj_g_k (sp_nd_in hN (sp_val_nd hq) (Nat.le_refl _)) r
  have ht : ∀ (k : Int32) r, ¬ sp_tg nt (sp_fr nt N) k = 0 → mj_g k 4000 r = r := fun k r hq => mj_g_k (sp_nd_in hN (sp_tg_nd hq) (Nat.le_refl _)) r
  have hw : ∀ (k : Int32) r, sp_nd N k = true → mj_g k 4000 r = r := fun k r hq => mj_g_k (sp_nd_in hN hq (Nat.le_refl _)) r
  have f1 := sp_val_rng hW.2.2 a
  have f2 := sp_val_rng hW.2.2 b
  have f3 : ∀ k q, sp_fk nt (sp_fr nt N) k q = true → sp_E q = false → sp_val nt (sp_fr nt N) k = 0 := fun k q => sp_val_fk
  have f4 : ∀ k, ¬ sp_val nt (sp_fr nt N) k = 0 → nt 3 k.toNatClampNeg = sp_val nt (sp_fr nt N) k := fun k => sp_val_v
  have f5 : sp_val nt (sp_fr nt N) (-1) = 0 := sp_val_m1
  have f6 : ∀ k, ¬ sp_tg nt (sp_fr nt N) k = 0 → nt 3 k.toNatClampNeg = sp_tg nt (sp_fr nt N) k ∧ sp_tg nt (sp_fr nt N) k = sp_val nt (sp_fr nt N) k := fun k => sp_tg_v hW.2.2
  have f9 := sp_tg_4 hW.2.2 a
  have g2 := sp_E_eq hW.2.2 a
  have g1 : ∀ k q r, sp_fk nt (sp_fr nt N) k q = true → sp_fk nt (sp_fr nt N) k r = true → q = r := fun k q r => sp_fk_2
  have f7 : ∀ k, sp_nd N k = true → 0 ≤ nt 3 k.toNatClampNeg := fun k hk => (hW.2.2 k hk).1
  have f8 : ∀ k q, sp_fk nt (sp_fr nt N) k q = true → sp_nd N k = true := fun k q => sp_fk_nd
  have e5 : sp_E 5 = false := rfl
  have e49 : sp_E 49 = false := rfl
  have e33 : sp_E 33 = false := rfl
  simp <;> grind [sp_b, sp_isv, sp_i]
theorem tX1_a67 {d : Nat} (hd : 4 ≤ d) {y : mj_X} {nt : sp_NT} {N M : Nat} {par : Nat → Int32} (h : md_T y nt N) (hW : sp_W nt N M par) (a b : Int32) : kX1 (d + 1) 14 [.ref 0, .int 67, .int a, .int b] y = some (some (.int (sp_b (sp_ao nt (sp_fr nt N) 67 a b))), y) := by
  have hN := h.2.1
  rw [wX1_isRightStatement_0_67 _ _ _ _ _ rfl]
  simp only [bX1_isRightStatement_196, sX1_isFree (show 2 ≤ d by omega) h, sX1_isA (show 3 ≤ d by omega) h, sX1_isOf (show 4 ≤ d by omega) h, sX1_isStatement (show 3 ≤ d by omega) h, sX1_isExpression (show 3 ≤ d by omega) h, sX1_isBetween (show 4 ≤ d by omega) h, sX1_isTarget (show 4 ≤ d by omega) h, sp_tg_eq hW.2.2, sX1_isThere (show 1 ≤ d by omega) h, sX1_elementOf (show 1 ≤ d by omega), sX1_isExpressionKind (show 1 ≤ d by omega), mj_rI_k, sp_b0, mj_gb_b, h.2.2.1, h.2.2.2.2.2.1]
  simp only [sp_ao]
  have hg : ∀ (k q : Int32) r, sp_fk nt (sp_fr nt N) k q = true → mj_g k 4000 r = r := fun k q r hq => mj_g_k (sp_nd_in hN (sp_fk_nd hq) (Nat.le_refl _)) r
  have hv : ∀ (k : Int32) r, ¬ sp_val nt (sp_fr nt N) k = 0 → mj_g k 4000 r = r := fun k r hq => mj_g_k (sp_nd_in hN (sp_val_nd hq) (Nat.le_refl _)) r
  have ht : ∀ (k : Int32) r, ¬ sp_tg nt (sp_fr nt N) k = 0 → mj_g k 4000 r = r := fun k r hq => mj_g_k (sp_nd_in hN (sp_tg_nd hq) (Nat.le_refl _)) r
  have hw : ∀ (k : Int32) r, sp_nd N k = true → mj_g k 4000 r = r := fun k r hq => mj_g_k (sp_nd_in hN hq (Nat.le_refl _)) r
  have f1 := sp_val_rng hW.2.2 a
  have f2 := sp_val_rng hW.2.2 b
  have f3 : ∀ k q, sp_fk nt (sp_fr nt N) k q = true → sp_E q = false → sp_val nt (sp_fr nt N) k = 0 := fun k q => sp_val_fk
  have f4 : ∀ k, ¬ sp_val nt (sp_fr nt N) k = 0 → nt 3 k.toNatClampNeg = sp_val nt (sp_fr nt N) k := fun k => sp_val_v
  have f5 : sp_val nt (sp_fr nt N) (-1) = 0 := sp_val_m1
  have f6 : ∀ k, ¬ sp_tg nt (sp_fr nt N) k = 0 → nt 3 k.toNatClampNeg = sp_tg nt (sp_fr nt N) k ∧ sp_tg nt (sp_fr nt N) k = sp_val nt (sp_fr nt N) k := fun k => sp_tg_v hW.2.2
  have f9 := sp_tg_4 hW.2.2 a
  have g2 := sp_E_eq hW.2.2 a
  have g1 : ∀ k q r, sp_fk nt (sp_fr nt N) k q = true → sp_fk nt (sp_fr nt N) k r = true → q = r := fun k q r => sp_fk_2
  have f7 : ∀ k, sp_nd N k = true → 0 ≤ nt 3 k.toNatClampNeg := fun k hk => (hW.2.2 k hk).1
  have f8 : ∀ k q, sp_fk nt (sp_fr nt N) k q = true → sp_nd N k = true := fun k q => sp_fk_nd
  have e5 : sp_E 5 = false := rfl
  have e49 : sp_E 49 = false := rfl
  have e33 : sp_E 33 = false := rfl
  simp <;> grind [sp_b, sp_isv, sp_i]
theorem tX1_a68 {d : Nat} (hd : 4 ≤ d) {y : mj_X} {nt : sp_NT} {N M : Nat} {par : Nat → Int32} (h : md_T y nt N) (hW : sp_W nt N M par) (a b : Int32) : kX1 (d + 1) 14 [.ref 0, .int 68, .int a, .int b] y = some (some (.int (sp_b (sp_ao nt (sp_fr nt N) 68 a b))), y) := by
  have hN := h.2.1
  rw [wX1_isRightStatement_0_68 _ _ _ _ _ rfl]
  simp only [bX1_isRightStatement_244, sX1_isFree (show 2 ≤ d by omega) h, sX1_isA (show 3 ≤ d by omega) h, sX1_isOf (show 4 ≤ d by omega) h, sX1_isStatement (show 3 ≤ d by omega) h, sX1_isExpression (show 3 ≤ d by omega) h, sX1_isBetween (show 4 ≤ d by omega) h, sX1_isTarget (show 4 ≤ d by omega) h, sp_tg_eq hW.2.2, sX1_isThere (show 1 ≤ d by omega) h, sX1_elementOf (show 1 ≤ d by omega), sX1_isExpressionKind (show 1 ≤ d by omega), mj_rI_k, sp_b0, mj_gb_b, h.2.2.1, h.2.2.2.2.2.1]
  simp only [sp_ao]
  have hg : ∀ (k q : Int32) r, sp_fk nt (sp_fr nt N) k q = true → mj_g k 4000 r = r := fun k q r hq => mj_g_k (sp_nd_in hN (sp_fk_nd hq) (Nat.le_refl _)) r
  have hv : ∀ (k : Int32) r, ¬ sp_val nt (sp_fr nt N) k = 0 → mj_g k 4000 r = r := fun k r hq => mj_g_k (sp_nd_in hN (sp_val_nd hq) (Nat.le_refl _)) r
  have ht : ∀ (k : Int32) r, ¬ sp_tg nt (sp_fr nt N) k = 0 → mj_g k 4000 r = r := fun k r hq => mj_g_k (sp_nd_in hN (sp_tg_nd hq) (Nat.le_refl _)) r
  have hw : ∀ (k : Int32) r, sp_nd N k = true → mj_g k 4000 r = r := fun k r hq => mj_g_k (sp_nd_in hN hq (Nat.le_refl _)) r
  have f1 := sp_val_rng hW.2.2 a
  have f2 := sp_val_rng hW.2.2 b
  have f3 : ∀ k q, sp_fk nt (sp_fr nt N) k q = true → sp_E q = false → sp_val nt (sp_fr nt N) k = 0 := fun k q => sp_val_fk
  have f4 : ∀ k, ¬ sp_val nt (sp_fr nt N) k = 0 → nt 3 k.toNatClampNeg = sp_val nt (sp_fr nt N) k := fun k => sp_val_v
  have f5 : sp_val nt (sp_fr nt N) (-1) = 0 := sp_val_m1
  have f6 : ∀ k, ¬ sp_tg nt (sp_fr nt N) k = 0 → nt 3 k.toNatClampNeg = sp_tg nt (sp_fr nt N) k ∧ sp_tg nt (sp_fr nt N) k = sp_val nt (sp_fr nt N) k := fun k => sp_tg_v hW.2.2
  have f9 := sp_tg_4 hW.2.2 a
  have g2 := sp_E_eq hW.2.2 a
  have g1 : ∀ k q r, sp_fk nt (sp_fr nt N) k q = true → sp_fk nt (sp_fr nt N) k r = true → q = r := fun k q r => sp_fk_2
  have f7 : ∀ k, sp_nd N k = true → 0 ≤ nt 3 k.toNatClampNeg := fun k hk => (hW.2.2 k hk).1
  have f8 : ∀ k q, sp_fk nt (sp_fr nt N) k q = true → sp_nd N k = true := fun k q => sp_fk_nd
  have e5 : sp_E 5 = false := rfl
  have e49 : sp_E 49 = false := rfl
  have e33 : sp_E 33 = false := rfl
  simp <;> grind [sp_b, sp_isv, sp_i]
theorem tX1_a69 {d : Nat} (hd : 4 ≤ d) {y : mj_X} {nt : sp_NT} {N M : Nat} {par : Nat → Int32} (h : md_T y nt N) (hW : sp_W nt N M par) (a b : Int32) : kX1 (d + 1) 14 [.ref 0, .int 69, .int a, .int b] y = some (some (.int (sp_b (sp_ao nt (sp_fr nt N) 69 a b))), y) := by
  have hN := h.2.1
  rw [wX1_isRightStatement_0_69 _ _ _ _ _ rfl]
  simp only [bX1_isRightStatement_267, sX1_isFree (show 2 ≤ d by omega) h, sX1_isA (show 3 ≤ d by omega) h, sX1_isOf (show 4 ≤ d by omega) h, sX1_isStatement (show 3 ≤ d by omega) h, sX1_isExpression (show 3 ≤ d by omega) h, sX1_isBetween (show 4 ≤ d by omega) h, sX1_isTarget (show 4 ≤ d by omega) h, sp_tg_eq hW.2.2, sX1_isThere (show 1 ≤ d by omega) h, sX1_elementOf (show 1 ≤ d by omega), sX1_isExpressionKind (show 1 ≤ d by omega), mj_rI_k, sp_b0, mj_gb_b, h.2.2.1, h.2.2.2.2.2.1]
  simp only [sp_ao]
  have hg : ∀ (k q : Int32) r, sp_fk nt (sp_fr nt N) k q = true → mj_g k 4000 r = r := fun k q r hq => mj_g_k (sp_nd_in hN (sp_fk_nd hq) (Nat.le_refl _)) r
  have hv : ∀ (k : Int32) r, ¬ sp_val nt (sp_fr nt N) k = 0 → mj_g k 4000 r = r := fun k r hq => mj_g_k (sp_nd_in hN (sp_val_nd hq) (Nat.le_refl _)) r
  have ht : ∀ (k : Int32) r, ¬ sp_tg nt (sp_fr nt N) k = 0 → mj_g k 4000 r = r := fun k r hq => mj_g_k (sp_nd_in hN (sp_tg_nd hq) (Nat.le_refl _)) r
  have hw : ∀ (k : Int32) r, sp_nd N k = true → mj_g k 4000 r = r := fun k r hq => mj_g_k (sp_nd_in hN hq (Nat.le_refl _)) r
  have f1 := sp_val_rng hW.2.2 a
  have f2 := sp_val_rng hW.2.2 b
  have f3 : ∀ k q, sp_fk nt (sp_fr nt N) k q = true → sp_E q = false → sp_val nt (sp_fr nt N) k = 0 := fun k q => sp_val_fk
  have f4 : ∀ k, ¬ sp_val nt (sp_fr nt N) k = 0 → nt 3 k.toNatClampNeg = sp_val nt (sp_fr nt N) k := fun k => sp_val_v
  have f5 : sp_val nt (sp_fr nt N) (-1) = 0 := sp_val_m1
  have f6 : ∀ k, ¬ sp_tg nt (sp_fr nt N) k = 0 → nt 3 k.toNatClampNeg = sp_tg nt (sp_fr nt N) k ∧ sp_tg nt (sp_fr nt N) k = sp_val nt (sp_fr nt N) k := fun k => sp_tg_v hW.2.2
  have f9 := sp_tg_4 hW.2.2 a
  have g2 := sp_E_eq hW.2.2 a
  have g1 : ∀ k q r, sp_fk nt (sp_fr nt N) k q = true → sp_fk nt (sp_fr nt N) k r = true → q = r := fun k q r => sp_fk_2
  have f7 : ∀ k, sp_nd N k = true → 0 ≤ nt 3 k.toNatClampNeg := fun k hk => (hW.2.2 k hk).1
  have f8 : ∀ k q, sp_fk nt (sp_fr nt N) k q = true → sp_nd N k = true := fun k q => sp_fk_nd
  have e5 : sp_E 5 = false := rfl
  have e49 : sp_E 49 = false := rfl
  have e33 : sp_E 33 = false := rfl
  simp <;> grind [sp_b, sp_isv, sp_i]
theorem tX1_a70 {d : Nat} (hd : 4 ≤ d) {y : mj_X} {nt : sp_NT} {N M : Nat} {par : Nat → Int32} (h : md_T y nt N) (hW : sp_W nt N M par) (a b : Int32) : kX1 (d + 1) 14 [.ref 0, .int 70, .int a, .int b] y = some (some (.int (sp_b (sp_ao nt (sp_fr nt N) 70 a b))), y) := by
  have hN := h.2.1
  rw [wX1_isRightStatement_0_70 _ _ _ _ _ rfl]
  simp only [bX1_isRightStatement_196, sX1_isFree (show 2 ≤ d by omega) h, sX1_isA (show 3 ≤ d by omega) h, sX1_isOf (show 4 ≤ d by omega) h, sX1_isStatement (show 3 ≤ d by omega) h, sX1_isExpression (show 3 ≤ d by omega) h, sX1_isBetween (show 4 ≤ d by omega) h, sX1_isTarget (show 4 ≤ d by omega) h, sp_tg_eq hW.2.2, sX1_isThere (show 1 ≤ d by omega) h, sX1_elementOf (show 1 ≤ d by omega), sX1_isExpressionKind (show 1 ≤ d by omega), mj_rI_k, sp_b0, mj_gb_b, h.2.2.1, h.2.2.2.2.2.1]
  simp only [sp_ao]
  have hg : ∀ (k q : Int32) r, sp_fk nt (sp_fr nt N) k q = true → mj_g k 4000 r = r := fun k q r hq => mj_g_k (sp_nd_in hN (sp_fk_nd hq) (Nat.le_refl _)) r
  have hv : ∀ (k : Int32) r, ¬ sp_val nt (sp_fr nt N) k = 0 → mj_g k 4000 r = r := fun k r hq => mj_g_k (sp_nd_in hN (sp_val_nd hq) (Nat.le_refl _)) r
  have ht : ∀ (k : Int32) r, ¬ sp_tg nt (sp_fr nt N) k = 0 → mj_g k 4000 r = r := fun k r hq => mj_g_k (sp_nd_in hN (sp_tg_nd hq) (Nat.le_refl _)) r
  have hw : ∀ (k : Int32) r, sp_nd N k = true → mj_g k 4000 r = r := fun k r hq => mj_g_k (sp_nd_in hN hq (Nat.le_refl _)) r
  have f1 := sp_val_rng hW.2.2 a
  have f2 := sp_val_rng hW.2.2 b
  have f3 : ∀ k q, sp_fk nt (sp_fr nt N) k q = true → sp_E q = false → sp_val nt (sp_fr nt N) k = 0 := fun k q => sp_val_fk
  have f4 : ∀ k, ¬ sp_val nt (sp_fr nt N) k = 0 → nt 3 k.toNatClampNeg = sp_val nt (sp_fr nt N) k := fun k => sp_val_v
  have f5 : sp_val nt (sp_fr nt N) (-1) = 0 := sp_val_m1
  have f6 : ∀ k, ¬ sp_tg nt (sp_fr nt N) k = 0 → nt 3 k.toNatClampNeg = sp_tg nt (sp_fr nt N) k ∧ sp_tg nt (sp_fr nt N) k = sp_val nt (sp_fr nt N) k := fun k => sp_tg_v hW.2.2
  have f9 := sp_tg_4 hW.2.2 a
  have g2 := sp_E_eq hW.2.2 a
  have g1 : ∀ k q r, sp_fk nt (sp_fr nt N) k q = true → sp_fk nt (sp_fr nt N) k r = true → q = r := fun k q r => sp_fk_2
  have f7 : ∀ k, sp_nd N k = true → 0 ≤ nt 3 k.toNatClampNeg := fun k hk => (hW.2.2 k hk).1
  have f8 : ∀ k q, sp_fk nt (sp_fr nt N) k q = true → sp_nd N k = true := fun k q => sp_fk_nd
  have e5 : sp_E 5 = false := rfl
  have e49 : sp_E 49 = false := rfl
  have e33 : sp_E 33 = false := rfl
  simp <;> grind [sp_b, sp_isv, sp_i]
theorem tX1_a71 {d : Nat} (hd : 4 ≤ d) {y : mj_X} {nt : sp_NT} {N M : Nat} {par : Nat → Int32} (h : md_T y nt N) (hW : sp_W nt N M par) (a b : Int32) : kX1 (d + 1) 14 [.ref 0, .int 71, .int a, .int b] y = some (some (.int (sp_b (sp_ao nt (sp_fr nt N) 71 a b))), y) := by
  have hN := h.2.1
  rw [wX1_isRightStatement_0_71 _ _ _ _ _ rfl]
  simp only [bX1_isRightStatement_291, sX1_isFree (show 2 ≤ d by omega) h, sX1_isA (show 3 ≤ d by omega) h, sX1_isOf (show 4 ≤ d by omega) h, sX1_isStatement (show 3 ≤ d by omega) h, sX1_isExpression (show 3 ≤ d by omega) h, sX1_isBetween (show 4 ≤ d by omega) h, sX1_isTarget (show 4 ≤ d by omega) h, sp_tg_eq hW.2.2, sX1_isThere (show 1 ≤ d by omega) h, sX1_elementOf (show 1 ≤ d by omega), sX1_isExpressionKind (show 1 ≤ d by omega), mj_rI_k, sp_b0, mj_gb_b, h.2.2.1, h.2.2.2.2.2.1]
  simp only [sp_ao]
  have hg : ∀ (k q : Int32) r, sp_fk nt (sp_fr nt N) k q = true → mj_g k 4000 r = r := fun k q r hq => mj_g_k (sp_nd_in hN (sp_fk_nd hq) (Nat.le_refl _)) r
  have hv : ∀ (k : Int32) r, ¬ sp_val nt (sp_fr nt N) k = 0 → mj_g k 4000 r = r := fun k r hq => mj_g_k (sp_nd_in hN (sp_val_nd hq) (Nat.le_refl _)) r
  have ht : ∀ (k : Int32) r, ¬ sp_tg nt (sp_fr nt N) k = 0 → mj_g k 4000 r = r := fun k r hq => mj_g_k (sp_nd_in hN (sp_tg_nd hq) (Nat.le_refl _)) r
  have hw : ∀ (k : Int32) r, sp_nd N k = true → mj_g k 4000 r = r := fun k r hq => mj_g_k (sp_nd_in hN hq (Nat.le_refl _)) r
  have f1 := sp_val_rng hW.2.2 a
  have f2 := sp_val_rng hW.2.2 b
  have f3 : ∀ k q, sp_fk nt (sp_fr nt N) k q = true → sp_E q = false → sp_val nt (sp_fr nt N) k = 0 := fun k q => sp_val_fk
  have f4 : ∀ k, ¬ sp_val nt (sp_fr nt N) k = 0 → nt 3 k.toNatClampNeg = sp_val nt (sp_fr nt N) k := fun k => sp_val_v
  have f5 : sp_val nt (sp_fr nt N) (-1) = 0 := sp_val_m1
  have f6 : ∀ k, ¬ sp_tg nt (sp_fr nt N) k = 0 → nt 3 k.toNatClampNeg = sp_tg nt (sp_fr nt N) k ∧ sp_tg nt (sp_fr nt N) k = sp_val nt (sp_fr nt N) k := fun k => sp_tg_v hW.2.2
  have f9 := sp_tg_4 hW.2.2 a
  have g2 := sp_E_eq hW.2.2 a
  have g1 : ∀ k q r, sp_fk nt (sp_fr nt N) k q = true → sp_fk nt (sp_fr nt N) k r = true → q = r := fun k q r => sp_fk_2
  have f7 : ∀ k, sp_nd N k = true → 0 ≤ nt 3 k.toNatClampNeg := fun k hk => (hW.2.2 k hk).1
  have f8 : ∀ k q, sp_fk nt (sp_fr nt N) k q = true → sp_nd N k = true := fun k q => sp_fk_nd
  have e5 : sp_E 5 = false := rfl
  have e49 : sp_E 49 = false := rfl
  have e33 : sp_E 33 = false := rfl
  simp <;> grind [sp_b, sp_isv, sp_i]
theorem tX1_a72 {d : Nat} (hd : 4 ≤ d) {y : mj_X} {nt : sp_NT} {N M : Nat} {par : Nat → Int32} (h : md_T y nt N) (hW : sp_W nt N M par) (a b : Int32) : kX1 (d + 1) 14 [.ref 0, .int 72, .int a, .int b] y = some (some (.int (sp_b (sp_ao nt (sp_fr nt N) 72 a b))), y) := by
  have hN := h.2.1
  rw [wX1_isRightStatement_0_72 _ _ _ _ _ rfl]
  simp only [bX1_isRightStatement_291, sX1_isFree (show 2 ≤ d by omega) h, sX1_isA (show 3 ≤ d by omega) h, sX1_isOf (show 4 ≤ d by omega) h, sX1_isStatement (show 3 ≤ d by omega) h, sX1_isExpression (show 3 ≤ d by omega) h, sX1_isBetween (show 4 ≤ d by omega) h, sX1_isTarget (show 4 ≤ d by omega) h, sp_tg_eq hW.2.2, sX1_isThere (show 1 ≤ d by omega) h, sX1_elementOf (show 1 ≤ d by omega), sX1_isExpressionKind (show 1 ≤ d by omega), mj_rI_k, sp_b0, mj_gb_b, h.2.2.1, h.2.2.2.2.2.1]
  simp only [sp_ao]
  have hg : ∀ (k q : Int32) r, sp_fk nt (sp_fr nt N) k q = true → mj_g k 4000 r = r := fun k q r hq => mj_g_k (sp_nd_in hN (sp_fk_nd hq) (Nat.le_refl _)) r
  have hv : ∀ (k : Int32) r, ¬ sp_val nt (sp_fr nt N) k = 0 → mj_g k 4000 r = r := fun k r hq => mj_g_k (sp_nd_in hN (sp_val_nd hq) (Nat.le_refl _)) r
  have ht : ∀ (k : Int32) r, ¬ sp_tg nt (sp_fr nt N) k = 0 → mj_g k 4000 r = r := fun k r hq => mj_g_k (sp_nd_in hN (sp_tg_nd hq) (Nat.le_refl _)) r
  have hw : ∀ (k : Int32) r, sp_nd N k = true → mj_g k 4000 r = r := fun k r hq => mj_g_k (sp_nd_in hN hq (Nat.le_refl _)) r
  have f1 := sp_val_rng hW.2.2 a
  have f2 := sp_val_rng hW.2.2 b
  have f3 : ∀ k q, sp_fk nt (sp_fr nt N) k q = true → sp_E q = false → sp_val nt (sp_fr nt N) k = 0 := fun k q => sp_val_fk
  have f4 : ∀ k, ¬ sp_val nt (sp_fr nt N) k = 0 → nt 3 k.toNatClampNeg = sp_val nt (sp_fr nt N) k := fun k => sp_val_v
  have f5 : sp_val nt (sp_fr nt N) (-1) = 0 := sp_val_m1
  have f6 : ∀ k, ¬ sp_tg nt (sp_fr nt N) k = 0 → nt 3 k.toNatClampNeg = sp_tg nt (sp_fr nt N) k ∧ sp_tg nt (sp_fr nt N) k = sp_val nt (sp_fr nt N) k := fun k => sp_tg_v hW.2.2
  have f9 := sp_tg_4 hW.2.2 a
  have g2 := sp_E_eq hW.2.2 a
  have g1 : ∀ k q r, sp_fk nt (sp_fr nt N) k q = true → sp_fk nt (sp_fr nt N) k r = true → q = r := fun k q r => sp_fk_2
  have f7 : ∀ k, sp_nd N k = true → 0 ≤ nt 3 k.toNatClampNeg := fun k hk => (hW.2.2 k hk).1
  have f8 : ∀ k q, sp_fk nt (sp_fr nt N) k q = true → sp_nd N k = true := fun k q => sp_fk_nd
  have e5 : sp_E 5 = false := rfl
  have e49 : sp_E 49 = false := rfl
  have e33 : sp_E 33 = false := rfl
  simp <;> grind [sp_b, sp_isv, sp_i]
theorem tX1_a73 {d : Nat} (hd : 4 ≤ d) {y : mj_X} {nt : sp_NT} {N M : Nat} {par : Nat → Int32} (h : md_T y nt N) (hW : sp_W nt N M par) (a b : Int32) : kX1 (d + 1) 14 [.ref 0, .int 73, .int a, .int b] y = some (some (.int (sp_b (sp_ao nt (sp_fr nt N) 73 a b))), y) := by
  have hN := h.2.1
  rw [wX1_isRightStatement_0_73 _ _ _ _ _ rfl]
  simp only [bX1_isRightStatement_306, sX1_isFree (show 2 ≤ d by omega) h, sX1_isA (show 3 ≤ d by omega) h, sX1_isOf (show 4 ≤ d by omega) h, sX1_isStatement (show 3 ≤ d by omega) h, sX1_isExpression (show 3 ≤ d by omega) h, sX1_isBetween (show 4 ≤ d by omega) h, sX1_isTarget (show 4 ≤ d by omega) h, sp_tg_eq hW.2.2, sX1_isThere (show 1 ≤ d by omega) h, sX1_elementOf (show 1 ≤ d by omega), sX1_isExpressionKind (show 1 ≤ d by omega), mj_rI_k, sp_b0, mj_gb_b, h.2.2.1, h.2.2.2.2.2.1]
  simp only [sp_ao]
  have hg : ∀ (k q : Int32) r, sp_fk nt (sp_fr nt N) k q = true → mj_g k 4000 r = r := fun k q r hq => mj_g_k (sp_nd_in hN (sp_fk_nd hq) (Nat.le_refl _)) r
  have hv : ∀ (k : Int32) r, ¬ sp_val nt (sp_fr nt N) k = 0 → mj_g k 4000 r = r := fun k r hq => mj_g_k (sp_nd_in hN (sp_val_nd hq) (Nat.le_refl _)) r
  have ht : ∀ (k : Int32) r, ¬ sp_tg nt (sp_fr nt N) k = 0 → mj_g k 4000 r = r := fun k r hq => mj_g_k (sp_nd_in hN (sp_tg_nd hq) (Nat.le_refl _)) r
  have hw : ∀ (k : Int32) r, sp_nd N k = true → mj_g k 4000 r = r := fun k r hq => mj_g_k (sp_nd_in hN hq (Nat.le_refl _)) r
  have f1 := sp_val_rng hW.2.2 a
  have f2 := sp_val_rng hW.2.2 b
  have f3 : ∀ k q, sp_fk nt (sp_fr nt N) k q = true → sp_E q = false → sp_val nt (sp_fr nt N) k = 0 := fun k q => sp_val_fk
  have f4 : ∀ k, ¬ sp_val nt (sp_fr nt N) k = 0 → nt 3 k.toNatClampNeg = sp_val nt (sp_fr nt N) k := fun k => sp_val_v
  have f5 : sp_val nt (sp_fr nt N) (-1) = 0 := sp_val_m1
  have f6 : ∀ k, ¬ sp_tg nt (sp_fr nt N) k = 0 → nt 3 k.toNatClampNeg = sp_tg nt (sp_fr nt N) k ∧ sp_tg nt (sp_fr nt N) k = sp_val nt (sp_fr nt N) k := fun k => sp_tg_v hW.2.2
  have f9 := sp_tg_4 hW.2.2 a
  have g2 := sp_E_eq hW.2.2 a
  have g1 : ∀ k q r, sp_fk nt (sp_fr nt N) k q = true → sp_fk nt (sp_fr nt N) k r = true → q = r := fun k q r => sp_fk_2
  have f7 : ∀ k, sp_nd N k = true → 0 ≤ nt 3 k.toNatClampNeg := fun k hk => (hW.2.2 k hk).1
  have f8 : ∀ k q, sp_fk nt (sp_fr nt N) k q = true → sp_nd N k = true := fun k q => sp_fk_nd
  have e5 : sp_E 5 = false := rfl
  have e49 : sp_E 49 = false := rfl
  have e33 : sp_E 33 = false := rfl
  simp <;> grind [sp_b, sp_isv, sp_i]
theorem tX1_a74 {d : Nat} (hd : 4 ≤ d) {y : mj_X} {nt : sp_NT} {N M : Nat} {par : Nat → Int32} (h : md_T y nt N) (hW : sp_W nt N M par) (a b : Int32) : kX1 (d + 1) 14 [.ref 0, .int 74, .int a, .int b] y = some (some (.int (sp_b (sp_ao nt (sp_fr nt N) 74 a b))), y) := by
  have hN := h.2.1
  rw [wX1_isRightStatement_0_74 _ _ _ _ _ rfl]
  simp only [bX1_isRightStatement_330, sX1_isFree (show 2 ≤ d by omega) h, sX1_isA (show 3 ≤ d by omega) h, sX1_isOf (show 4 ≤ d by omega) h, sX1_isStatement (show 3 ≤ d by omega) h, sX1_isExpression (show 3 ≤ d by omega) h, sX1_isBetween (show 4 ≤ d by omega) h, sX1_isTarget (show 4 ≤ d by omega) h, sp_tg_eq hW.2.2, sX1_isThere (show 1 ≤ d by omega) h, sX1_elementOf (show 1 ≤ d by omega), sX1_isExpressionKind (show 1 ≤ d by omega), mj_rI_k, sp_b0, mj_gb_b, h.2.2.1, h.2.2.2.2.2.1]
  simp only [sp_ao]
  have hg : ∀ (k q : Int32) r, sp_fk nt (sp_fr nt N) k q = true → mj_g k 4000 r = r := fun k q r hq => mj_g_k (sp_nd_in hN (sp_fk_nd hq) (Nat.le_refl _)) r
  have hv : ∀ (k : Int32) r, ¬ sp_val nt (sp_fr nt N) k = 0 → mj_g k 4000 r = r := fun k r hq => mj_g_k (sp_nd_in hN (sp_val_nd hq) (Nat.le_refl _)) r
  have ht : ∀ (k : Int32) r, ¬ sp_tg nt (sp_fr nt N) k = 0 → mj_g k 4000 r = r := fun k r hq => mj_g_k (sp_nd_in hN (sp_tg_nd hq) (Nat.le_refl _)) r
  have hw : ∀ (k : Int32) r, sp_nd N k = true → mj_g k 4000 r = r := fun k r hq => mj_g_k (sp_nd_in hN hq (Nat.le_refl _)) r
  have f1 := sp_val_rng hW.2.2 a
  have f2 := sp_val_rng hW.2.2 b
  have f3 : ∀ k q, sp_fk nt (sp_fr nt N) k q = true → sp_E q = false → sp_val nt (sp_fr nt N) k = 0 := fun k q => sp_val_fk
  have f4 : ∀ k, ¬ sp_val nt (sp_fr nt N) k = 0 → nt 3 k.toNatClampNeg = sp_val nt (sp_fr nt N) k := fun k => sp_val_v
  have f5 : sp_val nt (sp_fr nt N) (-1) = 0 := sp_val_m1
  have f6 : ∀ k, ¬ sp_tg nt (sp_fr nt N) k = 0 → nt 3 k.toNatClampNeg = sp_tg nt (sp_fr nt N) k ∧ sp_tg nt (sp_fr nt N) k = sp_val nt (sp_fr nt N) k := fun k => sp_tg_v hW.2.2
  have f9 := sp_tg_4 hW.2.2 a
  have g2 := sp_E_eq hW.2.2 a
  have g1 : ∀ k q r, sp_fk nt (sp_fr nt N) k q = true → sp_fk nt (sp_fr nt N) k r = true → q = r := fun k q r => sp_fk_2
  have f7 : ∀ k, sp_nd N k = true → 0 ≤ nt 3 k.toNatClampNeg := fun k hk => (hW.2.2 k hk).1
  have f8 : ∀ k q, sp_fk nt (sp_fr nt N) k q = true → sp_nd N k = true := fun k q => sp_fk_nd
  have e5 : sp_E 5 = false := rfl
  have e49 : sp_E 49 = false := rfl
  have e33 : sp_E 33 = false := rfl
  simp <;> grind [sp_b, sp_isv, sp_i]
theorem tX1_a75 {d : Nat} (hd : 4 ≤ d) {y : mj_X} {nt : sp_NT} {N M : Nat} {par : Nat → Int32} (h : md_T y nt N) (hW : sp_W nt N M par) (a b : Int32) : kX1 (d + 1) 14 [.ref 0, .int 75, .int a, .int b] y = some (some (.int (sp_b (sp_ao nt (sp_fr nt N) 75 a b))), y) := by
  have hN := h.2.1
  rw [wX1_isRightStatement_0_75 _ _ _ _ _ rfl]
  simp only [bX1_isRightStatement_350, sX1_isFree (show 2 ≤ d by omega) h, sX1_isA (show 3 ≤ d by omega) h, sX1_isOf (show 4 ≤ d by omega) h, sX1_isStatement (show 3 ≤ d by omega) h, sX1_isExpression (show 3 ≤ d by omega) h, sX1_isBetween (show 4 ≤ d by omega) h, sX1_isTarget (show 4 ≤ d by omega) h, sp_tg_eq hW.2.2, sX1_isThere (show 1 ≤ d by omega) h, sX1_elementOf (show 1 ≤ d by omega), sX1_isExpressionKind (show 1 ≤ d by omega), mj_rI_k, sp_b0, mj_gb_b, h.2.2.1, h.2.2.2.2.2.1]
  simp only [sp_ao]
  have hg : ∀ (k q : Int32) r, sp_fk nt (sp_fr nt N) k q = true → mj_g k 4000 r = r := fun k q r hq => mj_g_k (sp_nd_in hN (sp_fk_nd hq) (Nat.le_refl _)) r
  have hv : ∀ (k : Int32) r, ¬ sp_val nt (sp_fr nt N) k = 0 → mj_g k 4000 r = r := fun k r hq => mj_g_k (sp_nd_in hN (sp_val_nd hq) (Nat.le_refl _)) r
  have ht : ∀ (k : Int32) r, ¬ sp_tg nt (sp_fr nt N) k = 0 → mj_g k 4000 r = r := fun k r hq => mj_g_k (sp_nd_in hN (sp_tg_nd hq) (Nat.le_refl _)) r
  have hw : ∀ (k : Int32) r, sp_nd N k = true → mj_g k 4000 r = r := fun k r hq => mj_g_k (sp_nd_in hN hq (Nat.le_refl _)) r
  have f1 := sp_val_rng hW.2.2 a
  have f2 := sp_val_rng hW.2.2 b
  have f3 : ∀ k q, sp_fk nt (sp_fr nt N) k q = true → sp_E q = false → sp_val nt (sp_fr nt N) k = 0 := fun k q => sp_val_fk
  have f4 : ∀ k, ¬ sp_val nt (sp_fr nt N) k = 0 → nt 3 k.toNatClampNeg = sp_val nt (sp_fr nt N) k := fun k => sp_val_v
  have f5 : sp_val nt (sp_fr nt N) (-1) = 0 := sp_val_m1
  have f6 : ∀ k, ¬ sp_tg nt (sp_fr nt N) k = 0 → nt 3 k.toNatClampNeg = sp_tg nt (sp_fr nt N) k ∧ sp_tg nt (sp_fr nt N) k = sp_val nt (sp_fr nt N) k := fun k => sp_tg_v hW.2.2
  have f9 := sp_tg_4 hW.2.2 a
  have g2 := sp_E_eq hW.2.2 a
  have g1 : ∀ k q r, sp_fk nt (sp_fr nt N) k q = true → sp_fk nt (sp_fr nt N) k r = true → q = r := fun k q r => sp_fk_2
  have f7 : ∀ k, sp_nd N k = true → 0 ≤ nt 3 k.toNatClampNeg := fun k hk => (hW.2.2 k hk).1
  have f8 : ∀ k q, sp_fk nt (sp_fr nt N) k q = true → sp_nd N k = true := fun k q => sp_fk_nd
  have e5 : sp_E 5 = false := rfl
  have e49 : sp_E 49 = false := rfl
  have e33 : sp_E 33 = false := rfl
  simp <;> grind [sp_b, sp_isv, sp_i]
theorem tX1_a76 {d : Nat} (hd : 4 ≤ d) {y : mj_X} {nt : sp_NT} {N M : Nat} {par : Nat → Int32} (h : md_T y nt N) (hW : sp_W nt N M par) (a b : Int32) : kX1 (d + 1) 14 [.ref 0, .int 76, .int a, .int b] y = some (some (.int (sp_b (sp_ao nt (sp_fr nt N) 76 a b))), y) := by
  have hN := h.2.1
  rw [wX1_isRightStatement_0_76 _ _ _ _ _ rfl]
  simp only [bX1_isRightStatement_374, bX1_isRightStatement_394, sX1_isFree (show 2 ≤ d by omega) h, sX1_isA (show 3 ≤ d by omega) h, sX1_isOf (show 4 ≤ d by omega) h, sX1_isStatement (show 3 ≤ d by omega) h, sX1_isExpression (show 3 ≤ d by omega) h, sX1_isBetween (show 4 ≤ d by omega) h, sX1_isTarget (show 4 ≤ d by omega) h, sp_tg_eq hW.2.2, sX1_isThere (show 1 ≤ d by omega) h, sX1_elementOf (show 1 ≤ d by omega), sX1_isExpressionKind (show 1 ≤ d by omega), mj_rI_k, sp_b0, mj_gb_b, h.2.2.1, h.2.2.2.2.2.1]
  simp only [sp_ao]
  have hg : ∀ (k q : Int32) r, sp_fk nt (sp_fr nt N) k q = true → mj_g k 4000 r = r := fun k q r hq => mj_g_k (sp_nd_in hN (sp_fk_nd hq) (Nat.le_refl _)) r
  have hv : ∀ (k : Int32) r, ¬ sp_val nt (sp_fr nt N) k = 0 → mj_g k 4000 r = r := fun k r hq => mj_g_k (sp_nd_in hN (sp_val_nd hq) (Nat.le_refl _)) r
  have ht : ∀ (k : Int32) r, ¬ sp_tg nt (sp_fr nt N) k = 0 → mj_g k 4000 r = r := fun k r hq => mj_g_k (sp_nd_in hN (sp_tg_nd hq) (Nat.le_refl _)) r
  have hw : ∀ (k : Int32) r, sp_nd N k = true → mj_g k 4000 r = r := fun k r hq => mj_g_k (sp_nd_in hN hq (Nat.le_refl _)) r
  have f1 := sp_val_rng hW.2.2 a
  have f2 := sp_val_rng hW.2.2 b
  have f3 : ∀ k q, sp_fk nt (sp_fr nt N) k q = true → sp_E q = false → sp_val nt (sp_fr nt N) k = 0 := fun k q => sp_val_fk
  have f4 : ∀ k, ¬ sp_val nt (sp_fr nt N) k = 0 → nt 3 k.toNatClampNeg = sp_val nt (sp_fr nt N) k := fun k => sp_val_v
  have f5 : sp_val nt (sp_fr nt N) (-1) = 0 := sp_val_m1
  have f6 : ∀ k, ¬ sp_tg nt (sp_fr nt N) k = 0 → nt 3 k.toNatClampNeg = sp_tg nt (sp_fr nt N) k ∧ sp_tg nt (sp_fr nt N) k = sp_val nt (sp_fr nt N) k := fun k => sp_tg_v hW.2.2
  have f9 := sp_tg_4 hW.2.2 a
  have g2 := sp_E_eq hW.2.2 a
  have g1 : ∀ k q r, sp_fk nt (sp_fr nt N) k q = true → sp_fk nt (sp_fr nt N) k r = true → q = r := fun k q r => sp_fk_2
  have f7 : ∀ k, sp_nd N k = true → 0 ≤ nt 3 k.toNatClampNeg := fun k hk => (hW.2.2 k hk).1
  have f8 : ∀ k q, sp_fk nt (sp_fr nt N) k q = true → sp_nd N k = true := fun k q => sp_fk_nd
  have e5 : sp_E 5 = false := rfl
  have e49 : sp_E 49 = false := rfl
  have e33 : sp_E 33 = false := rfl
  simp <;> grind [sp_b, sp_isv, sp_i]
theorem tX1_a77 {d : Nat} (hd : 4 ≤ d) {y : mj_X} {nt : sp_NT} {N M : Nat} {par : Nat → Int32} (h : md_T y nt N) (hW : sp_W nt N M par) (a b : Int32) : kX1 (d + 1) 14 [.ref 0, .int 77, .int a, .int b] y = some (some (.int (sp_b (sp_ao nt (sp_fr nt N) 77 a b))), y) := by
  have hN := h.2.1
  rw [wX1_isRightStatement_0_77 _ _ _ _ _ rfl]
  simp only [bX1_isRightStatement_415, sX1_isFree (show 2 ≤ d by omega) h, sX1_isA (show 3 ≤ d by omega) h, sX1_isOf (show 4 ≤ d by omega) h, sX1_isStatement (show 3 ≤ d by omega) h, sX1_isExpression (show 3 ≤ d by omega) h, sX1_isBetween (show 4 ≤ d by omega) h, sX1_isTarget (show 4 ≤ d by omega) h, sp_tg_eq hW.2.2, sX1_isThere (show 1 ≤ d by omega) h, sX1_elementOf (show 1 ≤ d by omega), sX1_isExpressionKind (show 1 ≤ d by omega), mj_rI_k, sp_b0, mj_gb_b, h.2.2.1, h.2.2.2.2.2.1]
  simp only [sp_ao]
  have hg : ∀ (k q : Int32) r, sp_fk nt (sp_fr nt N) k q = true → mj_g k 4000 r = r := fun k q r hq => mj_g_k (sp_nd_in hN (sp_fk_nd hq) (Nat.le_refl _)) r
  have hv : ∀ (k : Int32) r, ¬ sp_val nt (sp_fr nt N) k = 0 → mj_g k 4000 r = r := fun k r hq => mj_g_k (sp_nd_in hN (sp_val_nd hq) (Nat.le_refl _)) r
  have ht : ∀ (k : Int32) r, ¬ sp_tg nt (sp_fr nt N) k = 0 → mj_g k 4000 r = r := fun k r hq => mj_g_k (sp_nd_in hN (sp_tg_nd hq) (Nat.le_refl _)) r
  have hw : ∀ (k : Int32) r, sp_nd N k = true → mj_g k 4000 r = r := fun k r hq => mj_g_k (sp_nd_in hN hq (Nat.le_refl _)) r
  have f1 := sp_val_rng hW.2.2 a
  have f2 := sp_val_rng hW.2.2 b
  have f3 : ∀ k q, sp_fk nt (sp_fr nt N) k q = true → sp_E q = false → sp_val nt (sp_fr nt N) k = 0 := fun k q => sp_val_fk
  have f4 : ∀ k, ¬ sp_val nt (sp_fr nt N) k = 0 → nt 3 k.toNatClampNeg = sp_val nt (sp_fr nt N) k := fun k => sp_val_v
  have f5 : sp_val nt (sp_fr nt N) (-1) = 0 := sp_val_m1
  have f6 : ∀ k, ¬ sp_tg nt (sp_fr nt N) k = 0 → nt 3 k.toNatClampNeg = sp_tg nt (sp_fr nt N) k ∧ sp_tg nt (sp_fr nt N) k = sp_val nt (sp_fr nt N) k := fun k => sp_tg_v hW.2.2
  have f9 := sp_tg_4 hW.2.2 a
  have g2 := sp_E_eq hW.2.2 a
  have g1 : ∀ k q r, sp_fk nt (sp_fr nt N) k q = true → sp_fk nt (sp_fr nt N) k r = true → q = r := fun k q r => sp_fk_2
  have f7 : ∀ k, sp_nd N k = true → 0 ≤ nt 3 k.toNatClampNeg := fun k hk => (hW.2.2 k hk).1
  have f8 : ∀ k q, sp_fk nt (sp_fr nt N) k q = true → sp_nd N k = true := fun k q => sp_fk_nd
  have e5 : sp_E 5 = false := rfl
  have e49 : sp_E 49 = false := rfl
  have e33 : sp_E 33 = false := rfl
  simp <;> grind [sp_b, sp_isv, sp_i]
theorem tX1_a78 {d : Nat} (hd : 4 ≤ d) {y : mj_X} {nt : sp_NT} {N M : Nat} {par : Nat → Int32} (h : md_T y nt N) (hW : sp_W nt N M par) (a b : Int32) : kX1 (d + 1) 14 [.ref 0, .int 78, .int a, .int b] y = some (some (.int (sp_b (sp_ao nt (sp_fr nt N) 78 a b))), y) := by
  have hN := h.2.1
  rw [wX1_isRightStatement_0_78 _ _ _ _ _ rfl]
  simp only [bX1_isRightStatement_439, sX1_isFree (show 2 ≤ d by omega) h, sX1_isA (show 3 ≤ d by omega) h, sX1_isOf (show 4 ≤ d by omega) h, sX1_isStatement (show 3 ≤ d by omega) h, sX1_isExpression (show 3 ≤ d by omega) h, sX1_isBetween (show 4 ≤ d by omega) h, sX1_isTarget (show 4 ≤ d by omega) h, sp_tg_eq hW.2.2, sX1_isThere (show 1 ≤ d by omega) h, sX1_elementOf (show 1 ≤ d by omega), sX1_isExpressionKind (show 1 ≤ d by omega), mj_rI_k, sp_b0, mj_gb_b, h.2.2.1, h.2.2.2.2.2.1]
  simp only [sp_ao]
  have hg : ∀ (k q : Int32) r, sp_fk nt (sp_fr nt N) k q = true → mj_g k 4000 r = r := fun k q r hq => mj_g_k (sp_nd_in hN (sp_fk_nd hq) (Nat.le_refl _)) r
  have hv : ∀ (k : Int32) r, ¬ sp_val nt (sp_fr nt N) k = 0 → mj_g k 4000 r = r := fun k r hq => mj_g_k (sp_nd_in hN (sp_val_nd hq) (Nat.le_refl _)) r
  have ht : ∀ (k : Int32) r, ¬ sp_tg nt (sp_fr nt N) k = 0 → mj_g k 4000 r = r := fun k r hq => mj_g_k (sp_nd_in hN (sp_tg_nd hq) (Nat.le_refl _)) r
  have hw : ∀ (k : Int32) r, sp_nd N k = true → mj_g k 4000 r = r := fun k r hq => mj_g_k (sp_nd_in hN hq (Nat.le_refl _)) r
  have f1 := sp_val_rng hW.2.2 a
  have f2 := sp_val_rng hW.2.2 b
  have f3 : ∀ k q, sp_fk nt (sp_fr nt N) k q = true → sp_E q = false → sp_val nt (sp_fr nt N) k = 0 := fun k q => sp_val_fk
  have f4 : ∀ k, ¬ sp_val nt (sp_fr nt N) k = 0 → nt 3 k.toNatClampNeg = sp_val nt (sp_fr nt N) k := fun k => sp_val_v
  have f5 : sp_val nt (sp_fr nt N) (-1) = 0 := sp_val_m1
  have f6 : ∀ k, ¬ sp_tg nt (sp_fr nt N) k = 0 → nt 3 k.toNatClampNeg = sp_tg nt (sp_fr nt N) k ∧ sp_tg nt (sp_fr nt N) k = sp_val nt (sp_fr nt N) k := fun k => sp_tg_v hW.2.2
  have f9 := sp_tg_4 hW.2.2 a
  have g2 := sp_E_eq hW.2.2 a
  have g1 : ∀ k q r, sp_fk nt (sp_fr nt N) k q = true → sp_fk nt (sp_fr nt N) k r = true → q = r := fun k q r => sp_fk_2
  have f7 : ∀ k, sp_nd N k = true → 0 ≤ nt 3 k.toNatClampNeg := fun k hk => (hW.2.2 k hk).1
  have f8 : ∀ k q, sp_fk nt (sp_fr nt N) k q = true → sp_nd N k = true := fun k q => sp_fk_nd
  have e5 : sp_E 5 = false := rfl
  have e49 : sp_E 49 = false := rfl
  have e33 : sp_E 33 = false := rfl
  simp <;> grind [sp_b, sp_isv, sp_i]
theorem tX1_a79 {d : Nat} (hd : 4 ≤ d) {y : mj_X} {nt : sp_NT} {N M : Nat} {par : Nat → Int32} (h : md_T y nt N) (hW : sp_W nt N M par) (a b : Int32) : kX1 (d + 1) 14 [.ref 0, .int 79, .int a, .int b] y = some (some (.int (sp_b (sp_ao nt (sp_fr nt N) 79 a b))), y) := by
  have hN := h.2.1
  rw [wX1_isRightStatement_0_79 _ _ _ _ _ rfl]
  simp only [bX1_isRightStatement_150, sX1_isFree (show 2 ≤ d by omega) h, sX1_isA (show 3 ≤ d by omega) h, sX1_isOf (show 4 ≤ d by omega) h, sX1_isStatement (show 3 ≤ d by omega) h, sX1_isExpression (show 3 ≤ d by omega) h, sX1_isBetween (show 4 ≤ d by omega) h, sX1_isTarget (show 4 ≤ d by omega) h, sp_tg_eq hW.2.2, sX1_isThere (show 1 ≤ d by omega) h, sX1_elementOf (show 1 ≤ d by omega), sX1_isExpressionKind (show 1 ≤ d by omega), mj_rI_k, sp_b0, mj_gb_b, h.2.2.1, h.2.2.2.2.2.1]
  simp only [sp_ao]
  have hg : ∀ (k q : Int32) r, sp_fk nt (sp_fr nt N) k q = true → mj_g k 4000 r = r := fun k q r hq => mj_g_k (sp_nd_in hN (sp_fk_nd hq) (Nat.le_refl _)) r
  have hv : ∀ (k : Int32) r, ¬ sp_val nt (sp_fr nt N) k = 0 → mj_g k 4000 r = r := fun k r hq => mj_g_k (sp_nd_in hN (sp_val_nd hq) (Nat.le_refl _)) r
  have ht : ∀ (k : Int32) r, ¬ sp_tg nt (sp_fr nt N) k = 0 → mj_g k 4000 r = r := fun k r hq => mj_g_k (sp_nd_in hN (sp_tg_nd hq) (Nat.le_refl _)) r
  have hw : ∀ (k : Int32) r, sp_nd N k = true → mj_g k 4000 r = r := fun k r hq => mj_g_k (sp_nd_in hN hq (Nat.le_refl _)) r
  have f1 := sp_val_rng hW.2.2 a
  have f2 := sp_val_rng hW.2.2 b
  have f3 : ∀ k q, sp_fk nt (sp_fr nt N) k q = true → sp_E q = false → sp_val nt (sp_fr nt N) k = 0 := fun k q => sp_val_fk
  have f4 : ∀ k, ¬ sp_val nt (sp_fr nt N) k = 0 → nt 3 k.toNatClampNeg = sp_val nt (sp_fr nt N) k := fun k => sp_val_v
  have f5 : sp_val nt (sp_fr nt N) (-1) = 0 := sp_val_m1
  have f6 : ∀ k, ¬ sp_tg nt (sp_fr nt N) k = 0 → nt 3 k.toNatClampNeg = sp_tg nt (sp_fr nt N) k ∧ sp_tg nt (sp_fr nt N) k = sp_val nt (sp_fr nt N) k := fun k => sp_tg_v hW.2.2
  have f9 := sp_tg_4 hW.2.2 a
  have g2 := sp_E_eq hW.2.2 a
  have g1 : ∀ k q r, sp_fk nt (sp_fr nt N) k q = true → sp_fk nt (sp_fr nt N) k r = true → q = r := fun k q r => sp_fk_2
  have f7 : ∀ k, sp_nd N k = true → 0 ≤ nt 3 k.toNatClampNeg := fun k hk => (hW.2.2 k hk).1
  have f8 : ∀ k q, sp_fk nt (sp_fr nt N) k q = true → sp_nd N k = true := fun k q => sp_fk_nd
  have e5 : sp_E 5 = false := rfl
  have e49 : sp_E 49 = false := rfl
  have e33 : sp_E 33 = false := rfl
  simp <;> grind [sp_b, sp_isv, sp_i]
theorem tX1_a80 {d : Nat} (hd : 4 ≤ d) {y : mj_X} {nt : sp_NT} {N M : Nat} {par : Nat → Int32} (h : md_T y nt N) (hW : sp_W nt N M par) (a b : Int32) : kX1 (d + 1) 14 [.ref 0, .int 80, .int a, .int b] y = some (some (.int (sp_b (sp_ao nt (sp_fr nt N) 80 a b))), y) := by
  have hN := h.2.1
  rw [wX1_isRightStatement_0_80 _ _ _ _ _ rfl]
  simp only [bX1_isRightStatement_474, sX1_isFree (show 2 ≤ d by omega) h, sX1_isA (show 3 ≤ d by omega) h, sX1_isOf (show 4 ≤ d by omega) h, sX1_isStatement (show 3 ≤ d by omega) h, sX1_isExpression (show 3 ≤ d by omega) h, sX1_isBetween (show 4 ≤ d by omega) h, sX1_isTarget (show 4 ≤ d by omega) h, sp_tg_eq hW.2.2, sX1_isThere (show 1 ≤ d by omega) h, sX1_elementOf (show 1 ≤ d by omega), sX1_isExpressionKind (show 1 ≤ d by omega), mj_rI_k, sp_b0, mj_gb_b, h.2.2.1, h.2.2.2.2.2.1]
  simp only [sp_ao]
  have hg : ∀ (k q : Int32) r, sp_fk nt (sp_fr nt N) k q = true → mj_g k 4000 r = r := fun k q r hq => mj_g_k (sp_nd_in hN (sp_fk_nd hq) (Nat.le_refl _)) r
  have hv : ∀ (k : Int32) r, ¬ sp_val nt (sp_fr nt N) k = 0 → mj_g k 4000 r = r := fun k r hq => mj_g_k (sp_nd_in hN (sp_val_nd hq) (Nat.le_refl _)) r
  have ht : ∀ (k : Int32) r, ¬ sp_tg nt (sp_fr nt N) k = 0 → mj_g k 4000 r = r := fun k r hq => mj_g_k (sp_nd_in hN (sp_tg_nd hq) (Nat.le_refl _)) r
  have hw : ∀ (k : Int32) r, sp_nd N k = true → mj_g k 4000 r = r := fun k r hq => mj_g_k (sp_nd_in hN hq (Nat.le_refl _)) r
  have f1 := sp_val_rng hW.2.2 a
  have f2 := sp_val_rng hW.2.2 b
  have f3 : ∀ k q, sp_fk nt (sp_fr nt N) k q = true → sp_E q = false → sp_val nt (sp_fr nt N) k = 0 := fun k q => sp_val_fk
  have f4 : ∀ k, ¬ sp_val nt (sp_fr nt N) k = 0 → nt 3 k.toNatClampNeg = sp_val nt (sp_fr nt N) k := fun k => sp_val_v
  have f5 : sp_val nt (sp_fr nt N) (-1) = 0 := sp_val_m1
  have f6 : ∀ k, ¬ sp_tg nt (sp_fr nt N) k = 0 → nt 3 k.toNatClampNeg = sp_tg nt (sp_fr nt N) k ∧ sp_tg nt (sp_fr nt N) k = sp_val nt (sp_fr nt N) k := fun k => sp_tg_v hW.2.2
  have f9 := sp_tg_4 hW.2.2 a
  have g2 := sp_E_eq hW.2.2 a
  have g1 : ∀ k q r, sp_fk nt (sp_fr nt N) k q = true → sp_fk nt (sp_fr nt N) k r = true → q = r := fun k q r => sp_fk_2
  have f7 : ∀ k, sp_nd N k = true → 0 ≤ nt 3 k.toNatClampNeg := fun k hk => (hW.2.2 k hk).1
  have f8 : ∀ k q, sp_fk nt (sp_fr nt N) k q = true → sp_nd N k = true := fun k q => sp_fk_nd
  have e5 : sp_E 5 = false := rfl
  have e49 : sp_E 49 = false := rfl
  have e33 : sp_E 33 = false := rfl
  simp <;> grind [sp_b, sp_isv, sp_i]
theorem tX1_a81 {d : Nat} (hd : 4 ≤ d) {y : mj_X} {nt : sp_NT} {N M : Nat} {par : Nat → Int32} (h : md_T y nt N) (hW : sp_W nt N M par) (a b : Int32) : kX1 (d + 1) 14 [.ref 0, .int 81, .int a, .int b] y = some (some (.int (sp_b (sp_ao nt (sp_fr nt N) 81 a b))), y) := by
  have hN := h.2.1
  rw [wX1_isRightStatement_0_81 _ _ _ _ _ rfl]
  simp only [bX1_isRightStatement_499, sX1_isFree (show 2 ≤ d by omega) h, sX1_isA (show 3 ≤ d by omega) h, sX1_isOf (show 4 ≤ d by omega) h, sX1_isStatement (show 3 ≤ d by omega) h, sX1_isExpression (show 3 ≤ d by omega) h, sX1_isBetween (show 4 ≤ d by omega) h, sX1_isTarget (show 4 ≤ d by omega) h, sp_tg_eq hW.2.2, sX1_isThere (show 1 ≤ d by omega) h, sX1_elementOf (show 1 ≤ d by omega), sX1_isExpressionKind (show 1 ≤ d by omega), mj_rI_k, sp_b0, mj_gb_b, h.2.2.1, h.2.2.2.2.2.1]
  simp only [sp_ao]
  have hg : ∀ (k q : Int32) r, sp_fk nt (sp_fr nt N) k q = true → mj_g k 4000 r = r := fun k q r hq => mj_g_k (sp_nd_in hN (sp_fk_nd hq) (Nat.le_refl _)) r
  have hv : ∀ (k : Int32) r, ¬ sp_val nt (sp_fr nt N) k = 0 → mj_g k 4000 r = r := fun k r hq => mj_g_k (sp_nd_in hN (sp_val_nd hq) (Nat.le_refl _)) r
  have ht : ∀ (k : Int32) r, ¬ sp_tg nt (sp_fr nt N) k = 0 → mj_g k 4000 r = r := fun k r hq => mj_g_k (sp_nd_in hN (sp_tg_nd hq) (Nat.le_refl _)) r
  have hw : ∀ (k : Int32) r, sp_nd N k = true → mj_g k 4000 r = r := fun k r hq => mj_g_k (sp_nd_in hN hq (Nat.le_refl _)) r
  have f1 := sp_val_rng hW.2.2 a
  have f2 := sp_val_rng hW.2.2 b
  have f3 : ∀ k q, sp_fk nt (sp_fr nt N) k q = true → sp_E q = false → sp_val nt (sp_fr nt N) k = 0 := fun k q => sp_val_fk
  have f4 : ∀ k, ¬ sp_val nt (sp_fr nt N) k = 0 → nt 3 k.toNatClampNeg = sp_val nt (sp_fr nt N) k := fun k => sp_val_v
  have f5 : sp_val nt (sp_fr nt N) (-1) = 0 := sp_val_m1
  have f6 : ∀ k, ¬ sp_tg nt (sp_fr nt N) k = 0 → nt 3 k.toNatClampNeg = sp_tg nt (sp_fr nt N) k ∧ sp_tg nt (sp_fr nt N) k = sp_val nt (sp_fr nt N) k := fun k => sp_tg_v hW.2.2
  have f9 := sp_tg_4 hW.2.2 a
  have g2 := sp_E_eq hW.2.2 a
  have g1 : ∀ k q r, sp_fk nt (sp_fr nt N) k q = true → sp_fk nt (sp_fr nt N) k r = true → q = r := fun k q r => sp_fk_2
  have f7 : ∀ k, sp_nd N k = true → 0 ≤ nt 3 k.toNatClampNeg := fun k hk => (hW.2.2 k hk).1
  have f8 : ∀ k q, sp_fk nt (sp_fr nt N) k q = true → sp_nd N k = true := fun k q => sp_fk_nd
  have e5 : sp_E 5 = false := rfl
  have e49 : sp_E 49 = false := rfl
  have e33 : sp_E 33 = false := rfl
  simp <;> grind [sp_b, sp_isv, sp_i]
theorem tX1_a83 {d : Nat} (hd : 4 ≤ d) {y : mj_X} {nt : sp_NT} {N M : Nat} {par : Nat → Int32} (h : md_T y nt N) (hW : sp_W nt N M par) (a b : Int32) : kX1 (d + 1) 14 [.ref 0, .int 83, .int a, .int b] y = some (some (.int (sp_b (sp_ao nt (sp_fr nt N) 83 a b))), y) := by
  have hN := h.2.1
  rw [wX1_isRightStatement_0_83 _ _ _ _ _ rfl]
  simp only [bX1_isRightStatement_574, sX1_isFree (show 2 ≤ d by omega) h, sX1_isA (show 3 ≤ d by omega) h, sX1_isOf (show 4 ≤ d by omega) h, sX1_isStatement (show 3 ≤ d by omega) h, sX1_isExpression (show 3 ≤ d by omega) h, sX1_isBetween (show 4 ≤ d by omega) h, sX1_isTarget (show 4 ≤ d by omega) h, sp_tg_eq hW.2.2, sX1_isThere (show 1 ≤ d by omega) h, sX1_elementOf (show 1 ≤ d by omega), sX1_isExpressionKind (show 1 ≤ d by omega), mj_rI_k, sp_b0, mj_gb_b, h.2.2.1, h.2.2.2.2.2.1]
  simp only [sp_ao]
  have hg : ∀ (k q : Int32) r, sp_fk nt (sp_fr nt N) k q = true → mj_g k 4000 r = r := fun k q r hq => mj_g_k (sp_nd_in hN (sp_fk_nd hq) (Nat.le_refl _)) r
  have hv : ∀ (k : Int32) r, ¬ sp_val nt (sp_fr nt N) k = 0 → mj_g k 4000 r = r := fun k r hq => mj_g_k (sp_nd_in hN (sp_val_nd hq) (Nat.le_refl _)) r
  have ht : ∀ (k : Int32) r, ¬ sp_tg nt (sp_fr nt N) k = 0 → mj_g k 4000 r = r := fun k r hq => mj_g_k (sp_nd_in hN (sp_tg_nd hq) (Nat.le_refl _)) r
  have hw : ∀ (k : Int32) r, sp_nd N k = true → mj_g k 4000 r = r := fun k r hq => mj_g_k (sp_nd_in hN hq (Nat.le_refl _)) r
  have f1 := sp_val_rng hW.2.2 a
  have f2 := sp_val_rng hW.2.2 b
  have f3 : ∀ k q, sp_fk nt (sp_fr nt N) k q = true → sp_E q = false → sp_val nt (sp_fr nt N) k = 0 := fun k q => sp_val_fk
  have f4 : ∀ k, ¬ sp_val nt (sp_fr nt N) k = 0 → nt 3 k.toNatClampNeg = sp_val nt (sp_fr nt N) k := fun k => sp_val_v
  have f5 : sp_val nt (sp_fr nt N) (-1) = 0 := sp_val_m1
  have f6 : ∀ k, ¬ sp_tg nt (sp_fr nt N) k = 0 → nt 3 k.toNatClampNeg = sp_tg nt (sp_fr nt N) k ∧ sp_tg nt (sp_fr nt N) k = sp_val nt (sp_fr nt N) k := fun k => sp_tg_v hW.2.2
  have f9 := sp_tg_4 hW.2.2 a
  have g2 := sp_E_eq hW.2.2 a
  have g1 : ∀ k q r, sp_fk nt (sp_fr nt N) k q = true → sp_fk nt (sp_fr nt N) k r = true → q = r := fun k q r => sp_fk_2
  have f7 : ∀ k, sp_nd N k = true → 0 ≤ nt 3 k.toNatClampNeg := fun k hk => (hW.2.2 k hk).1
  have f8 : ∀ k q, sp_fk nt (sp_fr nt N) k q = true → sp_nd N k = true := fun k q => sp_fk_nd
  have e5 : sp_E 5 = false := rfl
  have e49 : sp_E 49 = false := rfl
  have e33 : sp_E 33 = false := rfl
  simp <;> grind [sp_b, sp_isv, sp_i]
theorem tX1_a84 {d : Nat} (hd : 4 ≤ d) {y : mj_X} {nt : sp_NT} {N M : Nat} {par : Nat → Int32} (h : md_T y nt N) (hW : sp_W nt N M par) (a b : Int32) : kX1 (d + 1) 14 [.ref 0, .int 84, .int a, .int b] y = some (some (.int (sp_b (sp_ao nt (sp_fr nt N) 84 a b))), y) := by
  have hN := h.2.1
  rw [wX1_isRightStatement_0_84 _ _ _ _ _ rfl]
  simp only [bX1_isRightStatement_580, sX1_isFree (show 2 ≤ d by omega) h, sX1_isA (show 3 ≤ d by omega) h, sX1_isOf (show 4 ≤ d by omega) h, sX1_isStatement (show 3 ≤ d by omega) h, sX1_isExpression (show 3 ≤ d by omega) h, sX1_isBetween (show 4 ≤ d by omega) h, sX1_isTarget (show 4 ≤ d by omega) h, sp_tg_eq hW.2.2, sX1_isThere (show 1 ≤ d by omega) h, sX1_elementOf (show 1 ≤ d by omega), sX1_isExpressionKind (show 1 ≤ d by omega), mj_rI_k, sp_b0, mj_gb_b, h.2.2.1, h.2.2.2.2.2.1]
  simp only [sp_ao]
  have hg : ∀ (k q : Int32) r, sp_fk nt (sp_fr nt N) k q = true → mj_g k 4000 r = r := fun k q r hq => mj_g_k (sp_nd_in hN (sp_fk_nd hq) (Nat.le_refl _)) r
  have hv : ∀ (k : Int32) r, ¬ sp_val nt (sp_fr nt N) k = 0 → mj_g k 4000 r = r := fun k r hq => mj_g_k (sp_nd_in hN (sp_val_nd hq) (Nat.le_refl _)) r
  have ht : ∀ (k : Int32) r, ¬ sp_tg nt (sp_fr nt N) k = 0 → mj_g k 4000 r = r := fun k r hq => mj_g_k (sp_nd_in hN (sp_tg_nd hq) (Nat.le_refl _)) r
  have hw : ∀ (k : Int32) r, sp_nd N k = true → mj_g k 4000 r = r := fun k r hq => mj_g_k (sp_nd_in hN hq (Nat.le_refl _)) r
  have f1 := sp_val_rng hW.2.2 a
  have f2 := sp_val_rng hW.2.2 b
  have f3 : ∀ k q, sp_fk nt (sp_fr nt N) k q = true → sp_E q = false → sp_val nt (sp_fr nt N) k = 0 := fun k q => sp_val_fk
  have f4 : ∀ k, ¬ sp_val nt (sp_fr nt N) k = 0 → nt 3 k.toNatClampNeg = sp_val nt (sp_fr nt N) k := fun k => sp_val_v
  have f5 : sp_val nt (sp_fr nt N) (-1) = 0 := sp_val_m1
  have f6 : ∀ k, ¬ sp_tg nt (sp_fr nt N) k = 0 → nt 3 k.toNatClampNeg = sp_tg nt (sp_fr nt N) k ∧ sp_tg nt (sp_fr nt N) k = sp_val nt (sp_fr nt N) k := fun k => sp_tg_v hW.2.2
  have f9 := sp_tg_4 hW.2.2 a
  have g2 := sp_E_eq hW.2.2 a
  have g1 : ∀ k q r, sp_fk nt (sp_fr nt N) k q = true → sp_fk nt (sp_fr nt N) k r = true → q = r := fun k q r => sp_fk_2
  have f7 : ∀ k, sp_nd N k = true → 0 ≤ nt 3 k.toNatClampNeg := fun k hk => (hW.2.2 k hk).1
  have f8 : ∀ k q, sp_fk nt (sp_fr nt N) k q = true → sp_nd N k = true := fun k q => sp_fk_nd
  have e5 : sp_E 5 = false := rfl
  have e49 : sp_E 49 = false := rfl
  have e33 : sp_E 33 = false := rfl
  simp <;> grind [sp_b, sp_isv, sp_i]
theorem tX1_a85 {d : Nat} (hd : 4 ≤ d) {y : mj_X} {nt : sp_NT} {N M : Nat} {par : Nat → Int32} (h : md_T y nt N) (hW : sp_W nt N M par) (a b : Int32) : kX1 (d + 1) 14 [.ref 0, .int 85, .int a, .int b] y = some (some (.int (sp_b (sp_ao nt (sp_fr nt N) 85 a b))), y) := by
  have hN := h.2.1
  rw [wX1_isRightStatement_0_85 _ _ _ _ _ rfl]
  simp only [bX1_isRightStatement_599, sX1_isFree (show 2 ≤ d by omega) h, sX1_isA (show 3 ≤ d by omega) h, sX1_isOf (show 4 ≤ d by omega) h, sX1_isStatement (show 3 ≤ d by omega) h, sX1_isExpression (show 3 ≤ d by omega) h, sX1_isBetween (show 4 ≤ d by omega) h, sX1_isTarget (show 4 ≤ d by omega) h, sp_tg_eq hW.2.2, sX1_isThere (show 1 ≤ d by omega) h, sX1_elementOf (show 1 ≤ d by omega), sX1_isExpressionKind (show 1 ≤ d by omega), mj_rI_k, sp_b0, mj_gb_b, h.2.2.1, h.2.2.2.2.2.1]
  simp only [sp_ao]
  have hg : ∀ (k q : Int32) r, sp_fk nt (sp_fr nt N) k q = true → mj_g k 4000 r = r := fun k q r hq => mj_g_k (sp_nd_in hN (sp_fk_nd hq) (Nat.le_refl _)) r
  have hv : ∀ (k : Int32) r, ¬ sp_val nt (sp_fr nt N) k = 0 → mj_g k 4000 r = r := fun k r hq => mj_g_k (sp_nd_in hN (sp_val_nd hq) (Nat.le_refl _)) r
  have ht : ∀ (k : Int32) r, ¬ sp_tg nt (sp_fr nt N) k = 0 → mj_g k 4000 r = r := fun k r hq => mj_g_k (sp_nd_in hN (sp_tg_nd hq) (Nat.le_refl _)) r
  have hw : ∀ (k : Int32) r, sp_nd N k = true → mj_g k 4000 r = r := fun k r hq => mj_g_k (sp_nd_in hN hq (Nat.le_refl _)) r
  have f1 := sp_val_rng hW.2.2 a
  have f2 := sp_val_rng hW.2.2 b
  have f3 : ∀ k q, sp_fk nt (sp_fr nt N) k q = true → sp_E q = false → sp_val nt (sp_fr nt N) k = 0 := fun k q => sp_val_fk
  have f4 : ∀ k, ¬ sp_val nt (sp_fr nt N) k = 0 → nt 3 k.toNatClampNeg = sp_val nt (sp_fr nt N) k := fun k => sp_val_v
  have f5 : sp_val nt (sp_fr nt N) (-1) = 0 := sp_val_m1
  have f6 : ∀ k, ¬ sp_tg nt (sp_fr nt N) k = 0 → nt 3 k.toNatClampNeg = sp_tg nt (sp_fr nt N) k ∧ sp_tg nt (sp_fr nt N) k = sp_val nt (sp_fr nt N) k := fun k => sp_tg_v hW.2.2
  have f9 := sp_tg_4 hW.2.2 a
  have g2 := sp_E_eq hW.2.2 a
  have g1 : ∀ k q r, sp_fk nt (sp_fr nt N) k q = true → sp_fk nt (sp_fr nt N) k r = true → q = r := fun k q r => sp_fk_2
  have f7 : ∀ k, sp_nd N k = true → 0 ≤ nt 3 k.toNatClampNeg := fun k hk => (hW.2.2 k hk).1
  have f8 : ∀ k q, sp_fk nt (sp_fr nt N) k q = true → sp_nd N k = true := fun k q => sp_fk_nd
  have e5 : sp_E 5 = false := rfl
  have e49 : sp_E 49 = false := rfl
  have e33 : sp_E 33 = false := rfl
  simp <;> grind [sp_b, sp_isv, sp_i]
theorem tX1_a82 {d : Nat} (hd : 4 ≤ d) {y : mj_X} {nt : sp_NT} {N M : Nat} {par : Nat → Int32} (h : md_T y nt N) (hW : sp_W nt N M par) (a b : Int32) : kX1 (d + 1) 14 [.ref 0, .int 82, .int a, .int b] y = some (some (.int (sp_b (sp_ao nt (sp_fr nt N) 82 a b))), y) := by
  rw [wX1_isRightStatement_0_82 _ _ _ _ _ rfl]
  simp only [bX1_isRightStatement_524, bX1_isRightStatement_544, sX1_isA (show 3 ≤ d by omega) h, mj_rI_k, sp_b0]
  have key : sp_fk nt (sp_fr nt N) b 82 = true → sp_nd N a = true → kX1 d 16 [.ref 0, .int b, .int a] y = some (some (.int (sp_b (!(sp_chain nt 4001 b).all (sp_nw nt a)))), y) := by
    intro hb ha
    have hb2 := hb
    unfold sp_fk sp_fr at hb2
    simp only [Bool.and_eq_true, decide_eq_true_eq] at hb2
    obtain ⟨l, l1, l2⟩ := hW.of (Or.inr (Or.inr (Or.inl rfl))) hb2.1.1 hb2.2
    exact sX1_isCase (by omega) h ha l1 l2
  have k3 : sp_fk nt (sp_fr nt N) a 83 = true → sp_nd N a = true := sp_fk_nd
  have k4 : sp_fk nt (sp_fr nt N) a 84 = true → sp_nd N a = true := sp_fk_nd
  simp only [sp_ao]
  simp <;> grind [sp_b, mj_rI_k]
theorem tX1_r1 {d : Nat} (hd : 5 ≤ d) {y : mj_X} {nt : sp_NT} {N M : Nat} {res par : Nat → Int32} (h : md_T y nt N) (hM : md_M y M res par) (hW : sp_W nt N M par) (hR : ∀ m, m < M → 0 ≤ res m) (a b : Int32) : kX1 (d + 1) 5 [.ref 0, .int 1, .int a, .int b] y = some (some (.int (sp_b (!decide (sp_ty nt (sp_nd N) (sp_fr nt N) M res par 1 a b = -1)))), y) := by
  have hN := h.2.1
  have e0 : kX1 (d + 1) 5 [.ref 0, .int 1, .int a, .int b] y = rX1_isRight d (239, [some (.ref 0), some (.int 1), some (.int a), some (.int b), none, none], [], y) := by simp [eX1_isRight, bX1_isRight_12, bX1_isRight_59, bX1_isRight_106, bX1_isRight_148]
  rw [e0]
  rw [wX1_isRight_239_1 _ _ _ _ _ rfl]
  simp only [bX1_isRight_600, sX1_isFree (show 2 ≤ d by omega) h, sX1_isA (show 3 ≤ d by omega) h, sX1_isOf (show 4 ≤ d by omega) h, sX1_isStatement (show 3 ≤ d by omega) h, sX1_isExpression (show 3 ≤ d by omega) h, sX1_isBetween (show 4 ≤ d by omega) h, sX1_isTarget (show 4 ≤ d by omega) h, sp_tg_eq hW.2.2, sX1_isThere (show 1 ≤ d by omega) h, sX1_elementOf (show 1 ≤ d by omega), sX1_isExpressionKind (show 1 ≤ d by omega), mj_rI_k, sp_b0, mj_gb_b, h.2.2.1, h.2.2.2.2.2.1, sX1_isCall (show 4 ≤ d by omega) h hM hW, hM.2.2.1]
  have hg : ∀ (k q : Int32) r, sp_fk nt (sp_fr nt N) k q = true → mj_g k 4000 r = r := fun k q r hq => mj_g_k (sp_nd_in hN (sp_fk_nd hq) (Nat.le_refl _)) r
  have hv : ∀ (k : Int32) r, ¬ sp_val nt (sp_fr nt N) k = 0 → mj_g k 4000 r = r := fun k r hq => mj_g_k (sp_nd_in hN (sp_val_nd hq) (Nat.le_refl _)) r
  have ht : ∀ (k : Int32) r, ¬ sp_tg nt (sp_fr nt N) k = 0 → mj_g k 4000 r = r := fun k r hq => mj_g_k (sp_nd_in hN (sp_tg_nd hq) (Nat.le_refl _)) r
  have hw : ∀ (k : Int32) r, sp_nd N k = true → mj_g k 4000 r = r := fun k r hq => mj_g_k (sp_nd_in hN hq (Nat.le_refl _)) r
  have f1 := sp_val_rng hW.2.2 a
  have f2 := sp_val_rng hW.2.2 b
  have f3 : ∀ k q, sp_fk nt (sp_fr nt N) k q = true → sp_E q = false → sp_val nt (sp_fr nt N) k = 0 := fun k q => sp_val_fk
  have f4 : ∀ k, ¬ sp_val nt (sp_fr nt N) k = 0 → nt 3 k.toNatClampNeg = sp_val nt (sp_fr nt N) k := fun k => sp_val_v
  have f5 : sp_val nt (sp_fr nt N) (-1) = 0 := sp_val_m1
  have f6 : ∀ k, ¬ sp_tg nt (sp_fr nt N) k = 0 → nt 3 k.toNatClampNeg = sp_tg nt (sp_fr nt N) k ∧ sp_tg nt (sp_fr nt N) k = sp_val nt (sp_fr nt N) k := fun k => sp_tg_v hW.2.2
  have f9 := sp_tg_4 hW.2.2 a
  have g2 := sp_E_eq hW.2.2 a
  have g1 : ∀ k q r, sp_fk nt (sp_fr nt N) k q = true → sp_fk nt (sp_fr nt N) k r = true → q = r := fun k q r => sp_fk_2
  have f7 : ∀ k, sp_nd N k = true → 0 ≤ nt 3 k.toNatClampNeg := fun k hk => (hW.2.2 k hk).1
  have f8 : ∀ k q, sp_fk nt (sp_fr nt N) k q = true → sp_nd N k = true := fun k q => sp_fk_nd
  have e5 : sp_E 5 = false := rfl
  have e49 : sp_E 49 = false := rfl
  have e33 : sp_E 33 = false := rfl
  have hc : ∀ (g m : Int32) r, sp_call nt (sp_fr nt N) M par m g = true → mj_g m 40 r = r := fun g m r hq => mj_g_k (sp_call_in hM.2.1 hq) r
  have hc2 : ∀ (m g : Int32), sp_call nt (sp_fr nt N) M par m g = true → 0 ≤ res m.toNatClampNeg := fun m g hq => by
    unfold sp_call at hq
    simp only [Bool.and_eq_true] at hq
    obtain ⟨q1, q2⟩ := (sp_nd_iff (by have := hM.2.1; omega) m).mp hq.1.1
    exact hR _ (by show m.toInt.toNat < M; omega)
  simp only [sp_ty]
  simp <;> grind [sp_b, sp_isv, sp_i, sp_bin, sp_el, sp_ao]
theorem tX1_r2 {d : Nat} (hd : 5 ≤ d) {y : mj_X} {nt : sp_NT} {N M : Nat} {res par : Nat → Int32} (h : md_T y nt N) (hM : md_M y M res par) (hW : sp_W nt N M par) (hR : ∀ m, m < M → 0 ≤ res m) (a b : Int32) : kX1 (d + 1) 5 [.ref 0, .int 2, .int a, .int b] y = some (some (.int (sp_b (!decide (sp_ty nt (sp_nd N) (sp_fr nt N) M res par 2 a b = -1)))), y) := by
  have hN := h.2.1
  have e0 : kX1 (d + 1) 5 [.ref 0, .int 2, .int a, .int b] y = rX1_isRight d (239, [some (.ref 0), some (.int 2), some (.int a), some (.int b), none, none], [], y) := by simp [eX1_isRight, bX1_isRight_12, bX1_isRight_59, bX1_isRight_106, bX1_isRight_148]
  rw [e0]
  rw [wX1_isRight_239_2 _ _ _ _ _ rfl]
  simp only [bX1_isRight_611, sX1_isFree (show 2 ≤ d by omega) h, sX1_isA (show 3 ≤ d by omega) h, sX1_isOf (show 4 ≤ d by omega) h, sX1_isStatement (show 3 ≤ d by omega) h, sX1_isExpression (show 3 ≤ d by omega) h, sX1_isBetween (show 4 ≤ d by omega) h, sX1_isTarget (show 4 ≤ d by omega) h, sp_tg_eq hW.2.2, sX1_isThere (show 1 ≤ d by omega) h, sX1_elementOf (show 1 ≤ d by omega), sX1_isExpressionKind (show 1 ≤ d by omega), mj_rI_k, sp_b0, mj_gb_b, h.2.2.1, h.2.2.2.2.2.1, sX1_isCall (show 4 ≤ d by omega) h hM hW, hM.2.2.1]
  have hg : ∀ (k q : Int32) r, sp_fk nt (sp_fr nt N) k q = true → mj_g k 4000 r = r := fun k q r hq => mj_g_k (sp_nd_in hN (sp_fk_nd hq) (Nat.le_refl _)) r
  have hv : ∀ (k : Int32) r, ¬ sp_val nt (sp_fr nt N) k = 0 → mj_g k 4000 r = r := fun k r hq => mj_g_k (sp_nd_in hN (sp_val_nd hq) (Nat.le_refl _)) r
  have ht : ∀ (k : Int32) r, ¬ sp_tg nt (sp_fr nt N) k = 0 → mj_g k 4000 r = r := fun k r hq => mj_g_k (sp_nd_in hN (sp_tg_nd hq) (Nat.le_refl _)) r
  have hw : ∀ (k : Int32) r, sp_nd N k = true → mj_g k 4000 r = r := fun k r hq => mj_g_k (sp_nd_in hN hq (Nat.le_refl _)) r
  have f1 := sp_val_rng hW.2.2 a
  have f2 := sp_val_rng hW.2.2 b
  have f3 : ∀ k q, sp_fk nt (sp_fr nt N) k q = true → sp_E q = false → sp_val nt (sp_fr nt N) k = 0 := fun k q => sp_val_fk
  have f4 : ∀ k, ¬ sp_val nt (sp_fr nt N) k = 0 → nt 3 k.toNatClampNeg = sp_val nt (sp_fr nt N) k := fun k => sp_val_v
  have f5 : sp_val nt (sp_fr nt N) (-1) = 0 := sp_val_m1
  have f6 : ∀ k, ¬ sp_tg nt (sp_fr nt N) k = 0 → nt 3 k.toNatClampNeg = sp_tg nt (sp_fr nt N) k ∧ sp_tg nt (sp_fr nt N) k = sp_val nt (sp_fr nt N) k := fun k => sp_tg_v hW.2.2
  have f9 := sp_tg_4 hW.2.2 a
  have g2 := sp_E_eq hW.2.2 a
  have g1 : ∀ k q r, sp_fk nt (sp_fr nt N) k q = true → sp_fk nt (sp_fr nt N) k r = true → q = r := fun k q r => sp_fk_2
  have f7 : ∀ k, sp_nd N k = true → 0 ≤ nt 3 k.toNatClampNeg := fun k hk => (hW.2.2 k hk).1
  have f8 : ∀ k q, sp_fk nt (sp_fr nt N) k q = true → sp_nd N k = true := fun k q => sp_fk_nd
  have e5 : sp_E 5 = false := rfl
  have e49 : sp_E 49 = false := rfl
  have e33 : sp_E 33 = false := rfl
  have hc : ∀ (g m : Int32) r, sp_call nt (sp_fr nt N) M par m g = true → mj_g m 40 r = r := fun g m r hq => mj_g_k (sp_call_in hM.2.1 hq) r
  have hc2 : ∀ (m g : Int32), sp_call nt (sp_fr nt N) M par m g = true → 0 ≤ res m.toNatClampNeg := fun m g hq => by
    unfold sp_call at hq
    simp only [Bool.and_eq_true] at hq
    obtain ⟨q1, q2⟩ := (sp_nd_iff (by have := hM.2.1; omega) m).mp hq.1.1
    exact hR _ (by show m.toInt.toNat < M; omega)
  simp only [sp_ty]
  simp <;> grind [sp_b, sp_isv, sp_i, sp_bin, sp_el, sp_ao]
theorem tX1_r3 {d : Nat} (hd : 5 ≤ d) {y : mj_X} {nt : sp_NT} {N M : Nat} {res par : Nat → Int32} (h : md_T y nt N) (hM : md_M y M res par) (hW : sp_W nt N M par) (hR : ∀ m, m < M → 0 ≤ res m) (a b : Int32) : kX1 (d + 1) 5 [.ref 0, .int 3, .int a, .int b] y = some (some (.int (sp_b (!decide (sp_ty nt (sp_nd N) (sp_fr nt N) M res par 3 a b = -1)))), y) := by
  have hN := h.2.1
  have e0 : kX1 (d + 1) 5 [.ref 0, .int 3, .int a, .int b] y = rX1_isRight d (239, [some (.ref 0), some (.int 3), some (.int a), some (.int b), none, none], [], y) := by simp [eX1_isRight, bX1_isRight_12, bX1_isRight_59, bX1_isRight_106, bX1_isRight_148]
  rw [e0]
  rw [wX1_isRight_239_3 _ _ _ _ _ rfl]
  simp only [bX1_isRight_600, sX1_isFree (show 2 ≤ d by omega) h, sX1_isA (show 3 ≤ d by omega) h, sX1_isOf (show 4 ≤ d by omega) h, sX1_isStatement (show 3 ≤ d by omega) h, sX1_isExpression (show 3 ≤ d by omega) h, sX1_isBetween (show 4 ≤ d by omega) h, sX1_isTarget (show 4 ≤ d by omega) h, sp_tg_eq hW.2.2, sX1_isThere (show 1 ≤ d by omega) h, sX1_elementOf (show 1 ≤ d by omega), sX1_isExpressionKind (show 1 ≤ d by omega), mj_rI_k, sp_b0, mj_gb_b, h.2.2.1, h.2.2.2.2.2.1, sX1_isCall (show 4 ≤ d by omega) h hM hW, hM.2.2.1]
  have hg : ∀ (k q : Int32) r, sp_fk nt (sp_fr nt N) k q = true → mj_g k 4000 r = r := fun k q r hq => mj_g_k (sp_nd_in hN (sp_fk_nd hq) (Nat.le_refl _)) r
  have hv : ∀ (k : Int32) r, ¬ sp_val nt (sp_fr nt N) k = 0 → mj_g k 4000 r = r := fun k r hq => mj_g_k (sp_nd_in hN (sp_val_nd hq) (Nat.le_refl _)) r
  have ht : ∀ (k : Int32) r, ¬ sp_tg nt (sp_fr nt N) k = 0 → mj_g k 4000 r = r := fun k r hq => mj_g_k (sp_nd_in hN (sp_tg_nd hq) (Nat.le_refl _)) r
  have hw : ∀ (k : Int32) r, sp_nd N k = true → mj_g k 4000 r = r := fun k r hq => mj_g_k (sp_nd_in hN hq (Nat.le_refl _)) r
  have f1 := sp_val_rng hW.2.2 a
  have f2 := sp_val_rng hW.2.2 b
  have f3 : ∀ k q, sp_fk nt (sp_fr nt N) k q = true → sp_E q = false → sp_val nt (sp_fr nt N) k = 0 := fun k q => sp_val_fk
  have f4 : ∀ k, ¬ sp_val nt (sp_fr nt N) k = 0 → nt 3 k.toNatClampNeg = sp_val nt (sp_fr nt N) k := fun k => sp_val_v
  have f5 : sp_val nt (sp_fr nt N) (-1) = 0 := sp_val_m1
  have f6 : ∀ k, ¬ sp_tg nt (sp_fr nt N) k = 0 → nt 3 k.toNatClampNeg = sp_tg nt (sp_fr nt N) k ∧ sp_tg nt (sp_fr nt N) k = sp_val nt (sp_fr nt N) k := fun k => sp_tg_v hW.2.2
  have f9 := sp_tg_4 hW.2.2 a
  have g2 := sp_E_eq hW.2.2 a
  have g1 : ∀ k q r, sp_fk nt (sp_fr nt N) k q = true → sp_fk nt (sp_fr nt N) k r = true → q = r := fun k q r => sp_fk_2
  have f7 : ∀ k, sp_nd N k = true → 0 ≤ nt 3 k.toNatClampNeg := fun k hk => (hW.2.2 k hk).1
  have f8 : ∀ k q, sp_fk nt (sp_fr nt N) k q = true → sp_nd N k = true := fun k q => sp_fk_nd
  have e5 : sp_E 5 = false := rfl
  have e49 : sp_E 49 = false := rfl
  have e33 : sp_E 33 = false := rfl
  have hc : ∀ (g m : Int32) r, sp_call nt (sp_fr nt N) M par m g = true → mj_g m 40 r = r := fun g m r hq => mj_g_k (sp_call_in hM.2.1 hq) r
  have hc2 : ∀ (m g : Int32), sp_call nt (sp_fr nt N) M par m g = true → 0 ≤ res m.toNatClampNeg := fun m g hq => by
    unfold sp_call at hq
    simp only [Bool.and_eq_true] at hq
    obtain ⟨q1, q2⟩ := (sp_nd_iff (by have := hM.2.1; omega) m).mp hq.1.1
    exact hR _ (by show m.toInt.toNat < M; omega)
  simp only [sp_ty]
  simp <;> grind [sp_b, sp_isv, sp_i, sp_bin, sp_el, sp_ao]
theorem tX1_r4 {d : Nat} (hd : 5 ≤ d) {y : mj_X} {nt : sp_NT} {N M : Nat} {res par : Nat → Int32} (h : md_T y nt N) (hM : md_M y M res par) (hW : sp_W nt N M par) (hR : ∀ m, m < M → 0 ≤ res m) (a b : Int32) : kX1 (d + 1) 5 [.ref 0, .int 4, .int a, .int b] y = some (some (.int (sp_b (!decide (sp_ty nt (sp_nd N) (sp_fr nt N) M res par 4 a b = -1)))), y) := by
  have hN := h.2.1
  have e0 : kX1 (d + 1) 5 [.ref 0, .int 4, .int a, .int b] y = rX1_isRight d (239, [some (.ref 0), some (.int 4), some (.int a), some (.int b), none, none], [], y) := by simp [eX1_isRight, bX1_isRight_12, bX1_isRight_59, bX1_isRight_106, bX1_isRight_148]
  rw [e0]
  rw [wX1_isRight_239_4 _ _ _ _ _ rfl]
  simp only [bX1_isRight_611, sX1_isFree (show 2 ≤ d by omega) h, sX1_isA (show 3 ≤ d by omega) h, sX1_isOf (show 4 ≤ d by omega) h, sX1_isStatement (show 3 ≤ d by omega) h, sX1_isExpression (show 3 ≤ d by omega) h, sX1_isBetween (show 4 ≤ d by omega) h, sX1_isTarget (show 4 ≤ d by omega) h, sp_tg_eq hW.2.2, sX1_isThere (show 1 ≤ d by omega) h, sX1_elementOf (show 1 ≤ d by omega), sX1_isExpressionKind (show 1 ≤ d by omega), mj_rI_k, sp_b0, mj_gb_b, h.2.2.1, h.2.2.2.2.2.1, sX1_isCall (show 4 ≤ d by omega) h hM hW, hM.2.2.1]
  have hg : ∀ (k q : Int32) r, sp_fk nt (sp_fr nt N) k q = true → mj_g k 4000 r = r := fun k q r hq => mj_g_k (sp_nd_in hN (sp_fk_nd hq) (Nat.le_refl _)) r
  have hv : ∀ (k : Int32) r, ¬ sp_val nt (sp_fr nt N) k = 0 → mj_g k 4000 r = r := fun k r hq => mj_g_k (sp_nd_in hN (sp_val_nd hq) (Nat.le_refl _)) r
  have ht : ∀ (k : Int32) r, ¬ sp_tg nt (sp_fr nt N) k = 0 → mj_g k 4000 r = r := fun k r hq => mj_g_k (sp_nd_in hN (sp_tg_nd hq) (Nat.le_refl _)) r
  have hw : ∀ (k : Int32) r, sp_nd N k = true → mj_g k 4000 r = r := fun k r hq => mj_g_k (sp_nd_in hN hq (Nat.le_refl _)) r
  have f1 := sp_val_rng hW.2.2 a
  have f2 := sp_val_rng hW.2.2 b
  have f3 : ∀ k q, sp_fk nt (sp_fr nt N) k q = true → sp_E q = false → sp_val nt (sp_fr nt N) k = 0 := fun k q => sp_val_fk
  have f4 : ∀ k, ¬ sp_val nt (sp_fr nt N) k = 0 → nt 3 k.toNatClampNeg = sp_val nt (sp_fr nt N) k := fun k => sp_val_v
  have f5 : sp_val nt (sp_fr nt N) (-1) = 0 := sp_val_m1
  have f6 : ∀ k, ¬ sp_tg nt (sp_fr nt N) k = 0 → nt 3 k.toNatClampNeg = sp_tg nt (sp_fr nt N) k ∧ sp_tg nt (sp_fr nt N) k = sp_val nt (sp_fr nt N) k := fun k => sp_tg_v hW.2.2
  have f9 := sp_tg_4 hW.2.2 a
  have g2 := sp_E_eq hW.2.2 a
  have g1 : ∀ k q r, sp_fk nt (sp_fr nt N) k q = true → sp_fk nt (sp_fr nt N) k r = true → q = r := fun k q r => sp_fk_2
  have f7 : ∀ k, sp_nd N k = true → 0 ≤ nt 3 k.toNatClampNeg := fun k hk => (hW.2.2 k hk).1
  have f8 : ∀ k q, sp_fk nt (sp_fr nt N) k q = true → sp_nd N k = true := fun k q => sp_fk_nd
  have e5 : sp_E 5 = false := rfl
  have e49 : sp_E 49 = false := rfl
  have e33 : sp_E 33 = false := rfl
  have hc : ∀ (g m : Int32) r, sp_call nt (sp_fr nt N) M par m g = true → mj_g m 40 r = r := fun g m r hq => mj_g_k (sp_call_in hM.2.1 hq) r
  have hc2 : ∀ (m g : Int32), sp_call nt (sp_fr nt N) M par m g = true → 0 ≤ res m.toNatClampNeg := fun m g hq => by
    unfold sp_call at hq
    simp only [Bool.and_eq_true] at hq
    obtain ⟨q1, q2⟩ := (sp_nd_iff (by have := hM.2.1; omega) m).mp hq.1.1
    exact hR _ (by show m.toInt.toNat < M; omega)
  simp only [sp_ty]
  simp <;> grind [sp_b, sp_isv, sp_i, sp_bin, sp_el, sp_ao]
theorem tX1_r5 {d : Nat} (hd : 5 ≤ d) {y : mj_X} {nt : sp_NT} {N M : Nat} {res par : Nat → Int32} (h : md_T y nt N) (hM : md_M y M res par) (hW : sp_W nt N M par) (hR : ∀ m, m < M → 0 ≤ res m) (a b : Int32) : kX1 (d + 1) 5 [.ref 0, .int 5, .int a, .int b] y = some (some (.int (sp_b (!decide (sp_ty nt (sp_nd N) (sp_fr nt N) M res par 5 a b = -1)))), y) := by
  have hN := h.2.1
  have e0 : kX1 (d + 1) 5 [.ref 0, .int 5, .int a, .int b] y = rX1_isRight d (239, [some (.ref 0), some (.int 5), some (.int a), some (.int b), none, none], [], y) := by simp [eX1_isRight, bX1_isRight_12, bX1_isRight_59, bX1_isRight_106, bX1_isRight_148]
  rw [e0]
  rw [wX1_isRight_239_5 _ _ _ _ _ rfl]
  simp only [bX1_isRight_613, sX1_isFree (show 2 ≤ d by omega) h, sX1_isA (show 3 ≤ d by omega) h, sX1_isOf (show 4 ≤ d by omega) h, sX1_isStatement (show 3 ≤ d by omega) h, sX1_isExpression (show 3 ≤ d by omega) h, sX1_isBetween (show 4 ≤ d by omega) h, sX1_isTarget (show 4 ≤ d by omega) h, sp_tg_eq hW.2.2, sX1_isThere (show 1 ≤ d by omega) h, sX1_elementOf (show 1 ≤ d by omega), sX1_isExpressionKind (show 1 ≤ d by omega), mj_rI_k, sp_b0, mj_gb_b, h.2.2.1, h.2.2.2.2.2.1, sX1_isCall (show 4 ≤ d by omega) h hM hW, hM.2.2.1]
  have hg : ∀ (k q : Int32) r, sp_fk nt (sp_fr nt N) k q = true → mj_g k 4000 r = r := fun k q r hq => mj_g_k (sp_nd_in hN (sp_fk_nd hq) (Nat.le_refl _)) r
  have hv : ∀ (k : Int32) r, ¬ sp_val nt (sp_fr nt N) k = 0 → mj_g k 4000 r = r := fun k r hq => mj_g_k (sp_nd_in hN (sp_val_nd hq) (Nat.le_refl _)) r
  have ht : ∀ (k : Int32) r, ¬ sp_tg nt (sp_fr nt N) k = 0 → mj_g k 4000 r = r := fun k r hq => mj_g_k (sp_nd_in hN (sp_tg_nd hq) (Nat.le_refl _)) r
  have hw : ∀ (k : Int32) r, sp_nd N k = true → mj_g k 4000 r = r := fun k r hq => mj_g_k (sp_nd_in hN hq (Nat.le_refl _)) r
  have f1 := sp_val_rng hW.2.2 a
  have f2 := sp_val_rng hW.2.2 b
  have f3 : ∀ k q, sp_fk nt (sp_fr nt N) k q = true → sp_E q = false → sp_val nt (sp_fr nt N) k = 0 := fun k q => sp_val_fk
  have f4 : ∀ k, ¬ sp_val nt (sp_fr nt N) k = 0 → nt 3 k.toNatClampNeg = sp_val nt (sp_fr nt N) k := fun k => sp_val_v
  have f5 : sp_val nt (sp_fr nt N) (-1) = 0 := sp_val_m1
  have f6 : ∀ k, ¬ sp_tg nt (sp_fr nt N) k = 0 → nt 3 k.toNatClampNeg = sp_tg nt (sp_fr nt N) k ∧ sp_tg nt (sp_fr nt N) k = sp_val nt (sp_fr nt N) k := fun k => sp_tg_v hW.2.2
  have f9 := sp_tg_4 hW.2.2 a
  have g2 := sp_E_eq hW.2.2 a
  have g1 : ∀ k q r, sp_fk nt (sp_fr nt N) k q = true → sp_fk nt (sp_fr nt N) k r = true → q = r := fun k q r => sp_fk_2
  have f7 : ∀ k, sp_nd N k = true → 0 ≤ nt 3 k.toNatClampNeg := fun k hk => (hW.2.2 k hk).1
  have f8 : ∀ k q, sp_fk nt (sp_fr nt N) k q = true → sp_nd N k = true := fun k q => sp_fk_nd
  have e5 : sp_E 5 = false := rfl
  have e49 : sp_E 49 = false := rfl
  have e33 : sp_E 33 = false := rfl
  have hc : ∀ (g m : Int32) r, sp_call nt (sp_fr nt N) M par m g = true → mj_g m 40 r = r := fun g m r hq => mj_g_k (sp_call_in hM.2.1 hq) r
  have hc2 : ∀ (m g : Int32), sp_call nt (sp_fr nt N) M par m g = true → 0 ≤ res m.toNatClampNeg := fun m g hq => by
    unfold sp_call at hq
    simp only [Bool.and_eq_true] at hq
    obtain ⟨q1, q2⟩ := (sp_nd_iff (by have := hM.2.1; omega) m).mp hq.1.1
    exact hR _ (by show m.toInt.toNat < M; omega)
  simp only [sp_ty]
  simp <;> grind [sp_b, sp_isv, sp_i, sp_bin, sp_el, sp_ao]
theorem tX1_r6 {d : Nat} (hd : 5 ≤ d) {y : mj_X} {nt : sp_NT} {N M : Nat} {res par : Nat → Int32} (h : md_T y nt N) (hM : md_M y M res par) (hW : sp_W nt N M par) (hR : ∀ m, m < M → 0 ≤ res m) (a b : Int32) : kX1 (d + 1) 5 [.ref 0, .int 6, .int a, .int b] y = some (some (.int (sp_b (!decide (sp_ty nt (sp_nd N) (sp_fr nt N) M res par 6 a b = -1)))), y) := by
  have hN := h.2.1
  have e0 : kX1 (d + 1) 5 [.ref 0, .int 6, .int a, .int b] y = rX1_isRight d (239, [some (.ref 0), some (.int 6), some (.int a), some (.int b), none, none], [], y) := by simp [eX1_isRight, bX1_isRight_12, bX1_isRight_59, bX1_isRight_106, bX1_isRight_148]
  rw [e0]
  rw [wX1_isRight_239_6 _ _ _ _ _ rfl]
  simp only [bX1_isRight_692, sX1_isFree (show 2 ≤ d by omega) h, sX1_isA (show 3 ≤ d by omega) h, sX1_isOf (show 4 ≤ d by omega) h, sX1_isStatement (show 3 ≤ d by omega) h, sX1_isExpression (show 3 ≤ d by omega) h, sX1_isBetween (show 4 ≤ d by omega) h, sX1_isTarget (show 4 ≤ d by omega) h, sp_tg_eq hW.2.2, sX1_isThere (show 1 ≤ d by omega) h, sX1_elementOf (show 1 ≤ d by omega), sX1_isExpressionKind (show 1 ≤ d by omega), mj_rI_k, sp_b0, mj_gb_b, h.2.2.1, h.2.2.2.2.2.1, sX1_isCall (show 4 ≤ d by omega) h hM hW, hM.2.2.1]
  have hg : ∀ (k q : Int32) r, sp_fk nt (sp_fr nt N) k q = true → mj_g k 4000 r = r := fun k q r hq => mj_g_k (sp_nd_in hN (sp_fk_nd hq) (Nat.le_refl _)) r
  have hv : ∀ (k : Int32) r, ¬ sp_val nt (sp_fr nt N) k = 0 → mj_g k 4000 r = r := fun k r hq => mj_g_k (sp_nd_in hN (sp_val_nd hq) (Nat.le_refl _)) r
  have ht : ∀ (k : Int32) r, ¬ sp_tg nt (sp_fr nt N) k = 0 → mj_g k 4000 r = r := fun k r hq => mj_g_k (sp_nd_in hN (sp_tg_nd hq) (Nat.le_refl _)) r
  have hw : ∀ (k : Int32) r, sp_nd N k = true → mj_g k 4000 r = r := fun k r hq => mj_g_k (sp_nd_in hN hq (Nat.le_refl _)) r
  have f1 := sp_val_rng hW.2.2 a
  have f2 := sp_val_rng hW.2.2 b
  have f3 : ∀ k q, sp_fk nt (sp_fr nt N) k q = true → sp_E q = false → sp_val nt (sp_fr nt N) k = 0 := fun k q => sp_val_fk
  have f4 : ∀ k, ¬ sp_val nt (sp_fr nt N) k = 0 → nt 3 k.toNatClampNeg = sp_val nt (sp_fr nt N) k := fun k => sp_val_v
  have f5 : sp_val nt (sp_fr nt N) (-1) = 0 := sp_val_m1
  have f6 : ∀ k, ¬ sp_tg nt (sp_fr nt N) k = 0 → nt 3 k.toNatClampNeg = sp_tg nt (sp_fr nt N) k ∧ sp_tg nt (sp_fr nt N) k = sp_val nt (sp_fr nt N) k := fun k => sp_tg_v hW.2.2
  have f9 := sp_tg_4 hW.2.2 a
  have g2 := sp_E_eq hW.2.2 a
  have g1 : ∀ k q r, sp_fk nt (sp_fr nt N) k q = true → sp_fk nt (sp_fr nt N) k r = true → q = r := fun k q r => sp_fk_2
  have f7 : ∀ k, sp_nd N k = true → 0 ≤ nt 3 k.toNatClampNeg := fun k hk => (hW.2.2 k hk).1
  have f8 : ∀ k q, sp_fk nt (sp_fr nt N) k q = true → sp_nd N k = true := fun k q => sp_fk_nd
  have e5 : sp_E 5 = false := rfl
  have e49 : sp_E 49 = false := rfl
  have e33 : sp_E 33 = false := rfl
  have hc : ∀ (g m : Int32) r, sp_call nt (sp_fr nt N) M par m g = true → mj_g m 40 r = r := fun g m r hq => mj_g_k (sp_call_in hM.2.1 hq) r
  have hc2 : ∀ (m g : Int32), sp_call nt (sp_fr nt N) M par m g = true → 0 ≤ res m.toNatClampNeg := fun m g hq => by
    unfold sp_call at hq
    simp only [Bool.and_eq_true] at hq
    obtain ⟨q1, q2⟩ := (sp_nd_iff (by have := hM.2.1; omega) m).mp hq.1.1
    exact hR _ (by show m.toInt.toNat < M; omega)
  simp only [sp_ty]
  simp <;> grind [sp_b, sp_isv, sp_i, sp_bin, sp_el, sp_ao]
theorem tX1_r7 {d : Nat} (hd : 5 ≤ d) {y : mj_X} {nt : sp_NT} {N M : Nat} {res par : Nat → Int32} (h : md_T y nt N) (hM : md_M y M res par) (hW : sp_W nt N M par) (hR : ∀ m, m < M → 0 ≤ res m) (a b : Int32) : kX1 (d + 1) 5 [.ref 0, .int 7, .int a, .int b] y = some (some (.int (sp_b (!decide (sp_ty nt (sp_nd N) (sp_fr nt N) M res par 7 a b = -1)))), y) := by
  have hN := h.2.1
  have e0 : kX1 (d + 1) 5 [.ref 0, .int 7, .int a, .int b] y = rX1_isRight d (239, [some (.ref 0), some (.int 7), some (.int a), some (.int b), none, none], [], y) := by simp [eX1_isRight, bX1_isRight_12, bX1_isRight_59, bX1_isRight_106, bX1_isRight_148]
  rw [e0]
  rw [wX1_isRight_239_7 _ _ _ _ _ rfl]
  simp only [bX1_isRight_721, sX1_isFree (show 2 ≤ d by omega) h, sX1_isA (show 3 ≤ d by omega) h, sX1_isOf (show 4 ≤ d by omega) h, sX1_isStatement (show 3 ≤ d by omega) h, sX1_isExpression (show 3 ≤ d by omega) h, sX1_isBetween (show 4 ≤ d by omega) h, sX1_isTarget (show 4 ≤ d by omega) h, sp_tg_eq hW.2.2, sX1_isThere (show 1 ≤ d by omega) h, sX1_elementOf (show 1 ≤ d by omega), sX1_isExpressionKind (show 1 ≤ d by omega), mj_rI_k, sp_b0, mj_gb_b, h.2.2.1, h.2.2.2.2.2.1, sX1_isCall (show 4 ≤ d by omega) h hM hW, hM.2.2.1]
  have hg : ∀ (k q : Int32) r, sp_fk nt (sp_fr nt N) k q = true → mj_g k 4000 r = r := fun k q r hq => mj_g_k (sp_nd_in hN (sp_fk_nd hq) (Nat.le_refl _)) r
  have hv : ∀ (k : Int32) r, ¬ sp_val nt (sp_fr nt N) k = 0 → mj_g k 4000 r = r := fun k r hq => mj_g_k (sp_nd_in hN (sp_val_nd hq) (Nat.le_refl _)) r
  have ht : ∀ (k : Int32) r, ¬ sp_tg nt (sp_fr nt N) k = 0 → mj_g k 4000 r = r := fun k r hq => mj_g_k (sp_nd_in hN (sp_tg_nd hq) (Nat.le_refl _)) r
  have hw : ∀ (k : Int32) r, sp_nd N k = true → mj_g k 4000 r = r := fun k r hq => mj_g_k (sp_nd_in hN hq (Nat.le_refl _)) r
  have f1 := sp_val_rng hW.2.2 a
  have f2 := sp_val_rng hW.2.2 b
  have f3 : ∀ k q, sp_fk nt (sp_fr nt N) k q = true → sp_E q = false → sp_val nt (sp_fr nt N) k = 0 := fun k q => sp_val_fk
  have f4 : ∀ k, ¬ sp_val nt (sp_fr nt N) k = 0 → nt 3 k.toNatClampNeg = sp_val nt (sp_fr nt N) k := fun k => sp_val_v
  have f5 : sp_val nt (sp_fr nt N) (-1) = 0 := sp_val_m1
  have f6 : ∀ k, ¬ sp_tg nt (sp_fr nt N) k = 0 → nt 3 k.toNatClampNeg = sp_tg nt (sp_fr nt N) k ∧ sp_tg nt (sp_fr nt N) k = sp_val nt (sp_fr nt N) k := fun k => sp_tg_v hW.2.2
  have f9 := sp_tg_4 hW.2.2 a
  have g2 := sp_E_eq hW.2.2 a
  have g1 : ∀ k q r, sp_fk nt (sp_fr nt N) k q = true → sp_fk nt (sp_fr nt N) k r = true → q = r := fun k q r => sp_fk_2
  have f7 : ∀ k, sp_nd N k = true → 0 ≤ nt 3 k.toNatClampNeg := fun k hk => (hW.2.2 k hk).1
  have f8 : ∀ k q, sp_fk nt (sp_fr nt N) k q = true → sp_nd N k = true := fun k q => sp_fk_nd
  have e5 : sp_E 5 = false := rfl
  have e49 : sp_E 49 = false := rfl
  have e33 : sp_E 33 = false := rfl
  have hc : ∀ (g m : Int32) r, sp_call nt (sp_fr nt N) M par m g = true → mj_g m 40 r = r := fun g m r hq => mj_g_k (sp_call_in hM.2.1 hq) r
  have hc2 : ∀ (m g : Int32), sp_call nt (sp_fr nt N) M par m g = true → 0 ≤ res m.toNatClampNeg := fun m g hq => by
    unfold sp_call at hq
    simp only [Bool.and_eq_true] at hq
    obtain ⟨q1, q2⟩ := (sp_nd_iff (by have := hM.2.1; omega) m).mp hq.1.1
    exact hR _ (by show m.toInt.toNat < M; omega)
  simp only [sp_ty]
  simp <;> grind [sp_b, sp_isv, sp_i, sp_bin, sp_el, sp_ao]
theorem tX1_r8 {d : Nat} (hd : 5 ≤ d) {y : mj_X} {nt : sp_NT} {N M : Nat} {res par : Nat → Int32} (h : md_T y nt N) (hM : md_M y M res par) (hW : sp_W nt N M par) (hR : ∀ m, m < M → 0 ≤ res m) (a b : Int32) : kX1 (d + 1) 5 [.ref 0, .int 8, .int a, .int b] y = some (some (.int (sp_b (!decide (sp_ty nt (sp_nd N) (sp_fr nt N) M res par 8 a b = -1)))), y) := by
  have hN := h.2.1
  have e0 : kX1 (d + 1) 5 [.ref 0, .int 8, .int a, .int b] y = rX1_isRight d (239, [some (.ref 0), some (.int 8), some (.int a), some (.int b), none, none], [], y) := by simp [eX1_isRight, bX1_isRight_12, bX1_isRight_59, bX1_isRight_106, bX1_isRight_148]
  rw [e0]
  rw [wX1_isRight_239_8 _ _ _ _ _ rfl]
  simp only [bX1_isRight_759, sX1_isFree (show 2 ≤ d by omega) h, sX1_isA (show 3 ≤ d by omega) h, sX1_isOf (show 4 ≤ d by omega) h, sX1_isStatement (show 3 ≤ d by omega) h, sX1_isExpression (show 3 ≤ d by omega) h, sX1_isBetween (show 4 ≤ d by omega) h, sX1_isTarget (show 4 ≤ d by omega) h, sp_tg_eq hW.2.2, sX1_isThere (show 1 ≤ d by omega) h, sX1_elementOf (show 1 ≤ d by omega), sX1_isExpressionKind (show 1 ≤ d by omega), mj_rI_k, sp_b0, mj_gb_b, h.2.2.1, h.2.2.2.2.2.1, sX1_isCall (show 4 ≤ d by omega) h hM hW, hM.2.2.1]
  have hg : ∀ (k q : Int32) r, sp_fk nt (sp_fr nt N) k q = true → mj_g k 4000 r = r := fun k q r hq => mj_g_k (sp_nd_in hN (sp_fk_nd hq) (Nat.le_refl _)) r
  have hv : ∀ (k : Int32) r, ¬ sp_val nt (sp_fr nt N) k = 0 → mj_g k 4000 r = r := fun k r hq => mj_g_k (sp_nd_in hN (sp_val_nd hq) (Nat.le_refl _)) r
  have ht : ∀ (k : Int32) r, ¬ sp_tg nt (sp_fr nt N) k = 0 → mj_g k 4000 r = r := fun k r hq => mj_g_k (sp_nd_in hN (sp_tg_nd hq) (Nat.le_refl _)) r
  have hw : ∀ (k : Int32) r, sp_nd N k = true → mj_g k 4000 r = r := fun k r hq => mj_g_k (sp_nd_in hN hq (Nat.le_refl _)) r
  have f1 := sp_val_rng hW.2.2 a
  have f2 := sp_val_rng hW.2.2 b
  have f3 : ∀ k q, sp_fk nt (sp_fr nt N) k q = true → sp_E q = false → sp_val nt (sp_fr nt N) k = 0 := fun k q => sp_val_fk
  have f4 : ∀ k, ¬ sp_val nt (sp_fr nt N) k = 0 → nt 3 k.toNatClampNeg = sp_val nt (sp_fr nt N) k := fun k => sp_val_v
  have f5 : sp_val nt (sp_fr nt N) (-1) = 0 := sp_val_m1
  have f6 : ∀ k, ¬ sp_tg nt (sp_fr nt N) k = 0 → nt 3 k.toNatClampNeg = sp_tg nt (sp_fr nt N) k ∧ sp_tg nt (sp_fr nt N) k = sp_val nt (sp_fr nt N) k := fun k => sp_tg_v hW.2.2
  have f9 := sp_tg_4 hW.2.2 a
  have g2 := sp_E_eq hW.2.2 a
  have g1 : ∀ k q r, sp_fk nt (sp_fr nt N) k q = true → sp_fk nt (sp_fr nt N) k r = true → q = r := fun k q r => sp_fk_2
  have f7 : ∀ k, sp_nd N k = true → 0 ≤ nt 3 k.toNatClampNeg := fun k hk => (hW.2.2 k hk).1
  have f8 : ∀ k q, sp_fk nt (sp_fr nt N) k q = true → sp_nd N k = true := fun k q => sp_fk_nd
  have e5 : sp_E 5 = false := rfl
  have e49 : sp_E 49 = false := rfl
  have e33 : sp_E 33 = false := rfl
  have hc : ∀ (g m : Int32) r, sp_call nt (sp_fr nt N) M par m g = true → mj_g m 40 r = r := fun g m r hq => mj_g_k (sp_call_in hM.2.1 hq) r
  have hc2 : ∀ (m g : Int32), sp_call nt (sp_fr nt N) M par m g = true → 0 ≤ res m.toNatClampNeg := fun m g hq => by
    unfold sp_call at hq
    simp only [Bool.and_eq_true] at hq
    obtain ⟨q1, q2⟩ := (sp_nd_iff (by have := hM.2.1; omega) m).mp hq.1.1
    exact hR _ (by show m.toInt.toNat < M; omega)
  simp only [sp_ty]
  simp <;> grind [sp_b, sp_isv, sp_i, sp_bin, sp_el, sp_ao]
theorem tX1_r9 {d : Nat} (hd : 5 ≤ d) {y : mj_X} {nt : sp_NT} {N M : Nat} {res par : Nat → Int32} (h : md_T y nt N) (hM : md_M y M res par) (hW : sp_W nt N M par) (hR : ∀ m, m < M → 0 ≤ res m) (a b : Int32) : kX1 (d + 1) 5 [.ref 0, .int 9, .int a, .int b] y = some (some (.int (sp_b (!decide (sp_ty nt (sp_nd N) (sp_fr nt N) M res par 9 a b = -1)))), y) := by
  have hN := h.2.1
  have e0 : kX1 (d + 1) 5 [.ref 0, .int 9, .int a, .int b] y = rX1_isRight d (239, [some (.ref 0), some (.int 9), some (.int a), some (.int b), none, none], [], y) := by simp [eX1_isRight, bX1_isRight_12, bX1_isRight_59, bX1_isRight_106, bX1_isRight_148]
  rw [e0]
  rw [wX1_isRight_239_9 _ _ _ _ _ rfl]
  simp only [bX1_isRight_790, sX1_isFree (show 2 ≤ d by omega) h, sX1_isA (show 3 ≤ d by omega) h, sX1_isOf (show 4 ≤ d by omega) h, sX1_isStatement (show 3 ≤ d by omega) h, sX1_isExpression (show 3 ≤ d by omega) h, sX1_isBetween (show 4 ≤ d by omega) h, sX1_isTarget (show 4 ≤ d by omega) h, sp_tg_eq hW.2.2, sX1_isThere (show 1 ≤ d by omega) h, sX1_elementOf (show 1 ≤ d by omega), sX1_isExpressionKind (show 1 ≤ d by omega), mj_rI_k, sp_b0, mj_gb_b, h.2.2.1, h.2.2.2.2.2.1, sX1_isCall (show 4 ≤ d by omega) h hM hW, hM.2.2.1]
  have hg : ∀ (k q : Int32) r, sp_fk nt (sp_fr nt N) k q = true → mj_g k 4000 r = r := fun k q r hq => mj_g_k (sp_nd_in hN (sp_fk_nd hq) (Nat.le_refl _)) r
  have hv : ∀ (k : Int32) r, ¬ sp_val nt (sp_fr nt N) k = 0 → mj_g k 4000 r = r := fun k r hq => mj_g_k (sp_nd_in hN (sp_val_nd hq) (Nat.le_refl _)) r
  have ht : ∀ (k : Int32) r, ¬ sp_tg nt (sp_fr nt N) k = 0 → mj_g k 4000 r = r := fun k r hq => mj_g_k (sp_nd_in hN (sp_tg_nd hq) (Nat.le_refl _)) r
  have hw : ∀ (k : Int32) r, sp_nd N k = true → mj_g k 4000 r = r := fun k r hq => mj_g_k (sp_nd_in hN hq (Nat.le_refl _)) r
  have f1 := sp_val_rng hW.2.2 a
  have f2 := sp_val_rng hW.2.2 b
  have f3 : ∀ k q, sp_fk nt (sp_fr nt N) k q = true → sp_E q = false → sp_val nt (sp_fr nt N) k = 0 := fun k q => sp_val_fk
  have f4 : ∀ k, ¬ sp_val nt (sp_fr nt N) k = 0 → nt 3 k.toNatClampNeg = sp_val nt (sp_fr nt N) k := fun k => sp_val_v
  have f5 : sp_val nt (sp_fr nt N) (-1) = 0 := sp_val_m1
  have f6 : ∀ k, ¬ sp_tg nt (sp_fr nt N) k = 0 → nt 3 k.toNatClampNeg = sp_tg nt (sp_fr nt N) k ∧ sp_tg nt (sp_fr nt N) k = sp_val nt (sp_fr nt N) k := fun k => sp_tg_v hW.2.2
  have f9 := sp_tg_4 hW.2.2 a
  have g2 := sp_E_eq hW.2.2 a
  have g1 : ∀ k q r, sp_fk nt (sp_fr nt N) k q = true → sp_fk nt (sp_fr nt N) k r = true → q = r := fun k q r => sp_fk_2
  have f7 : ∀ k, sp_nd N k = true → 0 ≤ nt 3 k.toNatClampNeg := fun k hk => (hW.2.2 k hk).1
  have f8 : ∀ k q, sp_fk nt (sp_fr nt N) k q = true → sp_nd N k = true := fun k q => sp_fk_nd
  have e5 : sp_E 5 = false := rfl
  have e49 : sp_E 49 = false := rfl
  have e33 : sp_E 33 = false := rfl
  have hc : ∀ (g m : Int32) r, sp_call nt (sp_fr nt N) M par m g = true → mj_g m 40 r = r := fun g m r hq => mj_g_k (sp_call_in hM.2.1 hq) r
  have hc2 : ∀ (m g : Int32), sp_call nt (sp_fr nt N) M par m g = true → 0 ≤ res m.toNatClampNeg := fun m g hq => by
    unfold sp_call at hq
    simp only [Bool.and_eq_true] at hq
    obtain ⟨q1, q2⟩ := (sp_nd_iff (by have := hM.2.1; omega) m).mp hq.1.1
    exact hR _ (by show m.toInt.toNat < M; omega)
  simp only [sp_ty]
  simp <;> grind [sp_b, sp_isv, sp_i, sp_bin, sp_el, sp_ao]
theorem tX1_r10 {d : Nat} (hd : 5 ≤ d) {y : mj_X} {nt : sp_NT} {N M : Nat} {res par : Nat → Int32} (h : md_T y nt N) (hM : md_M y M res par) (hW : sp_W nt N M par) (hR : ∀ m, m < M → 0 ≤ res m) (a b : Int32) : kX1 (d + 1) 5 [.ref 0, .int 10, .int a, .int b] y = some (some (.int (sp_b (!decide (sp_ty nt (sp_nd N) (sp_fr nt N) M res par 10 a b = -1)))), y) := by
  have hN := h.2.1
  have e0 : kX1 (d + 1) 5 [.ref 0, .int 10, .int a, .int b] y = rX1_isRight d (24, [some (.ref 0), some (.int 10), some (.int a), some (.int b), none, none], [], y) := by simp [eX1_isRight, bX1_isRight_12]
  rw [e0]
  skip
  simp only [bX1_isRight_24, sX1_isFree (show 2 ≤ d by omega) h, sX1_isA (show 3 ≤ d by omega) h, sX1_isOf (show 4 ≤ d by omega) h, sX1_isStatement (show 3 ≤ d by omega) h, sX1_isExpression (show 3 ≤ d by omega) h, sX1_isBetween (show 4 ≤ d by omega) h, sX1_isTarget (show 4 ≤ d by omega) h, sp_tg_eq hW.2.2, sX1_isThere (show 1 ≤ d by omega) h, sX1_elementOf (show 1 ≤ d by omega), sX1_isExpressionKind (show 1 ≤ d by omega), mj_rI_k, sp_b0, mj_gb_b, h.2.2.1, h.2.2.2.2.2.1, sX1_isCall (show 4 ≤ d by omega) h hM hW, hM.2.2.1]
  have hg : ∀ (k q : Int32) r, sp_fk nt (sp_fr nt N) k q = true → mj_g k 4000 r = r := fun k q r hq => mj_g_k (sp_nd_in hN (sp_fk_nd hq) (Nat.le_refl _)) r
  have hv : ∀ (k : Int32) r, ¬ sp_val nt (sp_fr nt N) k = 0 → mj_g k 4000 r = r := fun k r hq => mj_g_k (sp_nd_in hN (sp_val_nd hq) (Nat.le_refl _)) r
  have ht : ∀ (k : Int32) r, ¬ sp_tg nt (sp_fr nt N) k = 0 → mj_g k 4000 r = r := fun k r hq => mj_g_k (sp_nd_in hN (sp_tg_nd hq) (Nat.le_refl _)) r
  have hw : ∀ (k : Int32) r, sp_nd N k = true → mj_g k 4000 r = r := fun k r hq => mj_g_k (sp_nd_in hN hq (Nat.le_refl _)) r
  have f1 := sp_val_rng hW.2.2 a
  have f2 := sp_val_rng hW.2.2 b
  have f3 : ∀ k q, sp_fk nt (sp_fr nt N) k q = true → sp_E q = false → sp_val nt (sp_fr nt N) k = 0 := fun k q => sp_val_fk
  have f4 : ∀ k, ¬ sp_val nt (sp_fr nt N) k = 0 → nt 3 k.toNatClampNeg = sp_val nt (sp_fr nt N) k := fun k => sp_val_v
  have f5 : sp_val nt (sp_fr nt N) (-1) = 0 := sp_val_m1
  have f6 : ∀ k, ¬ sp_tg nt (sp_fr nt N) k = 0 → nt 3 k.toNatClampNeg = sp_tg nt (sp_fr nt N) k ∧ sp_tg nt (sp_fr nt N) k = sp_val nt (sp_fr nt N) k := fun k => sp_tg_v hW.2.2
  have f9 := sp_tg_4 hW.2.2 a
  have g2 := sp_E_eq hW.2.2 a
  have g1 : ∀ k q r, sp_fk nt (sp_fr nt N) k q = true → sp_fk nt (sp_fr nt N) k r = true → q = r := fun k q r => sp_fk_2
  have f7 : ∀ k, sp_nd N k = true → 0 ≤ nt 3 k.toNatClampNeg := fun k hk => (hW.2.2 k hk).1
  have f8 : ∀ k q, sp_fk nt (sp_fr nt N) k q = true → sp_nd N k = true := fun k q => sp_fk_nd
  have e5 : sp_E 5 = false := rfl
  have e49 : sp_E 49 = false := rfl
  have e33 : sp_E 33 = false := rfl
  have hc : ∀ (g m : Int32) r, sp_call nt (sp_fr nt N) M par m g = true → mj_g m 40 r = r := fun g m r hq => mj_g_k (sp_call_in hM.2.1 hq) r
  have hc2 : ∀ (m g : Int32), sp_call nt (sp_fr nt N) M par m g = true → 0 ≤ res m.toNatClampNeg := fun m g hq => by
    unfold sp_call at hq
    simp only [Bool.and_eq_true] at hq
    obtain ⟨q1, q2⟩ := (sp_nd_iff (by have := hM.2.1; omega) m).mp hq.1.1
    exact hR _ (by show m.toInt.toNat < M; omega)
  simp only [sp_ty]
  simp <;> grind [sp_b, sp_isv, sp_i, sp_bin, sp_el, sp_ao]
theorem tX1_r11 {d : Nat} (hd : 5 ≤ d) {y : mj_X} {nt : sp_NT} {N M : Nat} {res par : Nat → Int32} (h : md_T y nt N) (hM : md_M y M res par) (hW : sp_W nt N M par) (hR : ∀ m, m < M → 0 ≤ res m) (a b : Int32) : kX1 (d + 1) 5 [.ref 0, .int 11, .int a, .int b] y = some (some (.int (sp_b (!decide (sp_ty nt (sp_nd N) (sp_fr nt N) M res par 11 a b = -1)))), y) := by
  have hN := h.2.1
  have e0 : kX1 (d + 1) 5 [.ref 0, .int 11, .int a, .int b] y = rX1_isRight d (24, [some (.ref 0), some (.int 11), some (.int a), some (.int b), none, none], [], y) := by simp [eX1_isRight, bX1_isRight_12]
  rw [e0]
  skip
  simp only [bX1_isRight_24, sX1_isFree (show 2 ≤ d by omega) h, sX1_isA (show 3 ≤ d by omega) h, sX1_isOf (show 4 ≤ d by omega) h, sX1_isStatement (show 3 ≤ d by omega) h, sX1_isExpression (show 3 ≤ d by omega) h, sX1_isBetween (show 4 ≤ d by omega) h, sX1_isTarget (show 4 ≤ d by omega) h, sp_tg_eq hW.2.2, sX1_isThere (show 1 ≤ d by omega) h, sX1_elementOf (show 1 ≤ d by omega), sX1_isExpressionKind (show 1 ≤ d by omega), mj_rI_k, sp_b0, mj_gb_b, h.2.2.1, h.2.2.2.2.2.1, sX1_isCall (show 4 ≤ d by omega) h hM hW, hM.2.2.1]
  have hg : ∀ (k q : Int32) r, sp_fk nt (sp_fr nt N) k q = true → mj_g k 4000 r = r := fun k q r hq => mj_g_k (sp_nd_in hN (sp_fk_nd hq) (Nat.le_refl _)) r
  have hv : ∀ (k : Int32) r, ¬ sp_val nt (sp_fr nt N) k = 0 → mj_g k 4000 r = r := fun k r hq => mj_g_k (sp_nd_in hN (sp_val_nd hq) (Nat.le_refl _)) r
  have ht : ∀ (k : Int32) r, ¬ sp_tg nt (sp_fr nt N) k = 0 → mj_g k 4000 r = r := fun k r hq => mj_g_k (sp_nd_in hN (sp_tg_nd hq) (Nat.le_refl _)) r
  have hw : ∀ (k : Int32) r, sp_nd N k = true → mj_g k 4000 r = r := fun k r hq => mj_g_k (sp_nd_in hN hq (Nat.le_refl _)) r
  have f1 := sp_val_rng hW.2.2 a
  have f2 := sp_val_rng hW.2.2 b
  have f3 : ∀ k q, sp_fk nt (sp_fr nt N) k q = true → sp_E q = false → sp_val nt (sp_fr nt N) k = 0 := fun k q => sp_val_fk
  have f4 : ∀ k, ¬ sp_val nt (sp_fr nt N) k = 0 → nt 3 k.toNatClampNeg = sp_val nt (sp_fr nt N) k := fun k => sp_val_v
  have f5 : sp_val nt (sp_fr nt N) (-1) = 0 := sp_val_m1
  have f6 : ∀ k, ¬ sp_tg nt (sp_fr nt N) k = 0 → nt 3 k.toNatClampNeg = sp_tg nt (sp_fr nt N) k ∧ sp_tg nt (sp_fr nt N) k = sp_val nt (sp_fr nt N) k := fun k => sp_tg_v hW.2.2
  have f9 := sp_tg_4 hW.2.2 a
  have g2 := sp_E_eq hW.2.2 a
  have g1 : ∀ k q r, sp_fk nt (sp_fr nt N) k q = true → sp_fk nt (sp_fr nt N) k r = true → q = r := fun k q r => sp_fk_2
  have f7 : ∀ k, sp_nd N k = true → 0 ≤ nt 3 k.toNatClampNeg := fun k hk => (hW.2.2 k hk).1
  have f8 : ∀ k q, sp_fk nt (sp_fr nt N) k q = true → sp_nd N k = true := fun k q => sp_fk_nd
  have e5 : sp_E 5 = false := rfl
  have e49 : sp_E 49 = false := rfl
  have e33 : sp_E 33 = false := rfl
  have hc : ∀ (g m : Int32) r, sp_call nt (sp_fr nt N) M par m g = true → mj_g m 40 r = r := fun g m r hq => mj_g_k (sp_call_in hM.2.1 hq) r
  have hc2 : ∀ (m g : Int32), sp_call nt (sp_fr nt N) M par m g = true → 0 ≤ res m.toNatClampNeg := fun m g hq => by
    unfold sp_call at hq
    simp only [Bool.and_eq_true] at hq
    obtain ⟨q1, q2⟩ := (sp_nd_iff (by have := hM.2.1; omega) m).mp hq.1.1
    exact hR _ (by show m.toInt.toNat < M; omega)
  simp only [sp_ty]
  simp <;> grind [sp_b, sp_isv, sp_i, sp_bin, sp_el, sp_ao]
theorem tX1_r12 {d : Nat} (hd : 5 ≤ d) {y : mj_X} {nt : sp_NT} {N M : Nat} {res par : Nat → Int32} (h : md_T y nt N) (hM : md_M y M res par) (hW : sp_W nt N M par) (hR : ∀ m, m < M → 0 ≤ res m) (a b : Int32) : kX1 (d + 1) 5 [.ref 0, .int 12, .int a, .int b] y = some (some (.int (sp_b (!decide (sp_ty nt (sp_nd N) (sp_fr nt N) M res par 12 a b = -1)))), y) := by
  have hN := h.2.1
  have e0 : kX1 (d + 1) 5 [.ref 0, .int 12, .int a, .int b] y = rX1_isRight d (24, [some (.ref 0), some (.int 12), some (.int a), some (.int b), none, none], [], y) := by simp [eX1_isRight, bX1_isRight_12]
  rw [e0]
  skip
  simp only [bX1_isRight_24, sX1_isFree (show 2 ≤ d by omega) h, sX1_isA (show 3 ≤ d by omega) h, sX1_isOf (show 4 ≤ d by omega) h, sX1_isStatement (show 3 ≤ d by omega) h, sX1_isExpression (show 3 ≤ d by omega) h, sX1_isBetween (show 4 ≤ d by omega) h, sX1_isTarget (show 4 ≤ d by omega) h, sp_tg_eq hW.2.2, sX1_isThere (show 1 ≤ d by omega) h, sX1_elementOf (show 1 ≤ d by omega), sX1_isExpressionKind (show 1 ≤ d by omega), mj_rI_k, sp_b0, mj_gb_b, h.2.2.1, h.2.2.2.2.2.1, sX1_isCall (show 4 ≤ d by omega) h hM hW, hM.2.2.1]
  have hg : ∀ (k q : Int32) r, sp_fk nt (sp_fr nt N) k q = true → mj_g k 4000 r = r := fun k q r hq => mj_g_k (sp_nd_in hN (sp_fk_nd hq) (Nat.le_refl _)) r
  have hv : ∀ (k : Int32) r, ¬ sp_val nt (sp_fr nt N) k = 0 → mj_g k 4000 r = r := fun k r hq => mj_g_k (sp_nd_in hN (sp_val_nd hq) (Nat.le_refl _)) r
  have ht : ∀ (k : Int32) r, ¬ sp_tg nt (sp_fr nt N) k = 0 → mj_g k 4000 r = r := fun k r hq => mj_g_k (sp_nd_in hN (sp_tg_nd hq) (Nat.le_refl _)) r
  have hw : ∀ (k : Int32) r, sp_nd N k = true → mj_g k 4000 r = r := fun k r hq => mj_g_k (sp_nd_in hN hq (Nat.le_refl _)) r
  have f1 := sp_val_rng hW.2.2 a
  have f2 := sp_val_rng hW.2.2 b
  have f3 : ∀ k q, sp_fk nt (sp_fr nt N) k q = true → sp_E q = false → sp_val nt (sp_fr nt N) k = 0 := fun k q => sp_val_fk
  have f4 : ∀ k, ¬ sp_val nt (sp_fr nt N) k = 0 → nt 3 k.toNatClampNeg = sp_val nt (sp_fr nt N) k := fun k => sp_val_v
  have f5 : sp_val nt (sp_fr nt N) (-1) = 0 := sp_val_m1
  have f6 : ∀ k, ¬ sp_tg nt (sp_fr nt N) k = 0 → nt 3 k.toNatClampNeg = sp_tg nt (sp_fr nt N) k ∧ sp_tg nt (sp_fr nt N) k = sp_val nt (sp_fr nt N) k := fun k => sp_tg_v hW.2.2
  have f9 := sp_tg_4 hW.2.2 a
  have g2 := sp_E_eq hW.2.2 a
  have g1 : ∀ k q r, sp_fk nt (sp_fr nt N) k q = true → sp_fk nt (sp_fr nt N) k r = true → q = r := fun k q r => sp_fk_2
  have f7 : ∀ k, sp_nd N k = true → 0 ≤ nt 3 k.toNatClampNeg := fun k hk => (hW.2.2 k hk).1
  have f8 : ∀ k q, sp_fk nt (sp_fr nt N) k q = true → sp_nd N k = true := fun k q => sp_fk_nd
  have e5 : sp_E 5 = false := rfl
  have e49 : sp_E 49 = false := rfl
  have e33 : sp_E 33 = false := rfl
  have hc : ∀ (g m : Int32) r, sp_call nt (sp_fr nt N) M par m g = true → mj_g m 40 r = r := fun g m r hq => mj_g_k (sp_call_in hM.2.1 hq) r
  have hc2 : ∀ (m g : Int32), sp_call nt (sp_fr nt N) M par m g = true → 0 ≤ res m.toNatClampNeg := fun m g hq => by
    unfold sp_call at hq
    simp only [Bool.and_eq_true] at hq
    obtain ⟨q1, q2⟩ := (sp_nd_iff (by have := hM.2.1; omega) m).mp hq.1.1
    exact hR _ (by show m.toInt.toNat < M; omega)
  simp only [sp_ty]
  simp <;> grind [sp_b, sp_isv, sp_i, sp_bin, sp_el, sp_ao]
theorem tX1_r13 {d : Nat} (hd : 5 ≤ d) {y : mj_X} {nt : sp_NT} {N M : Nat} {res par : Nat → Int32} (h : md_T y nt N) (hM : md_M y M res par) (hW : sp_W nt N M par) (hR : ∀ m, m < M → 0 ≤ res m) (a b : Int32) : kX1 (d + 1) 5 [.ref 0, .int 13, .int a, .int b] y = some (some (.int (sp_b (!decide (sp_ty nt (sp_nd N) (sp_fr nt N) M res par 13 a b = -1)))), y) := by
  have hN := h.2.1
  have e0 : kX1 (d + 1) 5 [.ref 0, .int 13, .int a, .int b] y = rX1_isRight d (24, [some (.ref 0), some (.int 13), some (.int a), some (.int b), none, none], [], y) := by simp [eX1_isRight, bX1_isRight_12]
  rw [e0]
  skip
  simp only [bX1_isRight_24, sX1_isFree (show 2 ≤ d by omega) h, sX1_isA (show 3 ≤ d by omega) h, sX1_isOf (show 4 ≤ d by omega) h, sX1_isStatement (show 3 ≤ d by omega) h, sX1_isExpression (show 3 ≤ d by omega) h, sX1_isBetween (show 4 ≤ d by omega) h, sX1_isTarget (show 4 ≤ d by omega) h, sp_tg_eq hW.2.2, sX1_isThere (show 1 ≤ d by omega) h, sX1_elementOf (show 1 ≤ d by omega), sX1_isExpressionKind (show 1 ≤ d by omega), mj_rI_k, sp_b0, mj_gb_b, h.2.2.1, h.2.2.2.2.2.1, sX1_isCall (show 4 ≤ d by omega) h hM hW, hM.2.2.1]
  have hg : ∀ (k q : Int32) r, sp_fk nt (sp_fr nt N) k q = true → mj_g k 4000 r = r := fun k q r hq => mj_g_k (sp_nd_in hN (sp_fk_nd hq) (Nat.le_refl _)) r
  have hv : ∀ (k : Int32) r, ¬ sp_val nt (sp_fr nt N) k = 0 → mj_g k 4000 r = r := fun k r hq => mj_g_k (sp_nd_in hN (sp_val_nd hq) (Nat.le_refl _)) r
  have ht : ∀ (k : Int32) r, ¬ sp_tg nt (sp_fr nt N) k = 0 → mj_g k 4000 r = r := fun k r hq => mj_g_k (sp_nd_in hN (sp_tg_nd hq) (Nat.le_refl _)) r
  have hw : ∀ (k : Int32) r, sp_nd N k = true → mj_g k 4000 r = r := fun k r hq => mj_g_k (sp_nd_in hN hq (Nat.le_refl _)) r
  have f1 := sp_val_rng hW.2.2 a
  have f2 := sp_val_rng hW.2.2 b
  have f3 : ∀ k q, sp_fk nt (sp_fr nt N) k q = true → sp_E q = false → sp_val nt (sp_fr nt N) k = 0 := fun k q => sp_val_fk
  have f4 : ∀ k, ¬ sp_val nt (sp_fr nt N) k = 0 → nt 3 k.toNatClampNeg = sp_val nt (sp_fr nt N) k := fun k => sp_val_v
  have f5 : sp_val nt (sp_fr nt N) (-1) = 0 := sp_val_m1
  have f6 : ∀ k, ¬ sp_tg nt (sp_fr nt N) k = 0 → nt 3 k.toNatClampNeg = sp_tg nt (sp_fr nt N) k ∧ sp_tg nt (sp_fr nt N) k = sp_val nt (sp_fr nt N) k := fun k => sp_tg_v hW.2.2
  have f9 := sp_tg_4 hW.2.2 a
  have g2 := sp_E_eq hW.2.2 a
  have g1 : ∀ k q r, sp_fk nt (sp_fr nt N) k q = true → sp_fk nt (sp_fr nt N) k r = true → q = r := fun k q r => sp_fk_2
  have f7 : ∀ k, sp_nd N k = true → 0 ≤ nt 3 k.toNatClampNeg := fun k hk => (hW.2.2 k hk).1
  have f8 : ∀ k q, sp_fk nt (sp_fr nt N) k q = true → sp_nd N k = true := fun k q => sp_fk_nd
  have e5 : sp_E 5 = false := rfl
  have e49 : sp_E 49 = false := rfl
  have e33 : sp_E 33 = false := rfl
  have hc : ∀ (g m : Int32) r, sp_call nt (sp_fr nt N) M par m g = true → mj_g m 40 r = r := fun g m r hq => mj_g_k (sp_call_in hM.2.1 hq) r
  have hc2 : ∀ (m g : Int32), sp_call nt (sp_fr nt N) M par m g = true → 0 ≤ res m.toNatClampNeg := fun m g hq => by
    unfold sp_call at hq
    simp only [Bool.and_eq_true] at hq
    obtain ⟨q1, q2⟩ := (sp_nd_iff (by have := hM.2.1; omega) m).mp hq.1.1
    exact hR _ (by show m.toInt.toNat < M; omega)
  simp only [sp_ty]
  simp <;> grind [sp_b, sp_isv, sp_i, sp_bin, sp_el, sp_ao]
theorem tX1_r14 {d : Nat} (hd : 5 ≤ d) {y : mj_X} {nt : sp_NT} {N M : Nat} {res par : Nat → Int32} (h : md_T y nt N) (hM : md_M y M res par) (hW : sp_W nt N M par) (hR : ∀ m, m < M → 0 ≤ res m) (a b : Int32) : kX1 (d + 1) 5 [.ref 0, .int 14, .int a, .int b] y = some (some (.int (sp_b (!decide (sp_ty nt (sp_nd N) (sp_fr nt N) M res par 14 a b = -1)))), y) := by
  have hN := h.2.1
  have e0 : kX1 (d + 1) 5 [.ref 0, .int 14, .int a, .int b] y = rX1_isRight d (24, [some (.ref 0), some (.int 14), some (.int a), some (.int b), none, none], [], y) := by simp [eX1_isRight, bX1_isRight_12]
  rw [e0]
  skip
  simp only [bX1_isRight_24, sX1_isFree (show 2 ≤ d by omega) h, sX1_isA (show 3 ≤ d by omega) h, sX1_isOf (show 4 ≤ d by omega) h, sX1_isStatement (show 3 ≤ d by omega) h, sX1_isExpression (show 3 ≤ d by omega) h, sX1_isBetween (show 4 ≤ d by omega) h, sX1_isTarget (show 4 ≤ d by omega) h, sp_tg_eq hW.2.2, sX1_isThere (show 1 ≤ d by omega) h, sX1_elementOf (show 1 ≤ d by omega), sX1_isExpressionKind (show 1 ≤ d by omega), mj_rI_k, sp_b0, mj_gb_b, h.2.2.1, h.2.2.2.2.2.1, sX1_isCall (show 4 ≤ d by omega) h hM hW, hM.2.2.1]
  have hg : ∀ (k q : Int32) r, sp_fk nt (sp_fr nt N) k q = true → mj_g k 4000 r = r := fun k q r hq => mj_g_k (sp_nd_in hN (sp_fk_nd hq) (Nat.le_refl _)) r
  have hv : ∀ (k : Int32) r, ¬ sp_val nt (sp_fr nt N) k = 0 → mj_g k 4000 r = r := fun k r hq => mj_g_k (sp_nd_in hN (sp_val_nd hq) (Nat.le_refl _)) r
  have ht : ∀ (k : Int32) r, ¬ sp_tg nt (sp_fr nt N) k = 0 → mj_g k 4000 r = r := fun k r hq => mj_g_k (sp_nd_in hN (sp_tg_nd hq) (Nat.le_refl _)) r
  have hw : ∀ (k : Int32) r, sp_nd N k = true → mj_g k 4000 r = r := fun k r hq => mj_g_k (sp_nd_in hN hq (Nat.le_refl _)) r
  have f1 := sp_val_rng hW.2.2 a
  have f2 := sp_val_rng hW.2.2 b
  have f3 : ∀ k q, sp_fk nt (sp_fr nt N) k q = true → sp_E q = false → sp_val nt (sp_fr nt N) k = 0 := fun k q => sp_val_fk
  have f4 : ∀ k, ¬ sp_val nt (sp_fr nt N) k = 0 → nt 3 k.toNatClampNeg = sp_val nt (sp_fr nt N) k := fun k => sp_val_v
  have f5 : sp_val nt (sp_fr nt N) (-1) = 0 := sp_val_m1
  have f6 : ∀ k, ¬ sp_tg nt (sp_fr nt N) k = 0 → nt 3 k.toNatClampNeg = sp_tg nt (sp_fr nt N) k ∧ sp_tg nt (sp_fr nt N) k = sp_val nt (sp_fr nt N) k := fun k => sp_tg_v hW.2.2
  have f9 := sp_tg_4 hW.2.2 a
  have g2 := sp_E_eq hW.2.2 a
  have g1 : ∀ k q r, sp_fk nt (sp_fr nt N) k q = true → sp_fk nt (sp_fr nt N) k r = true → q = r := fun k q r => sp_fk_2
  have f7 : ∀ k, sp_nd N k = true → 0 ≤ nt 3 k.toNatClampNeg := fun k hk => (hW.2.2 k hk).1
  have f8 : ∀ k q, sp_fk nt (sp_fr nt N) k q = true → sp_nd N k = true := fun k q => sp_fk_nd
  have e5 : sp_E 5 = false := rfl
  have e49 : sp_E 49 = false := rfl
  have e33 : sp_E 33 = false := rfl
  have hc : ∀ (g m : Int32) r, sp_call nt (sp_fr nt N) M par m g = true → mj_g m 40 r = r := fun g m r hq => mj_g_k (sp_call_in hM.2.1 hq) r
  have hc2 : ∀ (m g : Int32), sp_call nt (sp_fr nt N) M par m g = true → 0 ≤ res m.toNatClampNeg := fun m g hq => by
    unfold sp_call at hq
    simp only [Bool.and_eq_true] at hq
    obtain ⟨q1, q2⟩ := (sp_nd_iff (by have := hM.2.1; omega) m).mp hq.1.1
    exact hR _ (by show m.toInt.toNat < M; omega)
  simp only [sp_ty]
  simp <;> grind [sp_b, sp_isv, sp_i, sp_bin, sp_el, sp_ao]
theorem tX1_r15 {d : Nat} (hd : 5 ≤ d) {y : mj_X} {nt : sp_NT} {N M : Nat} {res par : Nat → Int32} (h : md_T y nt N) (hM : md_M y M res par) (hW : sp_W nt N M par) (hR : ∀ m, m < M → 0 ≤ res m) (a b : Int32) : kX1 (d + 1) 5 [.ref 0, .int 15, .int a, .int b] y = some (some (.int (sp_b (!decide (sp_ty nt (sp_nd N) (sp_fr nt N) M res par 15 a b = -1)))), y) := by
  have hN := h.2.1
  have e0 : kX1 (d + 1) 5 [.ref 0, .int 15, .int a, .int b] y = rX1_isRight d (59, [some (.ref 0), some (.int 15), some (.int a), some (.int b), none, none], [], y) := by simp [eX1_isRight, bX1_isRight_12]
  rw [e0]
  skip
  simp only [bX1_isRight_59, bX1_isRight_201, sX1_isFree (show 2 ≤ d by omega) h, sX1_isA (show 3 ≤ d by omega) h, sX1_isOf (show 4 ≤ d by omega) h, sX1_isStatement (show 3 ≤ d by omega) h, sX1_isExpression (show 3 ≤ d by omega) h, sX1_isBetween (show 4 ≤ d by omega) h, sX1_isTarget (show 4 ≤ d by omega) h, sp_tg_eq hW.2.2, sX1_isThere (show 1 ≤ d by omega) h, sX1_elementOf (show 1 ≤ d by omega), sX1_isExpressionKind (show 1 ≤ d by omega), mj_rI_k, sp_b0, mj_gb_b, h.2.2.1, h.2.2.2.2.2.1, sX1_isCall (show 4 ≤ d by omega) h hM hW, hM.2.2.1]
  have hg : ∀ (k q : Int32) r, sp_fk nt (sp_fr nt N) k q = true → mj_g k 4000 r = r := fun k q r hq => mj_g_k (sp_nd_in hN (sp_fk_nd hq) (Nat.le_refl _)) r
  have hv : ∀ (k : Int32) r, ¬ sp_val nt (sp_fr nt N) k = 0 → mj_g k 4000 r = r := fun k r hq => mj_g_k (sp_nd_in hN (sp_val_nd hq) (Nat.le_refl _)) r
  have ht : ∀ (k : Int32) r, ¬ sp_tg nt (sp_fr nt N) k = 0 → mj_g k 4000 r = r := fun k r hq => mj_g_k (sp_nd_in hN (sp_tg_nd hq) (Nat.le_refl _)) r
  have hw : ∀ (k : Int32) r, sp_nd N k = true → mj_g k 4000 r = r := fun k r hq => mj_g_k (sp_nd_in hN hq (Nat.le_refl _)) r
  have f1 := sp_val_rng hW.2.2 a
  have f2 := sp_val_rng hW.2.2 b
  have f3 : ∀ k q, sp_fk nt (sp_fr nt N) k q = true → sp_E q = false → sp_val nt (sp_fr nt N) k = 0 := fun k q => sp_val_fk
  have f4 : ∀ k, ¬ sp_val nt (sp_fr nt N) k = 0 → nt 3 k.toNatClampNeg = sp_val nt (sp_fr nt N) k := fun k => sp_val_v
  have f5 : sp_val nt (sp_fr nt N) (-1) = 0 := sp_val_m1
  have f6 : ∀ k, ¬ sp_tg nt (sp_fr nt N) k = 0 → nt 3 k.toNatClampNeg = sp_tg nt (sp_fr nt N) k ∧ sp_tg nt (sp_fr nt N) k = sp_val nt (sp_fr nt N) k := fun k => sp_tg_v hW.2.2
  have f9 := sp_tg_4 hW.2.2 a
  have g2 := sp_E_eq hW.2.2 a
  have g1 : ∀ k q r, sp_fk nt (sp_fr nt N) k q = true → sp_fk nt (sp_fr nt N) k r = true → q = r := fun k q r => sp_fk_2
  have f7 : ∀ k, sp_nd N k = true → 0 ≤ nt 3 k.toNatClampNeg := fun k hk => (hW.2.2 k hk).1
  have f8 : ∀ k q, sp_fk nt (sp_fr nt N) k q = true → sp_nd N k = true := fun k q => sp_fk_nd
  have e5 : sp_E 5 = false := rfl
  have e49 : sp_E 49 = false := rfl
  have e33 : sp_E 33 = false := rfl
  have hc : ∀ (g m : Int32) r, sp_call nt (sp_fr nt N) M par m g = true → mj_g m 40 r = r := fun g m r hq => mj_g_k (sp_call_in hM.2.1 hq) r
  have hc2 : ∀ (m g : Int32), sp_call nt (sp_fr nt N) M par m g = true → 0 ≤ res m.toNatClampNeg := fun m g hq => by
    unfold sp_call at hq
    simp only [Bool.and_eq_true] at hq
    obtain ⟨q1, q2⟩ := (sp_nd_iff (by have := hM.2.1; omega) m).mp hq.1.1
    exact hR _ (by show m.toInt.toNat < M; omega)
  simp only [sp_ty]
  simp <;> grind [sp_b, sp_isv, sp_i, sp_bin, sp_el, sp_ao]
theorem tX1_r16 {d : Nat} (hd : 5 ≤ d) {y : mj_X} {nt : sp_NT} {N M : Nat} {res par : Nat → Int32} (h : md_T y nt N) (hM : md_M y M res par) (hW : sp_W nt N M par) (hR : ∀ m, m < M → 0 ≤ res m) (a b : Int32) : kX1 (d + 1) 5 [.ref 0, .int 16, .int a, .int b] y = some (some (.int (sp_b (!decide (sp_ty nt (sp_nd N) (sp_fr nt N) M res par 16 a b = -1)))), y) := by
  have hN := h.2.1
  have e0 : kX1 (d + 1) 5 [.ref 0, .int 16, .int a, .int b] y = rX1_isRight d (59, [some (.ref 0), some (.int 16), some (.int a), some (.int b), none, none], [], y) := by simp [eX1_isRight, bX1_isRight_12]
  rw [e0]
  skip
  simp only [bX1_isRight_59, bX1_isRight_201, sX1_isFree (show 2 ≤ d by omega) h, sX1_isA (show 3 ≤ d by omega) h, sX1_isOf (show 4 ≤ d by omega) h, sX1_isStatement (show 3 ≤ d by omega) h, sX1_isExpression (show 3 ≤ d by omega) h, sX1_isBetween (show 4 ≤ d by omega) h, sX1_isTarget (show 4 ≤ d by omega) h, sp_tg_eq hW.2.2, sX1_isThere (show 1 ≤ d by omega) h, sX1_elementOf (show 1 ≤ d by omega), sX1_isExpressionKind (show 1 ≤ d by omega), mj_rI_k, sp_b0, mj_gb_b, h.2.2.1, h.2.2.2.2.2.1, sX1_isCall (show 4 ≤ d by omega) h hM hW, hM.2.2.1]
  have hg : ∀ (k q : Int32) r, sp_fk nt (sp_fr nt N) k q = true → mj_g k 4000 r = r := fun k q r hq => mj_g_k (sp_nd_in hN (sp_fk_nd hq) (Nat.le_refl _)) r
  have hv : ∀ (k : Int32) r, ¬ sp_val nt (sp_fr nt N) k = 0 → mj_g k 4000 r = r := fun k r hq => mj_g_k (sp_nd_in hN (sp_val_nd hq) (Nat.le_refl _)) r
  have ht : ∀ (k : Int32) r, ¬ sp_tg nt (sp_fr nt N) k = 0 → mj_g k 4000 r = r := fun k r hq => mj_g_k (sp_nd_in hN (sp_tg_nd hq) (Nat.le_refl _)) r
  have hw : ∀ (k : Int32) r, sp_nd N k = true → mj_g k 4000 r = r := fun k r hq => mj_g_k (sp_nd_in hN hq (Nat.le_refl _)) r
  have f1 := sp_val_rng hW.2.2 a
  have f2 := sp_val_rng hW.2.2 b
  have f3 : ∀ k q, sp_fk nt (sp_fr nt N) k q = true → sp_E q = false → sp_val nt (sp_fr nt N) k = 0 := fun k q => sp_val_fk
  have f4 : ∀ k, ¬ sp_val nt (sp_fr nt N) k = 0 → nt 3 k.toNatClampNeg = sp_val nt (sp_fr nt N) k := fun k => sp_val_v
  have f5 : sp_val nt (sp_fr nt N) (-1) = 0 := sp_val_m1
  have f6 : ∀ k, ¬ sp_tg nt (sp_fr nt N) k = 0 → nt 3 k.toNatClampNeg = sp_tg nt (sp_fr nt N) k ∧ sp_tg nt (sp_fr nt N) k = sp_val nt (sp_fr nt N) k := fun k => sp_tg_v hW.2.2
  have f9 := sp_tg_4 hW.2.2 a
  have g2 := sp_E_eq hW.2.2 a
  have g1 : ∀ k q r, sp_fk nt (sp_fr nt N) k q = true → sp_fk nt (sp_fr nt N) k r = true → q = r := fun k q r => sp_fk_2
  have f7 : ∀ k, sp_nd N k = true → 0 ≤ nt 3 k.toNatClampNeg := fun k hk => (hW.2.2 k hk).1
  have f8 : ∀ k q, sp_fk nt (sp_fr nt N) k q = true → sp_nd N k = true := fun k q => sp_fk_nd
  have e5 : sp_E 5 = false := rfl
  have e49 : sp_E 49 = false := rfl
  have e33 : sp_E 33 = false := rfl
  have hc : ∀ (g m : Int32) r, sp_call nt (sp_fr nt N) M par m g = true → mj_g m 40 r = r := fun g m r hq => mj_g_k (sp_call_in hM.2.1 hq) r
  have hc2 : ∀ (m g : Int32), sp_call nt (sp_fr nt N) M par m g = true → 0 ≤ res m.toNatClampNeg := fun m g hq => by
    unfold sp_call at hq
    simp only [Bool.and_eq_true] at hq
    obtain ⟨q1, q2⟩ := (sp_nd_iff (by have := hM.2.1; omega) m).mp hq.1.1
    exact hR _ (by show m.toInt.toNat < M; omega)
  simp only [sp_ty]
  simp <;> grind [sp_b, sp_isv, sp_i, sp_bin, sp_el, sp_ao]
theorem tX1_r17 {d : Nat} (hd : 5 ≤ d) {y : mj_X} {nt : sp_NT} {N M : Nat} {res par : Nat → Int32} (h : md_T y nt N) (hM : md_M y M res par) (hW : sp_W nt N M par) (hR : ∀ m, m < M → 0 ≤ res m) (a b : Int32) : kX1 (d + 1) 5 [.ref 0, .int 17, .int a, .int b] y = some (some (.int (sp_b (!decide (sp_ty nt (sp_nd N) (sp_fr nt N) M res par 17 a b = -1)))), y) := by
  have hN := h.2.1
  have e0 : kX1 (d + 1) 5 [.ref 0, .int 17, .int a, .int b] y = rX1_isRight d (59, [some (.ref 0), some (.int 17), some (.int a), some (.int b), none, none], [], y) := by simp [eX1_isRight, bX1_isRight_12]
  rw [e0]
  skip
  simp only [bX1_isRight_59, bX1_isRight_201, sX1_isFree (show 2 ≤ d by omega) h, sX1_isA (show 3 ≤ d by omega) h, sX1_isOf (show 4 ≤ d by omega) h, sX1_isStatement (show 3 ≤ d by omega) h, sX1_isExpression (show 3 ≤ d by omega) h, sX1_isBetween (show 4 ≤ d by omega) h, sX1_isTarget (show 4 ≤ d by omega) h, sp_tg_eq hW.2.2, sX1_isThere (show 1 ≤ d by omega) h, sX1_elementOf (show 1 ≤ d by omega), sX1_isExpressionKind (show 1 ≤ d by omega), mj_rI_k, sp_b0, mj_gb_b, h.2.2.1, h.2.2.2.2.2.1, sX1_isCall (show 4 ≤ d by omega) h hM hW, hM.2.2.1]
  have hg : ∀ (k q : Int32) r, sp_fk nt (sp_fr nt N) k q = true → mj_g k 4000 r = r := fun k q r hq => mj_g_k (sp_nd_in hN (sp_fk_nd hq) (Nat.le_refl _)) r
  have hv : ∀ (k : Int32) r, ¬ sp_val nt (sp_fr nt N) k = 0 → mj_g k 4000 r = r := fun k r hq => mj_g_k (sp_nd_in hN (sp_val_nd hq) (Nat.le_refl _)) r
  have ht : ∀ (k : Int32) r, ¬ sp_tg nt (sp_fr nt N) k = 0 → mj_g k 4000 r = r := fun k r hq => mj_g_k (sp_nd_in hN (sp_tg_nd hq) (Nat.le_refl _)) r
  have hw : ∀ (k : Int32) r, sp_nd N k = true → mj_g k 4000 r = r := fun k r hq => mj_g_k (sp_nd_in hN hq (Nat.le_refl _)) r
  have f1 := sp_val_rng hW.2.2 a
  have f2 := sp_val_rng hW.2.2 b
  have f3 : ∀ k q, sp_fk nt (sp_fr nt N) k q = true → sp_E q = false → sp_val nt (sp_fr nt N) k = 0 := fun k q => sp_val_fk
  have f4 : ∀ k, ¬ sp_val nt (sp_fr nt N) k = 0 → nt 3 k.toNatClampNeg = sp_val nt (sp_fr nt N) k := fun k => sp_val_v
  have f5 : sp_val nt (sp_fr nt N) (-1) = 0 := sp_val_m1
  have f6 : ∀ k, ¬ sp_tg nt (sp_fr nt N) k = 0 → nt 3 k.toNatClampNeg = sp_tg nt (sp_fr nt N) k ∧ sp_tg nt (sp_fr nt N) k = sp_val nt (sp_fr nt N) k := fun k => sp_tg_v hW.2.2
  have f9 := sp_tg_4 hW.2.2 a
  have g2 := sp_E_eq hW.2.2 a
  have g1 : ∀ k q r, sp_fk nt (sp_fr nt N) k q = true → sp_fk nt (sp_fr nt N) k r = true → q = r := fun k q r => sp_fk_2
  have f7 : ∀ k, sp_nd N k = true → 0 ≤ nt 3 k.toNatClampNeg := fun k hk => (hW.2.2 k hk).1
  have f8 : ∀ k q, sp_fk nt (sp_fr nt N) k q = true → sp_nd N k = true := fun k q => sp_fk_nd
  have e5 : sp_E 5 = false := rfl
  have e49 : sp_E 49 = false := rfl
  have e33 : sp_E 33 = false := rfl
  have hc : ∀ (g m : Int32) r, sp_call nt (sp_fr nt N) M par m g = true → mj_g m 40 r = r := fun g m r hq => mj_g_k (sp_call_in hM.2.1 hq) r
  have hc2 : ∀ (m g : Int32), sp_call nt (sp_fr nt N) M par m g = true → 0 ≤ res m.toNatClampNeg := fun m g hq => by
    unfold sp_call at hq
    simp only [Bool.and_eq_true] at hq
    obtain ⟨q1, q2⟩ := (sp_nd_iff (by have := hM.2.1; omega) m).mp hq.1.1
    exact hR _ (by show m.toInt.toNat < M; omega)
  simp only [sp_ty]
  simp <;> grind [sp_b, sp_isv, sp_i, sp_bin, sp_el, sp_ao]
theorem tX1_r18 {d : Nat} (hd : 5 ≤ d) {y : mj_X} {nt : sp_NT} {N M : Nat} {res par : Nat → Int32} (h : md_T y nt N) (hM : md_M y M res par) (hW : sp_W nt N M par) (hR : ∀ m, m < M → 0 ≤ res m) (a b : Int32) : kX1 (d + 1) 5 [.ref 0, .int 18, .int a, .int b] y = some (some (.int (sp_b (!decide (sp_ty nt (sp_nd N) (sp_fr nt N) M res par 18 a b = -1)))), y) := by
  have hN := h.2.1
  have e0 : kX1 (d + 1) 5 [.ref 0, .int 18, .int a, .int b] y = rX1_isRight d (106, [some (.ref 0), some (.int 18), some (.int a), some (.int b), none, none], [], y) := by simp [eX1_isRight, bX1_isRight_12, bX1_isRight_59]
  rw [e0]
  skip
  simp only [bX1_isRight_106, bX1_isRight_201, sX1_isFree (show 2 ≤ d by omega) h, sX1_isA (show 3 ≤ d by omega) h, sX1_isOf (show 4 ≤ d by omega) h, sX1_isStatement (show 3 ≤ d by omega) h, sX1_isExpression (show 3 ≤ d by omega) h, sX1_isBetween (show 4 ≤ d by omega) h, sX1_isTarget (show 4 ≤ d by omega) h, sp_tg_eq hW.2.2, sX1_isThere (show 1 ≤ d by omega) h, sX1_elementOf (show 1 ≤ d by omega), sX1_isExpressionKind (show 1 ≤ d by omega), mj_rI_k, sp_b0, mj_gb_b, h.2.2.1, h.2.2.2.2.2.1, sX1_isCall (show 4 ≤ d by omega) h hM hW, hM.2.2.1]
  have hg : ∀ (k q : Int32) r, sp_fk nt (sp_fr nt N) k q = true → mj_g k 4000 r = r := fun k q r hq => mj_g_k (sp_nd_in hN (sp_fk_nd hq) (Nat.le_refl _)) r
  have hv : ∀ (k : Int32) r, ¬ sp_val nt (sp_fr nt N) k = 0 → mj_g k 4000 r = r := fun k r hq => mj_g_k (sp_nd_in hN (sp_val_nd hq) (Nat.le_refl _)) r
  have ht : ∀ (k : Int32) r, ¬ sp_tg nt (sp_fr nt N) k = 0 → mj_g k 4000 r = r := fun k r hq => mj_g_k (sp_nd_in hN (sp_tg_nd hq) (Nat.le_refl _)) r
  have hw : ∀ (k : Int32) r, sp_nd N k = true → mj_g k 4000 r = r := fun k r hq => mj_g_k (sp_nd_in hN hq (Nat.le_refl _)) r
  have f1 := sp_val_rng hW.2.2 a
  have f2 := sp_val_rng hW.2.2 b
  have f3 : ∀ k q, sp_fk nt (sp_fr nt N) k q = true → sp_E q = false → sp_val nt (sp_fr nt N) k = 0 := fun k q => sp_val_fk
  have f4 : ∀ k, ¬ sp_val nt (sp_fr nt N) k = 0 → nt 3 k.toNatClampNeg = sp_val nt (sp_fr nt N) k := fun k => sp_val_v
  have f5 : sp_val nt (sp_fr nt N) (-1) = 0 := sp_val_m1
  have f6 : ∀ k, ¬ sp_tg nt (sp_fr nt N) k = 0 → nt 3 k.toNatClampNeg = sp_tg nt (sp_fr nt N) k ∧ sp_tg nt (sp_fr nt N) k = sp_val nt (sp_fr nt N) k := fun k => sp_tg_v hW.2.2
  have f9 := sp_tg_4 hW.2.2 a
  have g2 := sp_E_eq hW.2.2 a
  have g1 : ∀ k q r, sp_fk nt (sp_fr nt N) k q = true → sp_fk nt (sp_fr nt N) k r = true → q = r := fun k q r => sp_fk_2
  have f7 : ∀ k, sp_nd N k = true → 0 ≤ nt 3 k.toNatClampNeg := fun k hk => (hW.2.2 k hk).1
  have f8 : ∀ k q, sp_fk nt (sp_fr nt N) k q = true → sp_nd N k = true := fun k q => sp_fk_nd
  have e5 : sp_E 5 = false := rfl
  have e49 : sp_E 49 = false := rfl
  have e33 : sp_E 33 = false := rfl
  have hc : ∀ (g m : Int32) r, sp_call nt (sp_fr nt N) M par m g = true → mj_g m 40 r = r := fun g m r hq => mj_g_k (sp_call_in hM.2.1 hq) r
  have hc2 : ∀ (m g : Int32), sp_call nt (sp_fr nt N) M par m g = true → 0 ≤ res m.toNatClampNeg := fun m g hq => by
    unfold sp_call at hq
    simp only [Bool.and_eq_true] at hq
    obtain ⟨q1, q2⟩ := (sp_nd_iff (by have := hM.2.1; omega) m).mp hq.1.1
    exact hR _ (by show m.toInt.toNat < M; omega)
  simp only [sp_ty]
  simp <;> grind [sp_b, sp_isv, sp_i, sp_bin, sp_el, sp_ao]
theorem tX1_r19 {d : Nat} (hd : 5 ≤ d) {y : mj_X} {nt : sp_NT} {N M : Nat} {res par : Nat → Int32} (h : md_T y nt N) (hM : md_M y M res par) (hW : sp_W nt N M par) (hR : ∀ m, m < M → 0 ≤ res m) (a b : Int32) : kX1 (d + 1) 5 [.ref 0, .int 19, .int a, .int b] y = some (some (.int (sp_b (!decide (sp_ty nt (sp_nd N) (sp_fr nt N) M res par 19 a b = -1)))), y) := by
  have hN := h.2.1
  have e0 : kX1 (d + 1) 5 [.ref 0, .int 19, .int a, .int b] y = rX1_isRight d (106, [some (.ref 0), some (.int 19), some (.int a), some (.int b), none, none], [], y) := by simp [eX1_isRight, bX1_isRight_12, bX1_isRight_59]
  rw [e0]
  skip
  simp only [bX1_isRight_106, bX1_isRight_201, sX1_isFree (show 2 ≤ d by omega) h, sX1_isA (show 3 ≤ d by omega) h, sX1_isOf (show 4 ≤ d by omega) h, sX1_isStatement (show 3 ≤ d by omega) h, sX1_isExpression (show 3 ≤ d by omega) h, sX1_isBetween (show 4 ≤ d by omega) h, sX1_isTarget (show 4 ≤ d by omega) h, sp_tg_eq hW.2.2, sX1_isThere (show 1 ≤ d by omega) h, sX1_elementOf (show 1 ≤ d by omega), sX1_isExpressionKind (show 1 ≤ d by omega), mj_rI_k, sp_b0, mj_gb_b, h.2.2.1, h.2.2.2.2.2.1, sX1_isCall (show 4 ≤ d by omega) h hM hW, hM.2.2.1]
  have hg : ∀ (k q : Int32) r, sp_fk nt (sp_fr nt N) k q = true → mj_g k 4000 r = r := fun k q r hq => mj_g_k (sp_nd_in hN (sp_fk_nd hq) (Nat.le_refl _)) r
  have hv : ∀ (k : Int32) r, ¬ sp_val nt (sp_fr nt N) k = 0 → mj_g k 4000 r = r := fun k r hq => mj_g_k (sp_nd_in hN (sp_val_nd hq) (Nat.le_refl _)) r
  have ht : ∀ (k : Int32) r, ¬ sp_tg nt (sp_fr nt N) k = 0 → mj_g k 4000 r = r := fun k r hq => mj_g_k (sp_nd_in hN (sp_tg_nd hq) (Nat.le_refl _)) r
  have hw : ∀ (k : Int32) r, sp_nd N k = true → mj_g k 4000 r = r := fun k r hq => mj_g_k (sp_nd_in hN hq (Nat.le_refl _)) r
  have f1 := sp_val_rng hW.2.2 a
  have f2 := sp_val_rng hW.2.2 b
  have f3 : ∀ k q, sp_fk nt (sp_fr nt N) k q = true → sp_E q = false → sp_val nt (sp_fr nt N) k = 0 := fun k q => sp_val_fk
  have f4 : ∀ k, ¬ sp_val nt (sp_fr nt N) k = 0 → nt 3 k.toNatClampNeg = sp_val nt (sp_fr nt N) k := fun k => sp_val_v
  have f5 : sp_val nt (sp_fr nt N) (-1) = 0 := sp_val_m1
  have f6 : ∀ k, ¬ sp_tg nt (sp_fr nt N) k = 0 → nt 3 k.toNatClampNeg = sp_tg nt (sp_fr nt N) k ∧ sp_tg nt (sp_fr nt N) k = sp_val nt (sp_fr nt N) k := fun k => sp_tg_v hW.2.2
  have f9 := sp_tg_4 hW.2.2 a
  have g2 := sp_E_eq hW.2.2 a
  have g1 : ∀ k q r, sp_fk nt (sp_fr nt N) k q = true → sp_fk nt (sp_fr nt N) k r = true → q = r := fun k q r => sp_fk_2
  have f7 : ∀ k, sp_nd N k = true → 0 ≤ nt 3 k.toNatClampNeg := fun k hk => (hW.2.2 k hk).1
  have f8 : ∀ k q, sp_fk nt (sp_fr nt N) k q = true → sp_nd N k = true := fun k q => sp_fk_nd
  have e5 : sp_E 5 = false := rfl
  have e49 : sp_E 49 = false := rfl
  have e33 : sp_E 33 = false := rfl
  have hc : ∀ (g m : Int32) r, sp_call nt (sp_fr nt N) M par m g = true → mj_g m 40 r = r := fun g m r hq => mj_g_k (sp_call_in hM.2.1 hq) r
  have hc2 : ∀ (m g : Int32), sp_call nt (sp_fr nt N) M par m g = true → 0 ≤ res m.toNatClampNeg := fun m g hq => by
    unfold sp_call at hq
    simp only [Bool.and_eq_true] at hq
    obtain ⟨q1, q2⟩ := (sp_nd_iff (by have := hM.2.1; omega) m).mp hq.1.1
    exact hR _ (by show m.toInt.toNat < M; omega)
  simp only [sp_ty]
  simp <;> grind [sp_b, sp_isv, sp_i, sp_bin, sp_el, sp_ao]
theorem tX1_r20 {d : Nat} (hd : 5 ≤ d) {y : mj_X} {nt : sp_NT} {N M : Nat} {res par : Nat → Int32} (h : md_T y nt N) (hM : md_M y M res par) (hW : sp_W nt N M par) (hR : ∀ m, m < M → 0 ≤ res m) (a b : Int32) : kX1 (d + 1) 5 [.ref 0, .int 20, .int a, .int b] y = some (some (.int (sp_b (!decide (sp_ty nt (sp_nd N) (sp_fr nt N) M res par 20 a b = -1)))), y) := by
  have hN := h.2.1
  have e0 : kX1 (d + 1) 5 [.ref 0, .int 20, .int a, .int b] y = rX1_isRight d (106, [some (.ref 0), some (.int 20), some (.int a), some (.int b), none, none], [], y) := by simp [eX1_isRight, bX1_isRight_12, bX1_isRight_59]
  rw [e0]
  skip
  simp only [bX1_isRight_106, bX1_isRight_201, sX1_isFree (show 2 ≤ d by omega) h, sX1_isA (show 3 ≤ d by omega) h, sX1_isOf (show 4 ≤ d by omega) h, sX1_isStatement (show 3 ≤ d by omega) h, sX1_isExpression (show 3 ≤ d by omega) h, sX1_isBetween (show 4 ≤ d by omega) h, sX1_isTarget (show 4 ≤ d by omega) h, sp_tg_eq hW.2.2, sX1_isThere (show 1 ≤ d by omega) h, sX1_elementOf (show 1 ≤ d by omega), sX1_isExpressionKind (show 1 ≤ d by omega), mj_rI_k, sp_b0, mj_gb_b, h.2.2.1, h.2.2.2.2.2.1, sX1_isCall (show 4 ≤ d by omega) h hM hW, hM.2.2.1]
  have hg : ∀ (k q : Int32) r, sp_fk nt (sp_fr nt N) k q = true → mj_g k 4000 r = r := fun k q r hq => mj_g_k (sp_nd_in hN (sp_fk_nd hq) (Nat.le_refl _)) r
  have hv : ∀ (k : Int32) r, ¬ sp_val nt (sp_fr nt N) k = 0 → mj_g k 4000 r = r := fun k r hq => mj_g_k (sp_nd_in hN (sp_val_nd hq) (Nat.le_refl _)) r
  have ht : ∀ (k : Int32) r, ¬ sp_tg nt (sp_fr nt N) k = 0 → mj_g k 4000 r = r := fun k r hq => mj_g_k (sp_nd_in hN (sp_tg_nd hq) (Nat.le_refl _)) r
  have hw : ∀ (k : Int32) r, sp_nd N k = true → mj_g k 4000 r = r := fun k r hq => mj_g_k (sp_nd_in hN hq (Nat.le_refl _)) r
  have f1 := sp_val_rng hW.2.2 a
  have f2 := sp_val_rng hW.2.2 b
  have f3 : ∀ k q, sp_fk nt (sp_fr nt N) k q = true → sp_E q = false → sp_val nt (sp_fr nt N) k = 0 := fun k q => sp_val_fk
  have f4 : ∀ k, ¬ sp_val nt (sp_fr nt N) k = 0 → nt 3 k.toNatClampNeg = sp_val nt (sp_fr nt N) k := fun k => sp_val_v
  have f5 : sp_val nt (sp_fr nt N) (-1) = 0 := sp_val_m1
  have f6 : ∀ k, ¬ sp_tg nt (sp_fr nt N) k = 0 → nt 3 k.toNatClampNeg = sp_tg nt (sp_fr nt N) k ∧ sp_tg nt (sp_fr nt N) k = sp_val nt (sp_fr nt N) k := fun k => sp_tg_v hW.2.2
  have f9 := sp_tg_4 hW.2.2 a
  have g2 := sp_E_eq hW.2.2 a
  have g1 : ∀ k q r, sp_fk nt (sp_fr nt N) k q = true → sp_fk nt (sp_fr nt N) k r = true → q = r := fun k q r => sp_fk_2
  have f7 : ∀ k, sp_nd N k = true → 0 ≤ nt 3 k.toNatClampNeg := fun k hk => (hW.2.2 k hk).1
  have f8 : ∀ k q, sp_fk nt (sp_fr nt N) k q = true → sp_nd N k = true := fun k q => sp_fk_nd
  have e5 : sp_E 5 = false := rfl
  have e49 : sp_E 49 = false := rfl
  have e33 : sp_E 33 = false := rfl
  have hc : ∀ (g m : Int32) r, sp_call nt (sp_fr nt N) M par m g = true → mj_g m 40 r = r := fun g m r hq => mj_g_k (sp_call_in hM.2.1 hq) r
  have hc2 : ∀ (m g : Int32), sp_call nt (sp_fr nt N) M par m g = true → 0 ≤ res m.toNatClampNeg := fun m g hq => by
    unfold sp_call at hq
    simp only [Bool.and_eq_true] at hq
    obtain ⟨q1, q2⟩ := (sp_nd_iff (by have := hM.2.1; omega) m).mp hq.1.1
    exact hR _ (by show m.toInt.toNat < M; omega)
  simp only [sp_ty]
  simp <;> grind [sp_b, sp_isv, sp_i, sp_bin, sp_el, sp_ao]
theorem tX1_r21 {d : Nat} (hd : 5 ≤ d) {y : mj_X} {nt : sp_NT} {N M : Nat} {res par : Nat → Int32} (h : md_T y nt N) (hM : md_M y M res par) (hW : sp_W nt N M par) (hR : ∀ m, m < M → 0 ≤ res m) (a b : Int32) : kX1 (d + 1) 5 [.ref 0, .int 21, .int a, .int b] y = some (some (.int (sp_b (!decide (sp_ty nt (sp_nd N) (sp_fr nt N) M res par 21 a b = -1)))), y) := by
  have hN := h.2.1
  have e0 : kX1 (d + 1) 5 [.ref 0, .int 21, .int a, .int b] y = rX1_isRight d (239, [some (.ref 0), some (.int 21), some (.int a), some (.int b), none, none], [], y) := by simp [eX1_isRight, bX1_isRight_12, bX1_isRight_59, bX1_isRight_106, bX1_isRight_148]
  rw [e0]
  rw [wX1_isRight_239_21 _ _ _ _ _ rfl]
  simp only [bX1_isRight_825, sX1_isFree (show 2 ≤ d by omega) h, sX1_isA (show 3 ≤ d by omega) h, sX1_isOf (show 4 ≤ d by omega) h, sX1_isStatement (show 3 ≤ d by omega) h, sX1_isExpression (show 3 ≤ d by omega) h, sX1_isBetween (show 4 ≤ d by omega) h, sX1_isTarget (show 4 ≤ d by omega) h, sp_tg_eq hW.2.2, sX1_isThere (show 1 ≤ d by omega) h, sX1_elementOf (show 1 ≤ d by omega), sX1_isExpressionKind (show 1 ≤ d by omega), mj_rI_k, sp_b0, mj_gb_b, h.2.2.1, h.2.2.2.2.2.1, sX1_isCall (show 4 ≤ d by omega) h hM hW, hM.2.2.1]
  have hg : ∀ (k q : Int32) r, sp_fk nt (sp_fr nt N) k q = true → mj_g k 4000 r = r := fun k q r hq => mj_g_k (sp_nd_in hN (sp_fk_nd hq) (Nat.le_refl _)) r
  have hv : ∀ (k : Int32) r, ¬ sp_val nt (sp_fr nt N) k = 0 → mj_g k 4000 r = r := fun k r hq => mj_g_k (sp_nd_in hN (sp_val_nd hq) (Nat.le_refl _)) r
  have ht : ∀ (k : Int32) r, ¬ sp_tg nt (sp_fr nt N) k = 0 → mj_g k 4000 r = r := fun k r hq => mj_g_k (sp_nd_in hN (sp_tg_nd hq) (Nat.le_refl _)) r
  have hw : ∀ (k : Int32) r, sp_nd N k = true → mj_g k 4000 r = r := fun k r hq => mj_g_k (sp_nd_in hN hq (Nat.le_refl _)) r
  have f1 := sp_val_rng hW.2.2 a
  have f2 := sp_val_rng hW.2.2 b
  have f3 : ∀ k q, sp_fk nt (sp_fr nt N) k q = true → sp_E q = false → sp_val nt (sp_fr nt N) k = 0 := fun k q => sp_val_fk
  have f4 : ∀ k, ¬ sp_val nt (sp_fr nt N) k = 0 → nt 3 k.toNatClampNeg = sp_val nt (sp_fr nt N) k := fun k => sp_val_v
  have f5 : sp_val nt (sp_fr nt N) (-1) = 0 := sp_val_m1
  have f6 : ∀ k, ¬ sp_tg nt (sp_fr nt N) k = 0 → nt 3 k.toNatClampNeg = sp_tg nt (sp_fr nt N) k ∧ sp_tg nt (sp_fr nt N) k = sp_val nt (sp_fr nt N) k := fun k => sp_tg_v hW.2.2
  have f9 := sp_tg_4 hW.2.2 a
  have g2 := sp_E_eq hW.2.2 a
  have g1 : ∀ k q r, sp_fk nt (sp_fr nt N) k q = true → sp_fk nt (sp_fr nt N) k r = true → q = r := fun k q r => sp_fk_2
  have f7 : ∀ k, sp_nd N k = true → 0 ≤ nt 3 k.toNatClampNeg := fun k hk => (hW.2.2 k hk).1
  have f8 : ∀ k q, sp_fk nt (sp_fr nt N) k q = true → sp_nd N k = true := fun k q => sp_fk_nd
  have e5 : sp_E 5 = false := rfl
  have e49 : sp_E 49 = false := rfl
  have e33 : sp_E 33 = false := rfl
  have hc : ∀ (g m : Int32) r, sp_call nt (sp_fr nt N) M par m g = true → mj_g m 40 r = r := fun g m r hq => mj_g_k (sp_call_in hM.2.1 hq) r
  have hc2 : ∀ (m g : Int32), sp_call nt (sp_fr nt N) M par m g = true → 0 ≤ res m.toNatClampNeg := fun m g hq => by
    unfold sp_call at hq
    simp only [Bool.and_eq_true] at hq
    obtain ⟨q1, q2⟩ := (sp_nd_iff (by have := hM.2.1; omega) m).mp hq.1.1
    exact hR _ (by show m.toInt.toNat < M; omega)
  simp only [sp_ty]
  simp <;> grind [sp_b, sp_isv, sp_i, sp_bin, sp_el, sp_ao]
theorem tX1_r22 {d : Nat} (hd : 5 ≤ d) {y : mj_X} {nt : sp_NT} {N M : Nat} {res par : Nat → Int32} (h : md_T y nt N) (hM : md_M y M res par) (hW : sp_W nt N M par) (hR : ∀ m, m < M → 0 ≤ res m) (a b : Int32) : kX1 (d + 1) 5 [.ref 0, .int 22, .int a, .int b] y = some (some (.int (sp_b (!decide (sp_ty nt (sp_nd N) (sp_fr nt N) M res par 22 a b = -1)))), y) := by
  have hN := h.2.1
  have e0 : kX1 (d + 1) 5 [.ref 0, .int 22, .int a, .int b] y = rX1_isRight d (239, [some (.ref 0), some (.int 22), some (.int a), some (.int b), none, none], [], y) := by simp [eX1_isRight, bX1_isRight_12, bX1_isRight_59, bX1_isRight_106, bX1_isRight_148]
  rw [e0]
  rw [wX1_isRight_239_22 _ _ _ _ _ rfl]
  simp only [bX1_isRight_846, bX1_isRight_856, bX1_isRight_868, sX1_isFree (show 2 ≤ d by omega) h, sX1_isA (show 3 ≤ d by omega) h, sX1_isOf (show 4 ≤ d by omega) h, sX1_isStatement (show 3 ≤ d by omega) h, sX1_isExpression (show 3 ≤ d by omega) h, sX1_isBetween (show 4 ≤ d by omega) h, sX1_isTarget (show 4 ≤ d by omega) h, sp_tg_eq hW.2.2, sX1_isThere (show 1 ≤ d by omega) h, sX1_elementOf (show 1 ≤ d by omega), sX1_isExpressionKind (show 1 ≤ d by omega), mj_rI_k, sp_b0, mj_gb_b, h.2.2.1, h.2.2.2.2.2.1, sX1_isCall (show 4 ≤ d by omega) h hM hW, hM.2.2.1]
  have hg : ∀ (k q : Int32) r, sp_fk nt (sp_fr nt N) k q = true → mj_g k 4000 r = r := fun k q r hq => mj_g_k (sp_nd_in hN (sp_fk_nd hq) (Nat.le_refl _)) r
  have hv : ∀ (k : Int32) r, ¬ sp_val nt (sp_fr nt N) k = 0 → mj_g k 4000 r = r := fun k r hq => mj_g_k (sp_nd_in hN (sp_val_nd hq) (Nat.le_refl _)) r
  have ht : ∀ (k : Int32) r, ¬ sp_tg nt (sp_fr nt N) k = 0 → mj_g k 4000 r = r := fun k r hq => mj_g_k (sp_nd_in hN (sp_tg_nd hq) (Nat.le_refl _)) r
  have hw : ∀ (k : Int32) r, sp_nd N k = true → mj_g k 4000 r = r := fun k r hq => mj_g_k (sp_nd_in hN hq (Nat.le_refl _)) r
  have f1 := sp_val_rng hW.2.2 a
  have f2 := sp_val_rng hW.2.2 b
  have f3 : ∀ k q, sp_fk nt (sp_fr nt N) k q = true → sp_E q = false → sp_val nt (sp_fr nt N) k = 0 := fun k q => sp_val_fk
  have f4 : ∀ k, ¬ sp_val nt (sp_fr nt N) k = 0 → nt 3 k.toNatClampNeg = sp_val nt (sp_fr nt N) k := fun k => sp_val_v
  have f5 : sp_val nt (sp_fr nt N) (-1) = 0 := sp_val_m1
  have f6 : ∀ k, ¬ sp_tg nt (sp_fr nt N) k = 0 → nt 3 k.toNatClampNeg = sp_tg nt (sp_fr nt N) k ∧ sp_tg nt (sp_fr nt N) k = sp_val nt (sp_fr nt N) k := fun k => sp_tg_v hW.2.2
  have f9 := sp_tg_4 hW.2.2 a
  have g2 := sp_E_eq hW.2.2 a
  have g1 : ∀ k q r, sp_fk nt (sp_fr nt N) k q = true → sp_fk nt (sp_fr nt N) k r = true → q = r := fun k q r => sp_fk_2
  have f7 : ∀ k, sp_nd N k = true → 0 ≤ nt 3 k.toNatClampNeg := fun k hk => (hW.2.2 k hk).1
  have f8 : ∀ k q, sp_fk nt (sp_fr nt N) k q = true → sp_nd N k = true := fun k q => sp_fk_nd
  have e5 : sp_E 5 = false := rfl
  have e49 : sp_E 49 = false := rfl
  have e33 : sp_E 33 = false := rfl
  have hc : ∀ (g m : Int32) r, sp_call nt (sp_fr nt N) M par m g = true → mj_g m 40 r = r := fun g m r hq => mj_g_k (sp_call_in hM.2.1 hq) r
  have hc2 : ∀ (m g : Int32), sp_call nt (sp_fr nt N) M par m g = true → 0 ≤ res m.toNatClampNeg := fun m g hq => by
    unfold sp_call at hq
    simp only [Bool.and_eq_true] at hq
    obtain ⟨q1, q2⟩ := (sp_nd_iff (by have := hM.2.1; omega) m).mp hq.1.1
    exact hR _ (by show m.toInt.toNat < M; omega)
  simp only [sp_ty]
  simp <;> grind [sp_b, sp_isv, sp_i, sp_bin, sp_el, sp_ao]
theorem tX1_r23 {d : Nat} (hd : 5 ≤ d) {y : mj_X} {nt : sp_NT} {N M : Nat} {res par : Nat → Int32} (h : md_T y nt N) (hM : md_M y M res par) (hW : sp_W nt N M par) (hR : ∀ m, m < M → 0 ≤ res m) (a b : Int32) : kX1 (d + 1) 5 [.ref 0, .int 23, .int a, .int b] y = some (some (.int (sp_b (!decide (sp_ty nt (sp_nd N) (sp_fr nt N) M res par 23 a b = -1)))), y) := by
  have hN := h.2.1
  have e0 : kX1 (d + 1) 5 [.ref 0, .int 23, .int a, .int b] y = rX1_isRight d (24, [some (.ref 0), some (.int 23), some (.int a), some (.int b), none, none], [], y) := by simp [eX1_isRight, bX1_isRight_12]
  rw [e0]
  skip
  simp only [bX1_isRight_24, sX1_isFree (show 2 ≤ d by omega) h, sX1_isA (show 3 ≤ d by omega) h, sX1_isOf (show 4 ≤ d by omega) h, sX1_isStatement (show 3 ≤ d by omega) h, sX1_isExpression (show 3 ≤ d by omega) h, sX1_isBetween (show 4 ≤ d by omega) h, sX1_isTarget (show 4 ≤ d by omega) h, sp_tg_eq hW.2.2, sX1_isThere (show 1 ≤ d by omega) h, sX1_elementOf (show 1 ≤ d by omega), sX1_isExpressionKind (show 1 ≤ d by omega), mj_rI_k, sp_b0, mj_gb_b, h.2.2.1, h.2.2.2.2.2.1, sX1_isCall (show 4 ≤ d by omega) h hM hW, hM.2.2.1]
  have hg : ∀ (k q : Int32) r, sp_fk nt (sp_fr nt N) k q = true → mj_g k 4000 r = r := fun k q r hq => mj_g_k (sp_nd_in hN (sp_fk_nd hq) (Nat.le_refl _)) r
  have hv : ∀ (k : Int32) r, ¬ sp_val nt (sp_fr nt N) k = 0 → mj_g k 4000 r = r := fun k r hq => mj_g_k (sp_nd_in hN (sp_val_nd hq) (Nat.le_refl _)) r
  have ht : ∀ (k : Int32) r, ¬ sp_tg nt (sp_fr nt N) k = 0 → mj_g k 4000 r = r := fun k r hq => mj_g_k (sp_nd_in hN (sp_tg_nd hq) (Nat.le_refl _)) r
  have hw : ∀ (k : Int32) r, sp_nd N k = true → mj_g k 4000 r = r := fun k r hq => mj_g_k (sp_nd_in hN hq (Nat.le_refl _)) r
  have f1 := sp_val_rng hW.2.2 a
  have f2 := sp_val_rng hW.2.2 b
  have f3 : ∀ k q, sp_fk nt (sp_fr nt N) k q = true → sp_E q = false → sp_val nt (sp_fr nt N) k = 0 := fun k q => sp_val_fk
  have f4 : ∀ k, ¬ sp_val nt (sp_fr nt N) k = 0 → nt 3 k.toNatClampNeg = sp_val nt (sp_fr nt N) k := fun k => sp_val_v
  have f5 : sp_val nt (sp_fr nt N) (-1) = 0 := sp_val_m1
  have f6 : ∀ k, ¬ sp_tg nt (sp_fr nt N) k = 0 → nt 3 k.toNatClampNeg = sp_tg nt (sp_fr nt N) k ∧ sp_tg nt (sp_fr nt N) k = sp_val nt (sp_fr nt N) k := fun k => sp_tg_v hW.2.2
  have f9 := sp_tg_4 hW.2.2 a
  have g2 := sp_E_eq hW.2.2 a
  have g1 : ∀ k q r, sp_fk nt (sp_fr nt N) k q = true → sp_fk nt (sp_fr nt N) k r = true → q = r := fun k q r => sp_fk_2
  have f7 : ∀ k, sp_nd N k = true → 0 ≤ nt 3 k.toNatClampNeg := fun k hk => (hW.2.2 k hk).1
  have f8 : ∀ k q, sp_fk nt (sp_fr nt N) k q = true → sp_nd N k = true := fun k q => sp_fk_nd
  have e5 : sp_E 5 = false := rfl
  have e49 : sp_E 49 = false := rfl
  have e33 : sp_E 33 = false := rfl
  have hc : ∀ (g m : Int32) r, sp_call nt (sp_fr nt N) M par m g = true → mj_g m 40 r = r := fun g m r hq => mj_g_k (sp_call_in hM.2.1 hq) r
  have hc2 : ∀ (m g : Int32), sp_call nt (sp_fr nt N) M par m g = true → 0 ≤ res m.toNatClampNeg := fun m g hq => by
    unfold sp_call at hq
    simp only [Bool.and_eq_true] at hq
    obtain ⟨q1, q2⟩ := (sp_nd_iff (by have := hM.2.1; omega) m).mp hq.1.1
    exact hR _ (by show m.toInt.toNat < M; omega)
  simp only [sp_ty]
  simp <;> grind [sp_b, sp_isv, sp_i, sp_bin, sp_el, sp_ao]
theorem tX1_r24 {d : Nat} (hd : 5 ≤ d) {y : mj_X} {nt : sp_NT} {N M : Nat} {res par : Nat → Int32} (h : md_T y nt N) (hM : md_M y M res par) (hW : sp_W nt N M par) (hR : ∀ m, m < M → 0 ≤ res m) (a b : Int32) : kX1 (d + 1) 5 [.ref 0, .int 24, .int a, .int b] y = some (some (.int (sp_b (!decide (sp_ty nt (sp_nd N) (sp_fr nt N) M res par 24 a b = -1)))), y) := by
  have hN := h.2.1
  have e0 : kX1 (d + 1) 5 [.ref 0, .int 24, .int a, .int b] y = rX1_isRight d (24, [some (.ref 0), some (.int 24), some (.int a), some (.int b), none, none], [], y) := by simp [eX1_isRight, bX1_isRight_12]
  rw [e0]
  skip
  simp only [bX1_isRight_24, sX1_isFree (show 2 ≤ d by omega) h, sX1_isA (show 3 ≤ d by omega) h, sX1_isOf (show 4 ≤ d by omega) h, sX1_isStatement (show 3 ≤ d by omega) h, sX1_isExpression (show 3 ≤ d by omega) h, sX1_isBetween (show 4 ≤ d by omega) h, sX1_isTarget (show 4 ≤ d by omega) h, sp_tg_eq hW.2.2, sX1_isThere (show 1 ≤ d by omega) h, sX1_elementOf (show 1 ≤ d by omega), sX1_isExpressionKind (show 1 ≤ d by omega), mj_rI_k, sp_b0, mj_gb_b, h.2.2.1, h.2.2.2.2.2.1, sX1_isCall (show 4 ≤ d by omega) h hM hW, hM.2.2.1]
  have hg : ∀ (k q : Int32) r, sp_fk nt (sp_fr nt N) k q = true → mj_g k 4000 r = r := fun k q r hq => mj_g_k (sp_nd_in hN (sp_fk_nd hq) (Nat.le_refl _)) r
  have hv : ∀ (k : Int32) r, ¬ sp_val nt (sp_fr nt N) k = 0 → mj_g k 4000 r = r := fun k r hq => mj_g_k (sp_nd_in hN (sp_val_nd hq) (Nat.le_refl _)) r
  have ht : ∀ (k : Int32) r, ¬ sp_tg nt (sp_fr nt N) k = 0 → mj_g k 4000 r = r := fun k r hq => mj_g_k (sp_nd_in hN (sp_tg_nd hq) (Nat.le_refl _)) r
  have hw : ∀ (k : Int32) r, sp_nd N k = true → mj_g k 4000 r = r := fun k r hq => mj_g_k (sp_nd_in hN hq (Nat.le_refl _)) r
  have f1 := sp_val_rng hW.2.2 a
  have f2 := sp_val_rng hW.2.2 b
  have f3 : ∀ k q, sp_fk nt (sp_fr nt N) k q = true → sp_E q = false → sp_val nt (sp_fr nt N) k = 0 := fun k q => sp_val_fk
  have f4 : ∀ k, ¬ sp_val nt (sp_fr nt N) k = 0 → nt 3 k.toNatClampNeg = sp_val nt (sp_fr nt N) k := fun k => sp_val_v
  have f5 : sp_val nt (sp_fr nt N) (-1) = 0 := sp_val_m1
  have f6 : ∀ k, ¬ sp_tg nt (sp_fr nt N) k = 0 → nt 3 k.toNatClampNeg = sp_tg nt (sp_fr nt N) k ∧ sp_tg nt (sp_fr nt N) k = sp_val nt (sp_fr nt N) k := fun k => sp_tg_v hW.2.2
  have f9 := sp_tg_4 hW.2.2 a
  have g2 := sp_E_eq hW.2.2 a
  have g1 : ∀ k q r, sp_fk nt (sp_fr nt N) k q = true → sp_fk nt (sp_fr nt N) k r = true → q = r := fun k q r => sp_fk_2
  have f7 : ∀ k, sp_nd N k = true → 0 ≤ nt 3 k.toNatClampNeg := fun k hk => (hW.2.2 k hk).1
  have f8 : ∀ k q, sp_fk nt (sp_fr nt N) k q = true → sp_nd N k = true := fun k q => sp_fk_nd
  have e5 : sp_E 5 = false := rfl
  have e49 : sp_E 49 = false := rfl
  have e33 : sp_E 33 = false := rfl
  have hc : ∀ (g m : Int32) r, sp_call nt (sp_fr nt N) M par m g = true → mj_g m 40 r = r := fun g m r hq => mj_g_k (sp_call_in hM.2.1 hq) r
  have hc2 : ∀ (m g : Int32), sp_call nt (sp_fr nt N) M par m g = true → 0 ≤ res m.toNatClampNeg := fun m g hq => by
    unfold sp_call at hq
    simp only [Bool.and_eq_true] at hq
    obtain ⟨q1, q2⟩ := (sp_nd_iff (by have := hM.2.1; omega) m).mp hq.1.1
    exact hR _ (by show m.toInt.toNat < M; omega)
  simp only [sp_ty]
  simp <;> grind [sp_b, sp_isv, sp_i, sp_bin, sp_el, sp_ao]
theorem tX1_r25 {d : Nat} (hd : 5 ≤ d) {y : mj_X} {nt : sp_NT} {N M : Nat} {res par : Nat → Int32} (h : md_T y nt N) (hM : md_M y M res par) (hW : sp_W nt N M par) (hR : ∀ m, m < M → 0 ≤ res m) (a b : Int32) : kX1 (d + 1) 5 [.ref 0, .int 25, .int a, .int b] y = some (some (.int (sp_b (!decide (sp_ty nt (sp_nd N) (sp_fr nt N) M res par 25 a b = -1)))), y) := by
  have hN := h.2.1
  have e0 : kX1 (d + 1) 5 [.ref 0, .int 25, .int a, .int b] y = rX1_isRight d (24, [some (.ref 0), some (.int 25), some (.int a), some (.int b), none, none], [], y) := by simp [eX1_isRight, bX1_isRight_12]
  rw [e0]
  skip
  simp only [bX1_isRight_24, sX1_isFree (show 2 ≤ d by omega) h, sX1_isA (show 3 ≤ d by omega) h, sX1_isOf (show 4 ≤ d by omega) h, sX1_isStatement (show 3 ≤ d by omega) h, sX1_isExpression (show 3 ≤ d by omega) h, sX1_isBetween (show 4 ≤ d by omega) h, sX1_isTarget (show 4 ≤ d by omega) h, sp_tg_eq hW.2.2, sX1_isThere (show 1 ≤ d by omega) h, sX1_elementOf (show 1 ≤ d by omega), sX1_isExpressionKind (show 1 ≤ d by omega), mj_rI_k, sp_b0, mj_gb_b, h.2.2.1, h.2.2.2.2.2.1, sX1_isCall (show 4 ≤ d by omega) h hM hW, hM.2.2.1]
  have hg : ∀ (k q : Int32) r, sp_fk nt (sp_fr nt N) k q = true → mj_g k 4000 r = r := fun k q r hq => mj_g_k (sp_nd_in hN (sp_fk_nd hq) (Nat.le_refl _)) r
  have hv : ∀ (k : Int32) r, ¬ sp_val nt (sp_fr nt N) k = 0 → mj_g k 4000 r = r := fun k r hq => mj_g_k (sp_nd_in hN (sp_val_nd hq) (Nat.le_refl _)) r
  have ht : ∀ (k : Int32) r, ¬ sp_tg nt (sp_fr nt N) k = 0 → mj_g k 4000 r = r := fun k r hq => mj_g_k (sp_nd_in hN (sp_tg_nd hq) (Nat.le_refl _)) r
  have hw : ∀ (k : Int32) r, sp_nd N k = true → mj_g k 4000 r = r := fun k r hq => mj_g_k (sp_nd_in hN hq (Nat.le_refl _)) r
  have f1 := sp_val_rng hW.2.2 a
  have f2 := sp_val_rng hW.2.2 b
  have f3 : ∀ k q, sp_fk nt (sp_fr nt N) k q = true → sp_E q = false → sp_val nt (sp_fr nt N) k = 0 := fun k q => sp_val_fk
  have f4 : ∀ k, ¬ sp_val nt (sp_fr nt N) k = 0 → nt 3 k.toNatClampNeg = sp_val nt (sp_fr nt N) k := fun k => sp_val_v
  have f5 : sp_val nt (sp_fr nt N) (-1) = 0 := sp_val_m1
  have f6 : ∀ k, ¬ sp_tg nt (sp_fr nt N) k = 0 → nt 3 k.toNatClampNeg = sp_tg nt (sp_fr nt N) k ∧ sp_tg nt (sp_fr nt N) k = sp_val nt (sp_fr nt N) k := fun k => sp_tg_v hW.2.2
  have f9 := sp_tg_4 hW.2.2 a
  have g2 := sp_E_eq hW.2.2 a
  have g1 : ∀ k q r, sp_fk nt (sp_fr nt N) k q = true → sp_fk nt (sp_fr nt N) k r = true → q = r := fun k q r => sp_fk_2
  have f7 : ∀ k, sp_nd N k = true → 0 ≤ nt 3 k.toNatClampNeg := fun k hk => (hW.2.2 k hk).1
  have f8 : ∀ k q, sp_fk nt (sp_fr nt N) k q = true → sp_nd N k = true := fun k q => sp_fk_nd
  have e5 : sp_E 5 = false := rfl
  have e49 : sp_E 49 = false := rfl
  have e33 : sp_E 33 = false := rfl
  have hc : ∀ (g m : Int32) r, sp_call nt (sp_fr nt N) M par m g = true → mj_g m 40 r = r := fun g m r hq => mj_g_k (sp_call_in hM.2.1 hq) r
  have hc2 : ∀ (m g : Int32), sp_call nt (sp_fr nt N) M par m g = true → 0 ≤ res m.toNatClampNeg := fun m g hq => by
    unfold sp_call at hq
    simp only [Bool.and_eq_true] at hq
    obtain ⟨q1, q2⟩ := (sp_nd_iff (by have := hM.2.1; omega) m).mp hq.1.1
    exact hR _ (by show m.toInt.toNat < M; omega)
  simp only [sp_ty]
  simp <;> grind [sp_b, sp_isv, sp_i, sp_bin, sp_el, sp_ao]
theorem tX1_r26 {d : Nat} (hd : 5 ≤ d) {y : mj_X} {nt : sp_NT} {N M : Nat} {res par : Nat → Int32} (h : md_T y nt N) (hM : md_M y M res par) (hW : sp_W nt N M par) (hR : ∀ m, m < M → 0 ≤ res m) (a b : Int32) : kX1 (d + 1) 5 [.ref 0, .int 26, .int a, .int b] y = some (some (.int (sp_b (!decide (sp_ty nt (sp_nd N) (sp_fr nt N) M res par 26 a b = -1)))), y) := by
  have hN := h.2.1
  have e0 : kX1 (d + 1) 5 [.ref 0, .int 26, .int a, .int b] y = rX1_isRight d (24, [some (.ref 0), some (.int 26), some (.int a), some (.int b), none, none], [], y) := by simp [eX1_isRight, bX1_isRight_12]
  rw [e0]
  skip
  simp only [bX1_isRight_24, sX1_isFree (show 2 ≤ d by omega) h, sX1_isA (show 3 ≤ d by omega) h, sX1_isOf (show 4 ≤ d by omega) h, sX1_isStatement (show 3 ≤ d by omega) h, sX1_isExpression (show 3 ≤ d by omega) h, sX1_isBetween (show 4 ≤ d by omega) h, sX1_isTarget (show 4 ≤ d by omega) h, sp_tg_eq hW.2.2, sX1_isThere (show 1 ≤ d by omega) h, sX1_elementOf (show 1 ≤ d by omega), sX1_isExpressionKind (show 1 ≤ d by omega), mj_rI_k, sp_b0, mj_gb_b, h.2.2.1, h.2.2.2.2.2.1, sX1_isCall (show 4 ≤ d by omega) h hM hW, hM.2.2.1]
  have hg : ∀ (k q : Int32) r, sp_fk nt (sp_fr nt N) k q = true → mj_g k 4000 r = r := fun k q r hq => mj_g_k (sp_nd_in hN (sp_fk_nd hq) (Nat.le_refl _)) r
  have hv : ∀ (k : Int32) r, ¬ sp_val nt (sp_fr nt N) k = 0 → mj_g k 4000 r = r := fun k r hq => mj_g_k (sp_nd_in hN (sp_val_nd hq) (Nat.le_refl _)) r
  have ht : ∀ (k : Int32) r, ¬ sp_tg nt (sp_fr nt N) k = 0 → mj_g k 4000 r = r := fun k r hq => mj_g_k (sp_nd_in hN (sp_tg_nd hq) (Nat.le_refl _)) r
  have hw : ∀ (k : Int32) r, sp_nd N k = true → mj_g k 4000 r = r := fun k r hq => mj_g_k (sp_nd_in hN hq (Nat.le_refl _)) r
  have f1 := sp_val_rng hW.2.2 a
  have f2 := sp_val_rng hW.2.2 b
  have f3 : ∀ k q, sp_fk nt (sp_fr nt N) k q = true → sp_E q = false → sp_val nt (sp_fr nt N) k = 0 := fun k q => sp_val_fk
  have f4 : ∀ k, ¬ sp_val nt (sp_fr nt N) k = 0 → nt 3 k.toNatClampNeg = sp_val nt (sp_fr nt N) k := fun k => sp_val_v
  have f5 : sp_val nt (sp_fr nt N) (-1) = 0 := sp_val_m1
  have f6 : ∀ k, ¬ sp_tg nt (sp_fr nt N) k = 0 → nt 3 k.toNatClampNeg = sp_tg nt (sp_fr nt N) k ∧ sp_tg nt (sp_fr nt N) k = sp_val nt (sp_fr nt N) k := fun k => sp_tg_v hW.2.2
  have f9 := sp_tg_4 hW.2.2 a
  have g2 := sp_E_eq hW.2.2 a
  have g1 : ∀ k q r, sp_fk nt (sp_fr nt N) k q = true → sp_fk nt (sp_fr nt N) k r = true → q = r := fun k q r => sp_fk_2
  have f7 : ∀ k, sp_nd N k = true → 0 ≤ nt 3 k.toNatClampNeg := fun k hk => (hW.2.2 k hk).1
  have f8 : ∀ k q, sp_fk nt (sp_fr nt N) k q = true → sp_nd N k = true := fun k q => sp_fk_nd
  have e5 : sp_E 5 = false := rfl
  have e49 : sp_E 49 = false := rfl
  have e33 : sp_E 33 = false := rfl
  have hc : ∀ (g m : Int32) r, sp_call nt (sp_fr nt N) M par m g = true → mj_g m 40 r = r := fun g m r hq => mj_g_k (sp_call_in hM.2.1 hq) r
  have hc2 : ∀ (m g : Int32), sp_call nt (sp_fr nt N) M par m g = true → 0 ≤ res m.toNatClampNeg := fun m g hq => by
    unfold sp_call at hq
    simp only [Bool.and_eq_true] at hq
    obtain ⟨q1, q2⟩ := (sp_nd_iff (by have := hM.2.1; omega) m).mp hq.1.1
    exact hR _ (by show m.toInt.toNat < M; omega)
  simp only [sp_ty]
  simp <;> grind [sp_b, sp_isv, sp_i, sp_bin, sp_el, sp_ao]
theorem tX1_r27 {d : Nat} (hd : 5 ≤ d) {y : mj_X} {nt : sp_NT} {N M : Nat} {res par : Nat → Int32} (h : md_T y nt N) (hM : md_M y M res par) (hW : sp_W nt N M par) (hR : ∀ m, m < M → 0 ≤ res m) (a b : Int32) : kX1 (d + 1) 5 [.ref 0, .int 27, .int a, .int b] y = some (some (.int (sp_b (!decide (sp_ty nt (sp_nd N) (sp_fr nt N) M res par 27 a b = -1)))), y) := by
  have hN := h.2.1
  have e0 : kX1 (d + 1) 5 [.ref 0, .int 27, .int a, .int b] y = rX1_isRight d (24, [some (.ref 0), some (.int 27), some (.int a), some (.int b), none, none], [], y) := by simp [eX1_isRight, bX1_isRight_12]
  rw [e0]
  skip
  simp only [bX1_isRight_24, sX1_isFree (show 2 ≤ d by omega) h, sX1_isA (show 3 ≤ d by omega) h, sX1_isOf (show 4 ≤ d by omega) h, sX1_isStatement (show 3 ≤ d by omega) h, sX1_isExpression (show 3 ≤ d by omega) h, sX1_isBetween (show 4 ≤ d by omega) h, sX1_isTarget (show 4 ≤ d by omega) h, sp_tg_eq hW.2.2, sX1_isThere (show 1 ≤ d by omega) h, sX1_elementOf (show 1 ≤ d by omega), sX1_isExpressionKind (show 1 ≤ d by omega), mj_rI_k, sp_b0, mj_gb_b, h.2.2.1, h.2.2.2.2.2.1, sX1_isCall (show 4 ≤ d by omega) h hM hW, hM.2.2.1]
  have hg : ∀ (k q : Int32) r, sp_fk nt (sp_fr nt N) k q = true → mj_g k 4000 r = r := fun k q r hq => mj_g_k (sp_nd_in hN (sp_fk_nd hq) (Nat.le_refl _)) r
  have hv : ∀ (k : Int32) r, ¬ sp_val nt (sp_fr nt N) k = 0 → mj_g k 4000 r = r := fun k r hq => mj_g_k (sp_nd_in hN (sp_val_nd hq) (Nat.le_refl _)) r
  have ht : ∀ (k : Int32) r, ¬ sp_tg nt (sp_fr nt N) k = 0 → mj_g k 4000 r = r := fun k r hq => mj_g_k (sp_nd_in hN (sp_tg_nd hq) (Nat.le_refl _)) r
  have hw : ∀ (k : Int32) r, sp_nd N k = true → mj_g k 4000 r = r := fun k r hq => mj_g_k (sp_nd_in hN hq (Nat.le_refl _)) r
  have f1 := sp_val_rng hW.2.2 a
  have f2 := sp_val_rng hW.2.2 b
  have f3 : ∀ k q, sp_fk nt (sp_fr nt N) k q = true → sp_E q = false → sp_val nt (sp_fr nt N) k = 0 := fun k q => sp_val_fk
  have f4 : ∀ k, ¬ sp_val nt (sp_fr nt N) k = 0 → nt 3 k.toNatClampNeg = sp_val nt (sp_fr nt N) k := fun k => sp_val_v
  have f5 : sp_val nt (sp_fr nt N) (-1) = 0 := sp_val_m1
  have f6 : ∀ k, ¬ sp_tg nt (sp_fr nt N) k = 0 → nt 3 k.toNatClampNeg = sp_tg nt (sp_fr nt N) k ∧ sp_tg nt (sp_fr nt N) k = sp_val nt (sp_fr nt N) k := fun k => sp_tg_v hW.2.2
  have f9 := sp_tg_4 hW.2.2 a
  have g2 := sp_E_eq hW.2.2 a
  have g1 : ∀ k q r, sp_fk nt (sp_fr nt N) k q = true → sp_fk nt (sp_fr nt N) k r = true → q = r := fun k q r => sp_fk_2
  have f7 : ∀ k, sp_nd N k = true → 0 ≤ nt 3 k.toNatClampNeg := fun k hk => (hW.2.2 k hk).1
  have f8 : ∀ k q, sp_fk nt (sp_fr nt N) k q = true → sp_nd N k = true := fun k q => sp_fk_nd
  have e5 : sp_E 5 = false := rfl
  have e49 : sp_E 49 = false := rfl
  have e33 : sp_E 33 = false := rfl
  have hc : ∀ (g m : Int32) r, sp_call nt (sp_fr nt N) M par m g = true → mj_g m 40 r = r := fun g m r hq => mj_g_k (sp_call_in hM.2.1 hq) r
  have hc2 : ∀ (m g : Int32), sp_call nt (sp_fr nt N) M par m g = true → 0 ≤ res m.toNatClampNeg := fun m g hq => by
    unfold sp_call at hq
    simp only [Bool.and_eq_true] at hq
    obtain ⟨q1, q2⟩ := (sp_nd_iff (by have := hM.2.1; omega) m).mp hq.1.1
    exact hR _ (by show m.toInt.toNat < M; omega)
  simp only [sp_ty]
  simp <;> grind [sp_b, sp_isv, sp_i, sp_bin, sp_el, sp_ao]
theorem tX1_r28 {d : Nat} (hd : 5 ≤ d) {y : mj_X} {nt : sp_NT} {N M : Nat} {res par : Nat → Int32} (h : md_T y nt N) (hM : md_M y M res par) (hW : sp_W nt N M par) (hR : ∀ m, m < M → 0 ≤ res m) (a b : Int32) : kX1 (d + 1) 5 [.ref 0, .int 28, .int a, .int b] y = some (some (.int (sp_b (!decide (sp_ty nt (sp_nd N) (sp_fr nt N) M res par 28 a b = -1)))), y) := by
  have hN := h.2.1
  have e0 : kX1 (d + 1) 5 [.ref 0, .int 28, .int a, .int b] y = rX1_isRight d (24, [some (.ref 0), some (.int 28), some (.int a), some (.int b), none, none], [], y) := by simp [eX1_isRight, bX1_isRight_12]
  rw [e0]
  skip
  simp only [bX1_isRight_24, sX1_isFree (show 2 ≤ d by omega) h, sX1_isA (show 3 ≤ d by omega) h, sX1_isOf (show 4 ≤ d by omega) h, sX1_isStatement (show 3 ≤ d by omega) h, sX1_isExpression (show 3 ≤ d by omega) h, sX1_isBetween (show 4 ≤ d by omega) h, sX1_isTarget (show 4 ≤ d by omega) h, sp_tg_eq hW.2.2, sX1_isThere (show 1 ≤ d by omega) h, sX1_elementOf (show 1 ≤ d by omega), sX1_isExpressionKind (show 1 ≤ d by omega), mj_rI_k, sp_b0, mj_gb_b, h.2.2.1, h.2.2.2.2.2.1, sX1_isCall (show 4 ≤ d by omega) h hM hW, hM.2.2.1]
  have hg : ∀ (k q : Int32) r, sp_fk nt (sp_fr nt N) k q = true → mj_g k 4000 r = r := fun k q r hq => mj_g_k (sp_nd_in hN (sp_fk_nd hq) (Nat.le_refl _)) r
  have hv : ∀ (k : Int32) r, ¬ sp_val nt (sp_fr nt N) k = 0 → mj_g k 4000 r = r := fun k r hq => mj_g_k (sp_nd_in hN (sp_val_nd hq) (Nat.le_refl _)) r
  have ht : ∀ (k : Int32) r, ¬ sp_tg nt (sp_fr nt N) k = 0 → mj_g k 4000 r = r := fun k r hq => mj_g_k (sp_nd_in hN (sp_tg_nd hq) (Nat.le_refl _)) r
  have hw : ∀ (k : Int32) r, sp_nd N k = true → mj_g k 4000 r = r := fun k r hq => mj_g_k (sp_nd_in hN hq (Nat.le_refl _)) r
  have f1 := sp_val_rng hW.2.2 a
  have f2 := sp_val_rng hW.2.2 b
  have f3 : ∀ k q, sp_fk nt (sp_fr nt N) k q = true → sp_E q = false → sp_val nt (sp_fr nt N) k = 0 := fun k q => sp_val_fk
  have f4 : ∀ k, ¬ sp_val nt (sp_fr nt N) k = 0 → nt 3 k.toNatClampNeg = sp_val nt (sp_fr nt N) k := fun k => sp_val_v
  have f5 : sp_val nt (sp_fr nt N) (-1) = 0 := sp_val_m1
  have f6 : ∀ k, ¬ sp_tg nt (sp_fr nt N) k = 0 → nt 3 k.toNatClampNeg = sp_tg nt (sp_fr nt N) k ∧ sp_tg nt (sp_fr nt N) k = sp_val nt (sp_fr nt N) k := fun k => sp_tg_v hW.2.2
  have f9 := sp_tg_4 hW.2.2 a
  have g2 := sp_E_eq hW.2.2 a
  have g1 : ∀ k q r, sp_fk nt (sp_fr nt N) k q = true → sp_fk nt (sp_fr nt N) k r = true → q = r := fun k q r => sp_fk_2
  have f7 : ∀ k, sp_nd N k = true → 0 ≤ nt 3 k.toNatClampNeg := fun k hk => (hW.2.2 k hk).1
  have f8 : ∀ k q, sp_fk nt (sp_fr nt N) k q = true → sp_nd N k = true := fun k q => sp_fk_nd
  have e5 : sp_E 5 = false := rfl
  have e49 : sp_E 49 = false := rfl
  have e33 : sp_E 33 = false := rfl
  have hc : ∀ (g m : Int32) r, sp_call nt (sp_fr nt N) M par m g = true → mj_g m 40 r = r := fun g m r hq => mj_g_k (sp_call_in hM.2.1 hq) r
  have hc2 : ∀ (m g : Int32), sp_call nt (sp_fr nt N) M par m g = true → 0 ≤ res m.toNatClampNeg := fun m g hq => by
    unfold sp_call at hq
    simp only [Bool.and_eq_true] at hq
    obtain ⟨q1, q2⟩ := (sp_nd_iff (by have := hM.2.1; omega) m).mp hq.1.1
    exact hR _ (by show m.toInt.toNat < M; omega)
  simp only [sp_ty]
  simp <;> grind [sp_b, sp_isv, sp_i, sp_bin, sp_el, sp_ao]
theorem tX1_r29 {d : Nat} (hd : 5 ≤ d) {y : mj_X} {nt : sp_NT} {N M : Nat} {res par : Nat → Int32} (h : md_T y nt N) (hM : md_M y M res par) (hW : sp_W nt N M par) (hR : ∀ m, m < M → 0 ≤ res m) (a b : Int32) : kX1 (d + 1) 5 [.ref 0, .int 29, .int a, .int b] y = some (some (.int (sp_b (!decide (sp_ty nt (sp_nd N) (sp_fr nt N) M res par 29 a b = -1)))), y) := by
  have hN := h.2.1
  have e0 : kX1 (d + 1) 5 [.ref 0, .int 29, .int a, .int b] y = rX1_isRight d (239, [some (.ref 0), some (.int 29), some (.int a), some (.int b), none, none], [], y) := by simp [eX1_isRight, bX1_isRight_12, bX1_isRight_59, bX1_isRight_106, bX1_isRight_148]
  rw [e0]
  rw [wX1_isRight_239_29 _ _ _ _ _ rfl]
  simp only [bX1_isRight_884, sX1_isFree (show 2 ≤ d by omega) h, sX1_isA (show 3 ≤ d by omega) h, sX1_isOf (show 4 ≤ d by omega) h, sX1_isStatement (show 3 ≤ d by omega) h, sX1_isExpression (show 3 ≤ d by omega) h, sX1_isBetween (show 4 ≤ d by omega) h, sX1_isTarget (show 4 ≤ d by omega) h, sp_tg_eq hW.2.2, sX1_isThere (show 1 ≤ d by omega) h, sX1_elementOf (show 1 ≤ d by omega), sX1_isExpressionKind (show 1 ≤ d by omega), mj_rI_k, sp_b0, mj_gb_b, h.2.2.1, h.2.2.2.2.2.1, sX1_isCall (show 4 ≤ d by omega) h hM hW, hM.2.2.1]
  have hg : ∀ (k q : Int32) r, sp_fk nt (sp_fr nt N) k q = true → mj_g k 4000 r = r := fun k q r hq => mj_g_k (sp_nd_in hN (sp_fk_nd hq) (Nat.le_refl _)) r
  have hv : ∀ (k : Int32) r, ¬ sp_val nt (sp_fr nt N) k = 0 → mj_g k 4000 r = r := fun k r hq => mj_g_k (sp_nd_in hN (sp_val_nd hq) (Nat.le_refl _)) r
  have ht : ∀ (k : Int32) r, ¬ sp_tg nt (sp_fr nt N) k = 0 → mj_g k 4000 r = r := fun k r hq => mj_g_k (sp_nd_in hN (sp_tg_nd hq) (Nat.le_refl _)) r
  have hw : ∀ (k : Int32) r, sp_nd N k = true → mj_g k 4000 r = r := fun k r hq => mj_g_k (sp_nd_in hN hq (Nat.le_refl _)) r
  have f1 := sp_val_rng hW.2.2 a
  have f2 := sp_val_rng hW.2.2 b
  have f3 : ∀ k q, sp_fk nt (sp_fr nt N) k q = true → sp_E q = false → sp_val nt (sp_fr nt N) k = 0 := fun k q => sp_val_fk
  have f4 : ∀ k, ¬ sp_val nt (sp_fr nt N) k = 0 → nt 3 k.toNatClampNeg = sp_val nt (sp_fr nt N) k := fun k => sp_val_v
  have f5 : sp_val nt (sp_fr nt N) (-1) = 0 := sp_val_m1
  have f6 : ∀ k, ¬ sp_tg nt (sp_fr nt N) k = 0 → nt 3 k.toNatClampNeg = sp_tg nt (sp_fr nt N) k ∧ sp_tg nt (sp_fr nt N) k = sp_val nt (sp_fr nt N) k := fun k => sp_tg_v hW.2.2
  have f9 := sp_tg_4 hW.2.2 a
  have g2 := sp_E_eq hW.2.2 a
  have g1 : ∀ k q r, sp_fk nt (sp_fr nt N) k q = true → sp_fk nt (sp_fr nt N) k r = true → q = r := fun k q r => sp_fk_2
  have f7 : ∀ k, sp_nd N k = true → 0 ≤ nt 3 k.toNatClampNeg := fun k hk => (hW.2.2 k hk).1
  have f8 : ∀ k q, sp_fk nt (sp_fr nt N) k q = true → sp_nd N k = true := fun k q => sp_fk_nd
  have e5 : sp_E 5 = false := rfl
  have e49 : sp_E 49 = false := rfl
  have e33 : sp_E 33 = false := rfl
  have hc : ∀ (g m : Int32) r, sp_call nt (sp_fr nt N) M par m g = true → mj_g m 40 r = r := fun g m r hq => mj_g_k (sp_call_in hM.2.1 hq) r
  have hc2 : ∀ (m g : Int32), sp_call nt (sp_fr nt N) M par m g = true → 0 ≤ res m.toNatClampNeg := fun m g hq => by
    unfold sp_call at hq
    simp only [Bool.and_eq_true] at hq
    obtain ⟨q1, q2⟩ := (sp_nd_iff (by have := hM.2.1; omega) m).mp hq.1.1
    exact hR _ (by show m.toInt.toNat < M; omega)
  simp only [sp_ty]
  simp <;> grind [sp_b, sp_isv, sp_i, sp_bin, sp_el, sp_ao]
theorem tX1_r30 {d : Nat} (hd : 5 ≤ d) {y : mj_X} {nt : sp_NT} {N M : Nat} {res par : Nat → Int32} (h : md_T y nt N) (hM : md_M y M res par) (hW : sp_W nt N M par) (hR : ∀ m, m < M → 0 ≤ res m) (a b : Int32) : kX1 (d + 1) 5 [.ref 0, .int 30, .int a, .int b] y = some (some (.int (sp_b (!decide (sp_ty nt (sp_nd N) (sp_fr nt N) M res par 30 a b = -1)))), y) := by
  have hN := h.2.1
  have e0 : kX1 (d + 1) 5 [.ref 0, .int 30, .int a, .int b] y = rX1_isRight d (239, [some (.ref 0), some (.int 30), some (.int a), some (.int b), none, none], [], y) := by simp [eX1_isRight, bX1_isRight_12, bX1_isRight_59, bX1_isRight_106, bX1_isRight_148]
  rw [e0]
  rw [wX1_isRight_239_30 _ _ _ _ _ rfl]
  simp only [bX1_isRight_884, sX1_isFree (show 2 ≤ d by omega) h, sX1_isA (show 3 ≤ d by omega) h, sX1_isOf (show 4 ≤ d by omega) h, sX1_isStatement (show 3 ≤ d by omega) h, sX1_isExpression (show 3 ≤ d by omega) h, sX1_isBetween (show 4 ≤ d by omega) h, sX1_isTarget (show 4 ≤ d by omega) h, sp_tg_eq hW.2.2, sX1_isThere (show 1 ≤ d by omega) h, sX1_elementOf (show 1 ≤ d by omega), sX1_isExpressionKind (show 1 ≤ d by omega), mj_rI_k, sp_b0, mj_gb_b, h.2.2.1, h.2.2.2.2.2.1, sX1_isCall (show 4 ≤ d by omega) h hM hW, hM.2.2.1]
  have hg : ∀ (k q : Int32) r, sp_fk nt (sp_fr nt N) k q = true → mj_g k 4000 r = r := fun k q r hq => mj_g_k (sp_nd_in hN (sp_fk_nd hq) (Nat.le_refl _)) r
  have hv : ∀ (k : Int32) r, ¬ sp_val nt (sp_fr nt N) k = 0 → mj_g k 4000 r = r := fun k r hq => mj_g_k (sp_nd_in hN (sp_val_nd hq) (Nat.le_refl _)) r
  have ht : ∀ (k : Int32) r, ¬ sp_tg nt (sp_fr nt N) k = 0 → mj_g k 4000 r = r := fun k r hq => mj_g_k (sp_nd_in hN (sp_tg_nd hq) (Nat.le_refl _)) r
  have hw : ∀ (k : Int32) r, sp_nd N k = true → mj_g k 4000 r = r := fun k r hq => mj_g_k (sp_nd_in hN hq (Nat.le_refl _)) r
  have f1 := sp_val_rng hW.2.2 a
  have f2 := sp_val_rng hW.2.2 b
  have f3 : ∀ k q, sp_fk nt (sp_fr nt N) k q = true → sp_E q = false → sp_val nt (sp_fr nt N) k = 0 := fun k q => sp_val_fk
  have f4 : ∀ k, ¬ sp_val nt (sp_fr nt N) k = 0 → nt 3 k.toNatClampNeg = sp_val nt (sp_fr nt N) k := fun k => sp_val_v
  have f5 : sp_val nt (sp_fr nt N) (-1) = 0 := sp_val_m1
  have f6 : ∀ k, ¬ sp_tg nt (sp_fr nt N) k = 0 → nt 3 k.toNatClampNeg = sp_tg nt (sp_fr nt N) k ∧ sp_tg nt (sp_fr nt N) k = sp_val nt (sp_fr nt N) k := fun k => sp_tg_v hW.2.2
  have f9 := sp_tg_4 hW.2.2 a
  have g2 := sp_E_eq hW.2.2 a
  have g1 : ∀ k q r, sp_fk nt (sp_fr nt N) k q = true → sp_fk nt (sp_fr nt N) k r = true → q = r := fun k q r => sp_fk_2
  have f7 : ∀ k, sp_nd N k = true → 0 ≤ nt 3 k.toNatClampNeg := fun k hk => (hW.2.2 k hk).1
  have f8 : ∀ k q, sp_fk nt (sp_fr nt N) k q = true → sp_nd N k = true := fun k q => sp_fk_nd
  have e5 : sp_E 5 = false := rfl
  have e49 : sp_E 49 = false := rfl
  have e33 : sp_E 33 = false := rfl
  have hc : ∀ (g m : Int32) r, sp_call nt (sp_fr nt N) M par m g = true → mj_g m 40 r = r := fun g m r hq => mj_g_k (sp_call_in hM.2.1 hq) r
  have hc2 : ∀ (m g : Int32), sp_call nt (sp_fr nt N) M par m g = true → 0 ≤ res m.toNatClampNeg := fun m g hq => by
    unfold sp_call at hq
    simp only [Bool.and_eq_true] at hq
    obtain ⟨q1, q2⟩ := (sp_nd_iff (by have := hM.2.1; omega) m).mp hq.1.1
    exact hR _ (by show m.toInt.toNat < M; omega)
  simp only [sp_ty]
  simp <;> grind [sp_b, sp_isv, sp_i, sp_bin, sp_el, sp_ao]
theorem tX1_r31 {d : Nat} (hd : 5 ≤ d) {y : mj_X} {nt : sp_NT} {N M : Nat} {res par : Nat → Int32} (h : md_T y nt N) (hM : md_M y M res par) (hW : sp_W nt N M par) (hR : ∀ m, m < M → 0 ≤ res m) (a b : Int32) : kX1 (d + 1) 5 [.ref 0, .int 31, .int a, .int b] y = some (some (.int (sp_b (!decide (sp_ty nt (sp_nd N) (sp_fr nt N) M res par 31 a b = -1)))), y) := by
  have hN := h.2.1
  have e0 : kX1 (d + 1) 5 [.ref 0, .int 31, .int a, .int b] y = rX1_isRight d (239, [some (.ref 0), some (.int 31), some (.int a), some (.int b), none, none], [], y) := by simp [eX1_isRight, bX1_isRight_12, bX1_isRight_59, bX1_isRight_106, bX1_isRight_148]
  rw [e0]
  rw [wX1_isRight_239_31 _ _ _ _ _ rfl]
  simp only [bX1_isRight_913, sX1_isFree (show 2 ≤ d by omega) h, sX1_isA (show 3 ≤ d by omega) h, sX1_isOf (show 4 ≤ d by omega) h, sX1_isStatement (show 3 ≤ d by omega) h, sX1_isExpression (show 3 ≤ d by omega) h, sX1_isBetween (show 4 ≤ d by omega) h, sX1_isTarget (show 4 ≤ d by omega) h, sp_tg_eq hW.2.2, sX1_isThere (show 1 ≤ d by omega) h, sX1_elementOf (show 1 ≤ d by omega), sX1_isExpressionKind (show 1 ≤ d by omega), mj_rI_k, sp_b0, mj_gb_b, h.2.2.1, h.2.2.2.2.2.1, sX1_isCall (show 4 ≤ d by omega) h hM hW, hM.2.2.1]
  have hg : ∀ (k q : Int32) r, sp_fk nt (sp_fr nt N) k q = true → mj_g k 4000 r = r := fun k q r hq => mj_g_k (sp_nd_in hN (sp_fk_nd hq) (Nat.le_refl _)) r
  have hv : ∀ (k : Int32) r, ¬ sp_val nt (sp_fr nt N) k = 0 → mj_g k 4000 r = r := fun k r hq => mj_g_k (sp_nd_in hN (sp_val_nd hq) (Nat.le_refl _)) r
  have ht : ∀ (k : Int32) r, ¬ sp_tg nt (sp_fr nt N) k = 0 → mj_g k 4000 r = r := fun k r hq => mj_g_k (sp_nd_in hN (sp_tg_nd hq) (Nat.le_refl _)) r
  have hw : ∀ (k : Int32) r, sp_nd N k = true → mj_g k 4000 r = r := fun k r hq => mj_g_k (sp_nd_in hN hq (Nat.le_refl _)) r
  have f1 := sp_val_rng hW.2.2 a
  have f2 := sp_val_rng hW.2.2 b
  have f3 : ∀ k q, sp_fk nt (sp_fr nt N) k q = true → sp_E q = false → sp_val nt (sp_fr nt N) k = 0 := fun k q => sp_val_fk
  have f4 : ∀ k, ¬ sp_val nt (sp_fr nt N) k = 0 → nt 3 k.toNatClampNeg = sp_val nt (sp_fr nt N) k := fun k => sp_val_v
  have f5 : sp_val nt (sp_fr nt N) (-1) = 0 := sp_val_m1
  have f6 : ∀ k, ¬ sp_tg nt (sp_fr nt N) k = 0 → nt 3 k.toNatClampNeg = sp_tg nt (sp_fr nt N) k ∧ sp_tg nt (sp_fr nt N) k = sp_val nt (sp_fr nt N) k := fun k => sp_tg_v hW.2.2
  have f9 := sp_tg_4 hW.2.2 a
  have g2 := sp_E_eq hW.2.2 a
  have g1 : ∀ k q r, sp_fk nt (sp_fr nt N) k q = true → sp_fk nt (sp_fr nt N) k r = true → q = r := fun k q r => sp_fk_2
  have f7 : ∀ k, sp_nd N k = true → 0 ≤ nt 3 k.toNatClampNeg := fun k hk => (hW.2.2 k hk).1
  have f8 : ∀ k q, sp_fk nt (sp_fr nt N) k q = true → sp_nd N k = true := fun k q => sp_fk_nd
  have e5 : sp_E 5 = false := rfl
  have e49 : sp_E 49 = false := rfl
  have e33 : sp_E 33 = false := rfl
  have hc : ∀ (g m : Int32) r, sp_call nt (sp_fr nt N) M par m g = true → mj_g m 40 r = r := fun g m r hq => mj_g_k (sp_call_in hM.2.1 hq) r
  have hc2 : ∀ (m g : Int32), sp_call nt (sp_fr nt N) M par m g = true → 0 ≤ res m.toNatClampNeg := fun m g hq => by
    unfold sp_call at hq
    simp only [Bool.and_eq_true] at hq
    obtain ⟨q1, q2⟩ := (sp_nd_iff (by have := hM.2.1; omega) m).mp hq.1.1
    exact hR _ (by show m.toInt.toNat < M; omega)
  simp only [sp_ty]
  simp <;> grind [sp_b, sp_isv, sp_i, sp_bin, sp_el, sp_ao]
theorem tX1_r32 {d : Nat} (hd : 5 ≤ d) {y : mj_X} {nt : sp_NT} {N M : Nat} {res par : Nat → Int32} (h : md_T y nt N) (hM : md_M y M res par) (hW : sp_W nt N M par) (hR : ∀ m, m < M → 0 ≤ res m) (a b : Int32) : kX1 (d + 1) 5 [.ref 0, .int 32, .int a, .int b] y = some (some (.int (sp_b (!decide (sp_ty nt (sp_nd N) (sp_fr nt N) M res par 32 a b = -1)))), y) := by
  have hN := h.2.1
  have e0 : kX1 (d + 1) 5 [.ref 0, .int 32, .int a, .int b] y = rX1_isRight d (239, [some (.ref 0), some (.int 32), some (.int a), some (.int b), none, none], [], y) := by simp [eX1_isRight, bX1_isRight_12, bX1_isRight_59, bX1_isRight_106, bX1_isRight_148]
  rw [e0]
  rw [wX1_isRight_239_32 _ _ _ _ _ rfl]
  simp only [bX1_isRight_933, sX1_isFree (show 2 ≤ d by omega) h, sX1_isA (show 3 ≤ d by omega) h, sX1_isOf (show 4 ≤ d by omega) h, sX1_isStatement (show 3 ≤ d by omega) h, sX1_isExpression (show 3 ≤ d by omega) h, sX1_isBetween (show 4 ≤ d by omega) h, sX1_isTarget (show 4 ≤ d by omega) h, sp_tg_eq hW.2.2, sX1_isThere (show 1 ≤ d by omega) h, sX1_elementOf (show 1 ≤ d by omega), sX1_isExpressionKind (show 1 ≤ d by omega), mj_rI_k, sp_b0, mj_gb_b, h.2.2.1, h.2.2.2.2.2.1, sX1_isCall (show 4 ≤ d by omega) h hM hW, hM.2.2.1]
  have hg : ∀ (k q : Int32) r, sp_fk nt (sp_fr nt N) k q = true → mj_g k 4000 r = r := fun k q r hq => mj_g_k (sp_nd_in hN (sp_fk_nd hq) (Nat.le_refl _)) r
  have hv : ∀ (k : Int32) r, ¬ sp_val nt (sp_fr nt N) k = 0 → mj_g k 4000 r = r := fun k r hq => mj_g_k (sp_nd_in hN (sp_val_nd hq) (Nat.le_refl _)) r
  have ht : ∀ (k : Int32) r, ¬ sp_tg nt (sp_fr nt N) k = 0 → mj_g k 4000 r = r := fun k r hq => mj_g_k (sp_nd_in hN (sp_tg_nd hq) (Nat.le_refl _)) r
  have hw : ∀ (k : Int32) r, sp_nd N k = true → mj_g k 4000 r = r := fun k r hq => mj_g_k (sp_nd_in hN hq (Nat.le_refl _)) r
  have f1 := sp_val_rng hW.2.2 a
  have f2 := sp_val_rng hW.2.2 b
  have f3 : ∀ k q, sp_fk nt (sp_fr nt N) k q = true → sp_E q = false → sp_val nt (sp_fr nt N) k = 0 := fun k q => sp_val_fk
  have f4 : ∀ k, ¬ sp_val nt (sp_fr nt N) k = 0 → nt 3 k.toNatClampNeg = sp_val nt (sp_fr nt N) k := fun k => sp_val_v
  have f5 : sp_val nt (sp_fr nt N) (-1) = 0 := sp_val_m1
  have f6 : ∀ k, ¬ sp_tg nt (sp_fr nt N) k = 0 → nt 3 k.toNatClampNeg = sp_tg nt (sp_fr nt N) k ∧ sp_tg nt (sp_fr nt N) k = sp_val nt (sp_fr nt N) k := fun k => sp_tg_v hW.2.2
  have f9 := sp_tg_4 hW.2.2 a
  have g2 := sp_E_eq hW.2.2 a
  have g1 : ∀ k q r, sp_fk nt (sp_fr nt N) k q = true → sp_fk nt (sp_fr nt N) k r = true → q = r := fun k q r => sp_fk_2
  have f7 : ∀ k, sp_nd N k = true → 0 ≤ nt 3 k.toNatClampNeg := fun k hk => (hW.2.2 k hk).1
  have f8 : ∀ k q, sp_fk nt (sp_fr nt N) k q = true → sp_nd N k = true := fun k q => sp_fk_nd
  have e5 : sp_E 5 = false := rfl
  have e49 : sp_E 49 = false := rfl
  have e33 : sp_E 33 = false := rfl
  have hc : ∀ (g m : Int32) r, sp_call nt (sp_fr nt N) M par m g = true → mj_g m 40 r = r := fun g m r hq => mj_g_k (sp_call_in hM.2.1 hq) r
  have hc2 : ∀ (m g : Int32), sp_call nt (sp_fr nt N) M par m g = true → 0 ≤ res m.toNatClampNeg := fun m g hq => by
    unfold sp_call at hq
    simp only [Bool.and_eq_true] at hq
    obtain ⟨q1, q2⟩ := (sp_nd_iff (by have := hM.2.1; omega) m).mp hq.1.1
    exact hR _ (by show m.toInt.toNat < M; omega)
  simp only [sp_ty]
  simp <;> grind [sp_b, sp_isv, sp_i, sp_bin, sp_el, sp_ao]
theorem tX1_r33 {d : Nat} (hd : 5 ≤ d) {y : mj_X} {nt : sp_NT} {N M : Nat} {res par : Nat → Int32} (h : md_T y nt N) (hM : md_M y M res par) (hW : sp_W nt N M par) (hR : ∀ m, m < M → 0 ≤ res m) (a b : Int32) : kX1 (d + 1) 5 [.ref 0, .int 33, .int a, .int b] y = some (some (.int (sp_b (!decide (sp_ty nt (sp_nd N) (sp_fr nt N) M res par 33 a b = -1)))), y) := by
  have hN := h.2.1
  have e0 : kX1 (d + 1) 5 [.ref 0, .int 33, .int a, .int b] y = rX1_isRight d (239, [some (.ref 0), some (.int 33), some (.int a), some (.int b), none, none], [], y) := by simp [eX1_isRight, bX1_isRight_12, bX1_isRight_59, bX1_isRight_106, bX1_isRight_148]
  rw [e0]
  rw [wX1_isRight_239_33 _ _ _ _ _ rfl]
  simp only [bX1_isRight_958, sX1_isFree (show 2 ≤ d by omega) h, sX1_isA (show 3 ≤ d by omega) h, sX1_isOf (show 4 ≤ d by omega) h, sX1_isStatement (show 3 ≤ d by omega) h, sX1_isExpression (show 3 ≤ d by omega) h, sX1_isBetween (show 4 ≤ d by omega) h, sX1_isTarget (show 4 ≤ d by omega) h, sp_tg_eq hW.2.2, sX1_isThere (show 1 ≤ d by omega) h, sX1_elementOf (show 1 ≤ d by omega), sX1_isExpressionKind (show 1 ≤ d by omega), mj_rI_k, sp_b0, mj_gb_b, h.2.2.1, h.2.2.2.2.2.1, sX1_isCall (show 4 ≤ d by omega) h hM hW, hM.2.2.1]
  have hg : ∀ (k q : Int32) r, sp_fk nt (sp_fr nt N) k q = true → mj_g k 4000 r = r := fun k q r hq => mj_g_k (sp_nd_in hN (sp_fk_nd hq) (Nat.le_refl _)) r
  have hv : ∀ (k : Int32) r, ¬ sp_val nt (sp_fr nt N) k = 0 → mj_g k 4000 r = r := fun k r hq => mj_g_k (sp_nd_in hN (sp_val_nd hq) (Nat.le_refl _)) r
  have ht : ∀ (k : Int32) r, ¬ sp_tg nt (sp_fr nt N) k = 0 → mj_g k 4000 r = r := fun k r hq => mj_g_k (sp_nd_in hN (sp_tg_nd hq) (Nat.le_refl _)) r
  have hw : ∀ (k : Int32) r, sp_nd N k = true → mj_g k 4000 r = r := fun k r hq => mj_g_k (sp_nd_in hN hq (Nat.le_refl _)) r
  have f1 := sp_val_rng hW.2.2 a
  have f2 := sp_val_rng hW.2.2 b
  have f3 : ∀ k q, sp_fk nt (sp_fr nt N) k q = true → sp_E q = false → sp_val nt (sp_fr nt N) k = 0 := fun k q => sp_val_fk
  have f4 : ∀ k, ¬ sp_val nt (sp_fr nt N) k = 0 → nt 3 k.toNatClampNeg = sp_val nt (sp_fr nt N) k := fun k => sp_val_v
  have f5 : sp_val nt (sp_fr nt N) (-1) = 0 := sp_val_m1
  have f6 : ∀ k, ¬ sp_tg nt (sp_fr nt N) k = 0 → nt 3 k.toNatClampNeg = sp_tg nt (sp_fr nt N) k ∧ sp_tg nt (sp_fr nt N) k = sp_val nt (sp_fr nt N) k := fun k => sp_tg_v hW.2.2
  have f9 := sp_tg_4 hW.2.2 a
  have g2 := sp_E_eq hW.2.2 a
  have g1 : ∀ k q r, sp_fk nt (sp_fr nt N) k q = true → sp_fk nt (sp_fr nt N) k r = true → q = r := fun k q r => sp_fk_2
  have f7 : ∀ k, sp_nd N k = true → 0 ≤ nt 3 k.toNatClampNeg := fun k hk => (hW.2.2 k hk).1
  have f8 : ∀ k q, sp_fk nt (sp_fr nt N) k q = true → sp_nd N k = true := fun k q => sp_fk_nd
  have e5 : sp_E 5 = false := rfl
  have e49 : sp_E 49 = false := rfl
  have e33 : sp_E 33 = false := rfl
  have hc : ∀ (g m : Int32) r, sp_call nt (sp_fr nt N) M par m g = true → mj_g m 40 r = r := fun g m r hq => mj_g_k (sp_call_in hM.2.1 hq) r
  have hc2 : ∀ (m g : Int32), sp_call nt (sp_fr nt N) M par m g = true → 0 ≤ res m.toNatClampNeg := fun m g hq => by
    unfold sp_call at hq
    simp only [Bool.and_eq_true] at hq
    obtain ⟨q1, q2⟩ := (sp_nd_iff (by have := hM.2.1; omega) m).mp hq.1.1
    exact hR _ (by show m.toInt.toNat < M; omega)
  simp only [sp_ty]
  simp <;> grind [sp_b, sp_isv, sp_i, sp_bin, sp_el, sp_ao]
theorem tX1_r34 {d : Nat} (hd : 5 ≤ d) {y : mj_X} {nt : sp_NT} {N M : Nat} {res par : Nat → Int32} (h : md_T y nt N) (hM : md_M y M res par) (hW : sp_W nt N M par) (hR : ∀ m, m < M → 0 ≤ res m) (a b : Int32) : kX1 (d + 1) 5 [.ref 0, .int 34, .int a, .int b] y = some (some (.int (sp_b (!decide (sp_ty nt (sp_nd N) (sp_fr nt N) M res par 34 a b = -1)))), y) := by
  have hN := h.2.1
  have e0 : kX1 (d + 1) 5 [.ref 0, .int 34, .int a, .int b] y = rX1_isRight d (239, [some (.ref 0), some (.int 34), some (.int a), some (.int b), none, none], [], y) := by simp [eX1_isRight, bX1_isRight_12, bX1_isRight_59, bX1_isRight_106, bX1_isRight_148]
  rw [e0]
  rw [wX1_isRight_239_34 _ _ _ _ _ rfl]
  simp only [bX1_isRight_991, sX1_isFree (show 2 ≤ d by omega) h, sX1_isA (show 3 ≤ d by omega) h, sX1_isOf (show 4 ≤ d by omega) h, sX1_isStatement (show 3 ≤ d by omega) h, sX1_isExpression (show 3 ≤ d by omega) h, sX1_isBetween (show 4 ≤ d by omega) h, sX1_isTarget (show 4 ≤ d by omega) h, sp_tg_eq hW.2.2, sX1_isThere (show 1 ≤ d by omega) h, sX1_elementOf (show 1 ≤ d by omega), sX1_isExpressionKind (show 1 ≤ d by omega), mj_rI_k, sp_b0, mj_gb_b, h.2.2.1, h.2.2.2.2.2.1, sX1_isCall (show 4 ≤ d by omega) h hM hW, hM.2.2.1]
  have hg : ∀ (k q : Int32) r, sp_fk nt (sp_fr nt N) k q = true → mj_g k 4000 r = r := fun k q r hq => mj_g_k (sp_nd_in hN (sp_fk_nd hq) (Nat.le_refl _)) r
  have hv : ∀ (k : Int32) r, ¬ sp_val nt (sp_fr nt N) k = 0 → mj_g k 4000 r = r := fun k r hq => mj_g_k (sp_nd_in hN (sp_val_nd hq) (Nat.le_refl _)) r
  have ht : ∀ (k : Int32) r, ¬ sp_tg nt (sp_fr nt N) k = 0 → mj_g k 4000 r = r := fun k r hq => mj_g_k (sp_nd_in hN (sp_tg_nd hq) (Nat.le_refl _)) r
  have hw : ∀ (k : Int32) r, sp_nd N k = true → mj_g k 4000 r = r := fun k r hq => mj_g_k (sp_nd_in hN hq (Nat.le_refl _)) r
  have f1 := sp_val_rng hW.2.2 a
  have f2 := sp_val_rng hW.2.2 b
  have f3 : ∀ k q, sp_fk nt (sp_fr nt N) k q = true → sp_E q = false → sp_val nt (sp_fr nt N) k = 0 := fun k q => sp_val_fk
  have f4 : ∀ k, ¬ sp_val nt (sp_fr nt N) k = 0 → nt 3 k.toNatClampNeg = sp_val nt (sp_fr nt N) k := fun k => sp_val_v
  have f5 : sp_val nt (sp_fr nt N) (-1) = 0 := sp_val_m1
  have f6 : ∀ k, ¬ sp_tg nt (sp_fr nt N) k = 0 → nt 3 k.toNatClampNeg = sp_tg nt (sp_fr nt N) k ∧ sp_tg nt (sp_fr nt N) k = sp_val nt (sp_fr nt N) k := fun k => sp_tg_v hW.2.2
  have f9 := sp_tg_4 hW.2.2 a
  have g2 := sp_E_eq hW.2.2 a
  have g1 : ∀ k q r, sp_fk nt (sp_fr nt N) k q = true → sp_fk nt (sp_fr nt N) k r = true → q = r := fun k q r => sp_fk_2
  have f7 : ∀ k, sp_nd N k = true → 0 ≤ nt 3 k.toNatClampNeg := fun k hk => (hW.2.2 k hk).1
  have f8 : ∀ k q, sp_fk nt (sp_fr nt N) k q = true → sp_nd N k = true := fun k q => sp_fk_nd
  have e5 : sp_E 5 = false := rfl
  have e49 : sp_E 49 = false := rfl
  have e33 : sp_E 33 = false := rfl
  have hc : ∀ (g m : Int32) r, sp_call nt (sp_fr nt N) M par m g = true → mj_g m 40 r = r := fun g m r hq => mj_g_k (sp_call_in hM.2.1 hq) r
  have hc2 : ∀ (m g : Int32), sp_call nt (sp_fr nt N) M par m g = true → 0 ≤ res m.toNatClampNeg := fun m g hq => by
    unfold sp_call at hq
    simp only [Bool.and_eq_true] at hq
    obtain ⟨q1, q2⟩ := (sp_nd_iff (by have := hM.2.1; omega) m).mp hq.1.1
    exact hR _ (by show m.toInt.toNat < M; omega)
  simp only [sp_ty]
  simp <;> grind [sp_b, sp_isv, sp_i, sp_bin, sp_el, sp_ao]
theorem tX1_r35 {d : Nat} (hd : 5 ≤ d) {y : mj_X} {nt : sp_NT} {N M : Nat} {res par : Nat → Int32} (h : md_T y nt N) (hM : md_M y M res par) (hW : sp_W nt N M par) (hR : ∀ m, m < M → 0 ≤ res m) (a b : Int32) : kX1 (d + 1) 5 [.ref 0, .int 35, .int a, .int b] y = some (some (.int (sp_b (!decide (sp_ty nt (sp_nd N) (sp_fr nt N) M res par 35 a b = -1)))), y) := by
  have hN := h.2.1
  have e0 : kX1 (d + 1) 5 [.ref 0, .int 35, .int a, .int b] y = rX1_isRight d (148, [some (.ref 0), some (.int 35), some (.int a), some (.int b), none, none], [], y) := by simp [eX1_isRight, bX1_isRight_12, bX1_isRight_59, bX1_isRight_106]
  rw [e0]
  skip
  simp only [bX1_isRight_148, bX1_isRight_201, sX1_isFree (show 2 ≤ d by omega) h, sX1_isA (show 3 ≤ d by omega) h, sX1_isOf (show 4 ≤ d by omega) h, sX1_isStatement (show 3 ≤ d by omega) h, sX1_isExpression (show 3 ≤ d by omega) h, sX1_isBetween (show 4 ≤ d by omega) h, sX1_isTarget (show 4 ≤ d by omega) h, sp_tg_eq hW.2.2, sX1_isThere (show 1 ≤ d by omega) h, sX1_elementOf (show 1 ≤ d by omega), sX1_isExpressionKind (show 1 ≤ d by omega), mj_rI_k, sp_b0, mj_gb_b, h.2.2.1, h.2.2.2.2.2.1, sX1_isCall (show 4 ≤ d by omega) h hM hW, hM.2.2.1]
  have hg : ∀ (k q : Int32) r, sp_fk nt (sp_fr nt N) k q = true → mj_g k 4000 r = r := fun k q r hq => mj_g_k (sp_nd_in hN (sp_fk_nd hq) (Nat.le_refl _)) r
  have hv : ∀ (k : Int32) r, ¬ sp_val nt (sp_fr nt N) k = 0 → mj_g k 4000 r = r := fun k r hq => mj_g_k (sp_nd_in hN (sp_val_nd hq) (Nat.le_refl _)) r
  have ht : ∀ (k : Int32) r, ¬ sp_tg nt (sp_fr nt N) k = 0 → mj_g k 4000 r = r := fun k r hq => mj_g_k (sp_nd_in hN (sp_tg_nd hq) (Nat.le_refl _)) r
  have hw : ∀ (k : Int32) r, sp_nd N k = true → mj_g k 4000 r = r := fun k r hq => mj_g_k (sp_nd_in hN hq (Nat.le_refl _)) r
  have f1 := sp_val_rng hW.2.2 a
  have f2 := sp_val_rng hW.2.2 b
  have f3 : ∀ k q, sp_fk nt (sp_fr nt N) k q = true → sp_E q = false → sp_val nt (sp_fr nt N) k = 0 := fun k q => sp_val_fk
  have f4 : ∀ k, ¬ sp_val nt (sp_fr nt N) k = 0 → nt 3 k.toNatClampNeg = sp_val nt (sp_fr nt N) k := fun k => sp_val_v
  have f5 : sp_val nt (sp_fr nt N) (-1) = 0 := sp_val_m1
  have f6 : ∀ k, ¬ sp_tg nt (sp_fr nt N) k = 0 → nt 3 k.toNatClampNeg = sp_tg nt (sp_fr nt N) k ∧ sp_tg nt (sp_fr nt N) k = sp_val nt (sp_fr nt N) k := fun k => sp_tg_v hW.2.2
  have f9 := sp_tg_4 hW.2.2 a
  have g2 := sp_E_eq hW.2.2 a
  have g1 : ∀ k q r, sp_fk nt (sp_fr nt N) k q = true → sp_fk nt (sp_fr nt N) k r = true → q = r := fun k q r => sp_fk_2
  have f7 : ∀ k, sp_nd N k = true → 0 ≤ nt 3 k.toNatClampNeg := fun k hk => (hW.2.2 k hk).1
  have f8 : ∀ k q, sp_fk nt (sp_fr nt N) k q = true → sp_nd N k = true := fun k q => sp_fk_nd
  have e5 : sp_E 5 = false := rfl
  have e49 : sp_E 49 = false := rfl
  have e33 : sp_E 33 = false := rfl
  have hc : ∀ (g m : Int32) r, sp_call nt (sp_fr nt N) M par m g = true → mj_g m 40 r = r := fun g m r hq => mj_g_k (sp_call_in hM.2.1 hq) r
  have hc2 : ∀ (m g : Int32), sp_call nt (sp_fr nt N) M par m g = true → 0 ≤ res m.toNatClampNeg := fun m g hq => by
    unfold sp_call at hq
    simp only [Bool.and_eq_true] at hq
    obtain ⟨q1, q2⟩ := (sp_nd_iff (by have := hM.2.1; omega) m).mp hq.1.1
    exact hR _ (by show m.toInt.toNat < M; omega)
  simp only [sp_ty]
  simp <;> grind [sp_b, sp_isv, sp_i, sp_bin, sp_el, sp_ao]
theorem tX1_r36 {d : Nat} (hd : 5 ≤ d) {y : mj_X} {nt : sp_NT} {N M : Nat} {res par : Nat → Int32} (h : md_T y nt N) (hM : md_M y M res par) (hW : sp_W nt N M par) (hR : ∀ m, m < M → 0 ≤ res m) (a b : Int32) : kX1 (d + 1) 5 [.ref 0, .int 36, .int a, .int b] y = some (some (.int (sp_b (!decide (sp_ty nt (sp_nd N) (sp_fr nt N) M res par 36 a b = -1)))), y) := by
  have hN := h.2.1
  have e0 : kX1 (d + 1) 5 [.ref 0, .int 36, .int a, .int b] y = rX1_isRight d (148, [some (.ref 0), some (.int 36), some (.int a), some (.int b), none, none], [], y) := by simp [eX1_isRight, bX1_isRight_12, bX1_isRight_59, bX1_isRight_106]
  rw [e0]
  skip
  simp only [bX1_isRight_148, bX1_isRight_201, sX1_isFree (show 2 ≤ d by omega) h, sX1_isA (show 3 ≤ d by omega) h, sX1_isOf (show 4 ≤ d by omega) h, sX1_isStatement (show 3 ≤ d by omega) h, sX1_isExpression (show 3 ≤ d by omega) h, sX1_isBetween (show 4 ≤ d by omega) h, sX1_isTarget (show 4 ≤ d by omega) h, sp_tg_eq hW.2.2, sX1_isThere (show 1 ≤ d by omega) h, sX1_elementOf (show 1 ≤ d by omega), sX1_isExpressionKind (show 1 ≤ d by omega), mj_rI_k, sp_b0, mj_gb_b, h.2.2.1, h.2.2.2.2.2.1, sX1_isCall (show 4 ≤ d by omega) h hM hW, hM.2.2.1]
  have hg : ∀ (k q : Int32) r, sp_fk nt (sp_fr nt N) k q = true → mj_g k 4000 r = r := fun k q r hq => mj_g_k (sp_nd_in hN (sp_fk_nd hq) (Nat.le_refl _)) r
  have hv : ∀ (k : Int32) r, ¬ sp_val nt (sp_fr nt N) k = 0 → mj_g k 4000 r = r := fun k r hq => mj_g_k (sp_nd_in hN (sp_val_nd hq) (Nat.le_refl _)) r
  have ht : ∀ (k : Int32) r, ¬ sp_tg nt (sp_fr nt N) k = 0 → mj_g k 4000 r = r := fun k r hq => mj_g_k (sp_nd_in hN (sp_tg_nd hq) (Nat.le_refl _)) r
  have hw : ∀ (k : Int32) r, sp_nd N k = true → mj_g k 4000 r = r := fun k r hq => mj_g_k (sp_nd_in hN hq (Nat.le_refl _)) r
  have f1 := sp_val_rng hW.2.2 a
  have f2 := sp_val_rng hW.2.2 b
  have f3 : ∀ k q, sp_fk nt (sp_fr nt N) k q = true → sp_E q = false → sp_val nt (sp_fr nt N) k = 0 := fun k q => sp_val_fk
  have f4 : ∀ k, ¬ sp_val nt (sp_fr nt N) k = 0 → nt 3 k.toNatClampNeg = sp_val nt (sp_fr nt N) k := fun k => sp_val_v
  have f5 : sp_val nt (sp_fr nt N) (-1) = 0 := sp_val_m1
  have f6 : ∀ k, ¬ sp_tg nt (sp_fr nt N) k = 0 → nt 3 k.toNatClampNeg = sp_tg nt (sp_fr nt N) k ∧ sp_tg nt (sp_fr nt N) k = sp_val nt (sp_fr nt N) k := fun k => sp_tg_v hW.2.2
  have f9 := sp_tg_4 hW.2.2 a
  have g2 := sp_E_eq hW.2.2 a
  have g1 : ∀ k q r, sp_fk nt (sp_fr nt N) k q = true → sp_fk nt (sp_fr nt N) k r = true → q = r := fun k q r => sp_fk_2
  have f7 : ∀ k, sp_nd N k = true → 0 ≤ nt 3 k.toNatClampNeg := fun k hk => (hW.2.2 k hk).1
  have f8 : ∀ k q, sp_fk nt (sp_fr nt N) k q = true → sp_nd N k = true := fun k q => sp_fk_nd
  have e5 : sp_E 5 = false := rfl
  have e49 : sp_E 49 = false := rfl
  have e33 : sp_E 33 = false := rfl
  have hc : ∀ (g m : Int32) r, sp_call nt (sp_fr nt N) M par m g = true → mj_g m 40 r = r := fun g m r hq => mj_g_k (sp_call_in hM.2.1 hq) r
  have hc2 : ∀ (m g : Int32), sp_call nt (sp_fr nt N) M par m g = true → 0 ≤ res m.toNatClampNeg := fun m g hq => by
    unfold sp_call at hq
    simp only [Bool.and_eq_true] at hq
    obtain ⟨q1, q2⟩ := (sp_nd_iff (by have := hM.2.1; omega) m).mp hq.1.1
    exact hR _ (by show m.toInt.toNat < M; omega)
  simp only [sp_ty]
  simp <;> grind [sp_b, sp_isv, sp_i, sp_bin, sp_el, sp_ao]
theorem tX1_r37 {d : Nat} (hd : 5 ≤ d) {y : mj_X} {nt : sp_NT} {N M : Nat} {res par : Nat → Int32} (h : md_T y nt N) (hM : md_M y M res par) (hW : sp_W nt N M par) (hR : ∀ m, m < M → 0 ≤ res m) (a b : Int32) : kX1 (d + 1) 5 [.ref 0, .int 37, .int a, .int b] y = some (some (.int (sp_b (!decide (sp_ty nt (sp_nd N) (sp_fr nt N) M res par 37 a b = -1)))), y) := by
  have hN := h.2.1
  have e0 : kX1 (d + 1) 5 [.ref 0, .int 37, .int a, .int b] y = rX1_isRight d (148, [some (.ref 0), some (.int 37), some (.int a), some (.int b), none, none], [], y) := by simp [eX1_isRight, bX1_isRight_12, bX1_isRight_59, bX1_isRight_106]
  rw [e0]
  skip
  simp only [bX1_isRight_148, bX1_isRight_201, sX1_isFree (show 2 ≤ d by omega) h, sX1_isA (show 3 ≤ d by omega) h, sX1_isOf (show 4 ≤ d by omega) h, sX1_isStatement (show 3 ≤ d by omega) h, sX1_isExpression (show 3 ≤ d by omega) h, sX1_isBetween (show 4 ≤ d by omega) h, sX1_isTarget (show 4 ≤ d by omega) h, sp_tg_eq hW.2.2, sX1_isThere (show 1 ≤ d by omega) h, sX1_elementOf (show 1 ≤ d by omega), sX1_isExpressionKind (show 1 ≤ d by omega), mj_rI_k, sp_b0, mj_gb_b, h.2.2.1, h.2.2.2.2.2.1, sX1_isCall (show 4 ≤ d by omega) h hM hW, hM.2.2.1]
  have hg : ∀ (k q : Int32) r, sp_fk nt (sp_fr nt N) k q = true → mj_g k 4000 r = r := fun k q r hq => mj_g_k (sp_nd_in hN (sp_fk_nd hq) (Nat.le_refl _)) r
  have hv : ∀ (k : Int32) r, ¬ sp_val nt (sp_fr nt N) k = 0 → mj_g k 4000 r = r := fun k r hq => mj_g_k (sp_nd_in hN (sp_val_nd hq) (Nat.le_refl _)) r
  have ht : ∀ (k : Int32) r, ¬ sp_tg nt (sp_fr nt N) k = 0 → mj_g k 4000 r = r := fun k r hq => mj_g_k (sp_nd_in hN (sp_tg_nd hq) (Nat.le_refl _)) r
  have hw : ∀ (k : Int32) r, sp_nd N k = true → mj_g k 4000 r = r := fun k r hq => mj_g_k (sp_nd_in hN hq (Nat.le_refl _)) r
  have f1 := sp_val_rng hW.2.2 a
  have f2 := sp_val_rng hW.2.2 b
  have f3 : ∀ k q, sp_fk nt (sp_fr nt N) k q = true → sp_E q = false → sp_val nt (sp_fr nt N) k = 0 := fun k q => sp_val_fk
  have f4 : ∀ k, ¬ sp_val nt (sp_fr nt N) k = 0 → nt 3 k.toNatClampNeg = sp_val nt (sp_fr nt N) k := fun k => sp_val_v
  have f5 : sp_val nt (sp_fr nt N) (-1) = 0 := sp_val_m1
  have f6 : ∀ k, ¬ sp_tg nt (sp_fr nt N) k = 0 → nt 3 k.toNatClampNeg = sp_tg nt (sp_fr nt N) k ∧ sp_tg nt (sp_fr nt N) k = sp_val nt (sp_fr nt N) k := fun k => sp_tg_v hW.2.2
  have f9 := sp_tg_4 hW.2.2 a
  have g2 := sp_E_eq hW.2.2 a
  have g1 : ∀ k q r, sp_fk nt (sp_fr nt N) k q = true → sp_fk nt (sp_fr nt N) k r = true → q = r := fun k q r => sp_fk_2
  have f7 : ∀ k, sp_nd N k = true → 0 ≤ nt 3 k.toNatClampNeg := fun k hk => (hW.2.2 k hk).1
  have f8 : ∀ k q, sp_fk nt (sp_fr nt N) k q = true → sp_nd N k = true := fun k q => sp_fk_nd
  have e5 : sp_E 5 = false := rfl
  have e49 : sp_E 49 = false := rfl
  have e33 : sp_E 33 = false := rfl
  have hc : ∀ (g m : Int32) r, sp_call nt (sp_fr nt N) M par m g = true → mj_g m 40 r = r := fun g m r hq => mj_g_k (sp_call_in hM.2.1 hq) r
  have hc2 : ∀ (m g : Int32), sp_call nt (sp_fr nt N) M par m g = true → 0 ≤ res m.toNatClampNeg := fun m g hq => by
    unfold sp_call at hq
    simp only [Bool.and_eq_true] at hq
    obtain ⟨q1, q2⟩ := (sp_nd_iff (by have := hM.2.1; omega) m).mp hq.1.1
    exact hR _ (by show m.toInt.toNat < M; omega)
  simp only [sp_ty]
  simp <;> grind [sp_b, sp_isv, sp_i, sp_bin, sp_el, sp_ao]
theorem tX1_r38 {d : Nat} (hd : 5 ≤ d) {y : mj_X} {nt : sp_NT} {N M : Nat} {res par : Nat → Int32} (h : md_T y nt N) (hM : md_M y M res par) (hW : sp_W nt N M par) (hR : ∀ m, m < M → 0 ≤ res m) (a b : Int32) : kX1 (d + 1) 5 [.ref 0, .int 38, .int a, .int b] y = some (some (.int (sp_b (!decide (sp_ty nt (sp_nd N) (sp_fr nt N) M res par 38 a b = -1)))), y) := by
  have hN := h.2.1
  have e0 : kX1 (d + 1) 5 [.ref 0, .int 38, .int a, .int b] y = rX1_isRight d (148, [some (.ref 0), some (.int 38), some (.int a), some (.int b), none, none], [], y) := by simp [eX1_isRight, bX1_isRight_12, bX1_isRight_59, bX1_isRight_106]
  rw [e0]
  skip
  simp only [bX1_isRight_148, bX1_isRight_201, sX1_isFree (show 2 ≤ d by omega) h, sX1_isA (show 3 ≤ d by omega) h, sX1_isOf (show 4 ≤ d by omega) h, sX1_isStatement (show 3 ≤ d by omega) h, sX1_isExpression (show 3 ≤ d by omega) h, sX1_isBetween (show 4 ≤ d by omega) h, sX1_isTarget (show 4 ≤ d by omega) h, sp_tg_eq hW.2.2, sX1_isThere (show 1 ≤ d by omega) h, sX1_elementOf (show 1 ≤ d by omega), sX1_isExpressionKind (show 1 ≤ d by omega), mj_rI_k, sp_b0, mj_gb_b, h.2.2.1, h.2.2.2.2.2.1, sX1_isCall (show 4 ≤ d by omega) h hM hW, hM.2.2.1]
  have hg : ∀ (k q : Int32) r, sp_fk nt (sp_fr nt N) k q = true → mj_g k 4000 r = r := fun k q r hq => mj_g_k (sp_nd_in hN (sp_fk_nd hq) (Nat.le_refl _)) r
  have hv : ∀ (k : Int32) r, ¬ sp_val nt (sp_fr nt N) k = 0 → mj_g k 4000 r = r := fun k r hq => mj_g_k (sp_nd_in hN (sp_val_nd hq) (Nat.le_refl _)) r
  have ht : ∀ (k : Int32) r, ¬ sp_tg nt (sp_fr nt N) k = 0 → mj_g k 4000 r = r := fun k r hq => mj_g_k (sp_nd_in hN (sp_tg_nd hq) (Nat.le_refl _)) r
  have hw : ∀ (k : Int32) r, sp_nd N k = true → mj_g k 4000 r = r := fun k r hq => mj_g_k (sp_nd_in hN hq (Nat.le_refl _)) r
  have f1 := sp_val_rng hW.2.2 a
  have f2 := sp_val_rng hW.2.2 b
  have f3 : ∀ k q, sp_fk nt (sp_fr nt N) k q = true → sp_E q = false → sp_val nt (sp_fr nt N) k = 0 := fun k q => sp_val_fk
  have f4 : ∀ k, ¬ sp_val nt (sp_fr nt N) k = 0 → nt 3 k.toNatClampNeg = sp_val nt (sp_fr nt N) k := fun k => sp_val_v
  have f5 : sp_val nt (sp_fr nt N) (-1) = 0 := sp_val_m1
  have f6 : ∀ k, ¬ sp_tg nt (sp_fr nt N) k = 0 → nt 3 k.toNatClampNeg = sp_tg nt (sp_fr nt N) k ∧ sp_tg nt (sp_fr nt N) k = sp_val nt (sp_fr nt N) k := fun k => sp_tg_v hW.2.2
  have f9 := sp_tg_4 hW.2.2 a
  have g2 := sp_E_eq hW.2.2 a
  have g1 : ∀ k q r, sp_fk nt (sp_fr nt N) k q = true → sp_fk nt (sp_fr nt N) k r = true → q = r := fun k q r => sp_fk_2
  have f7 : ∀ k, sp_nd N k = true → 0 ≤ nt 3 k.toNatClampNeg := fun k hk => (hW.2.2 k hk).1
  have f8 : ∀ k q, sp_fk nt (sp_fr nt N) k q = true → sp_nd N k = true := fun k q => sp_fk_nd
  have e5 : sp_E 5 = false := rfl
  have e49 : sp_E 49 = false := rfl
  have e33 : sp_E 33 = false := rfl
  have hc : ∀ (g m : Int32) r, sp_call nt (sp_fr nt N) M par m g = true → mj_g m 40 r = r := fun g m r hq => mj_g_k (sp_call_in hM.2.1 hq) r
  have hc2 : ∀ (m g : Int32), sp_call nt (sp_fr nt N) M par m g = true → 0 ≤ res m.toNatClampNeg := fun m g hq => by
    unfold sp_call at hq
    simp only [Bool.and_eq_true] at hq
    obtain ⟨q1, q2⟩ := (sp_nd_iff (by have := hM.2.1; omega) m).mp hq.1.1
    exact hR _ (by show m.toInt.toNat < M; omega)
  simp only [sp_ty]
  simp <;> grind [sp_b, sp_isv, sp_i, sp_bin, sp_el, sp_ao]
theorem tX1_r39 {d : Nat} (hd : 5 ≤ d) {y : mj_X} {nt : sp_NT} {N M : Nat} {res par : Nat → Int32} (h : md_T y nt N) (hM : md_M y M res par) (hW : sp_W nt N M par) (hR : ∀ m, m < M → 0 ≤ res m) (a b : Int32) : kX1 (d + 1) 5 [.ref 0, .int 39, .int a, .int b] y = some (some (.int (sp_b (!decide (sp_ty nt (sp_nd N) (sp_fr nt N) M res par 39 a b = -1)))), y) := by
  have hN := h.2.1
  have e0 : kX1 (d + 1) 5 [.ref 0, .int 39, .int a, .int b] y = rX1_isRight d (148, [some (.ref 0), some (.int 39), some (.int a), some (.int b), none, none], [], y) := by simp [eX1_isRight, bX1_isRight_12, bX1_isRight_59, bX1_isRight_106]
  rw [e0]
  skip
  simp only [bX1_isRight_148, bX1_isRight_201, sX1_isFree (show 2 ≤ d by omega) h, sX1_isA (show 3 ≤ d by omega) h, sX1_isOf (show 4 ≤ d by omega) h, sX1_isStatement (show 3 ≤ d by omega) h, sX1_isExpression (show 3 ≤ d by omega) h, sX1_isBetween (show 4 ≤ d by omega) h, sX1_isTarget (show 4 ≤ d by omega) h, sp_tg_eq hW.2.2, sX1_isThere (show 1 ≤ d by omega) h, sX1_elementOf (show 1 ≤ d by omega), sX1_isExpressionKind (show 1 ≤ d by omega), mj_rI_k, sp_b0, mj_gb_b, h.2.2.1, h.2.2.2.2.2.1, sX1_isCall (show 4 ≤ d by omega) h hM hW, hM.2.2.1]
  have hg : ∀ (k q : Int32) r, sp_fk nt (sp_fr nt N) k q = true → mj_g k 4000 r = r := fun k q r hq => mj_g_k (sp_nd_in hN (sp_fk_nd hq) (Nat.le_refl _)) r
  have hv : ∀ (k : Int32) r, ¬ sp_val nt (sp_fr nt N) k = 0 → mj_g k 4000 r = r := fun k r hq => mj_g_k (sp_nd_in hN (sp_val_nd hq) (Nat.le_refl _)) r
  have ht : ∀ (k : Int32) r, ¬ sp_tg nt (sp_fr nt N) k = 0 → mj_g k 4000 r = r := fun k r hq => mj_g_k (sp_nd_in hN (sp_tg_nd hq) (Nat.le_refl _)) r
  have hw : ∀ (k : Int32) r, sp_nd N k = true → mj_g k 4000 r = r := fun k r hq => mj_g_k (sp_nd_in hN hq (Nat.le_refl _)) r
  have f1 := sp_val_rng hW.2.2 a
  have f2 := sp_val_rng hW.2.2 b
  have f3 : ∀ k q, sp_fk nt (sp_fr nt N) k q = true → sp_E q = false → sp_val nt (sp_fr nt N) k = 0 := fun k q => sp_val_fk
  have f4 : ∀ k, ¬ sp_val nt (sp_fr nt N) k = 0 → nt 3 k.toNatClampNeg = sp_val nt (sp_fr nt N) k := fun k => sp_val_v
  have f5 : sp_val nt (sp_fr nt N) (-1) = 0 := sp_val_m1
  have f6 : ∀ k, ¬ sp_tg nt (sp_fr nt N) k = 0 → nt 3 k.toNatClampNeg = sp_tg nt (sp_fr nt N) k ∧ sp_tg nt (sp_fr nt N) k = sp_val nt (sp_fr nt N) k := fun k => sp_tg_v hW.2.2
  have f9 := sp_tg_4 hW.2.2 a
  have g2 := sp_E_eq hW.2.2 a
  have g1 : ∀ k q r, sp_fk nt (sp_fr nt N) k q = true → sp_fk nt (sp_fr nt N) k r = true → q = r := fun k q r => sp_fk_2
  have f7 : ∀ k, sp_nd N k = true → 0 ≤ nt 3 k.toNatClampNeg := fun k hk => (hW.2.2 k hk).1
  have f8 : ∀ k q, sp_fk nt (sp_fr nt N) k q = true → sp_nd N k = true := fun k q => sp_fk_nd
  have e5 : sp_E 5 = false := rfl
  have e49 : sp_E 49 = false := rfl
  have e33 : sp_E 33 = false := rfl
  have hc : ∀ (g m : Int32) r, sp_call nt (sp_fr nt N) M par m g = true → mj_g m 40 r = r := fun g m r hq => mj_g_k (sp_call_in hM.2.1 hq) r
  have hc2 : ∀ (m g : Int32), sp_call nt (sp_fr nt N) M par m g = true → 0 ≤ res m.toNatClampNeg := fun m g hq => by
    unfold sp_call at hq
    simp only [Bool.and_eq_true] at hq
    obtain ⟨q1, q2⟩ := (sp_nd_iff (by have := hM.2.1; omega) m).mp hq.1.1
    exact hR _ (by show m.toInt.toNat < M; omega)
  simp only [sp_ty]
  simp <;> grind [sp_b, sp_isv, sp_i, sp_bin, sp_el, sp_ao]
theorem tX1_r40 {d : Nat} (hd : 5 ≤ d) {y : mj_X} {nt : sp_NT} {N M : Nat} {res par : Nat → Int32} (h : md_T y nt N) (hM : md_M y M res par) (hW : sp_W nt N M par) (hR : ∀ m, m < M → 0 ≤ res m) (a b : Int32) : kX1 (d + 1) 5 [.ref 0, .int 40, .int a, .int b] y = some (some (.int (sp_b (!decide (sp_ty nt (sp_nd N) (sp_fr nt N) M res par 40 a b = -1)))), y) := by
  have hN := h.2.1
  have e0 : kX1 (d + 1) 5 [.ref 0, .int 40, .int a, .int b] y = rX1_isRight d (148, [some (.ref 0), some (.int 40), some (.int a), some (.int b), none, none], [], y) := by simp [eX1_isRight, bX1_isRight_12, bX1_isRight_59, bX1_isRight_106]
  rw [e0]
  skip
  simp only [bX1_isRight_148, bX1_isRight_201, sX1_isFree (show 2 ≤ d by omega) h, sX1_isA (show 3 ≤ d by omega) h, sX1_isOf (show 4 ≤ d by omega) h, sX1_isStatement (show 3 ≤ d by omega) h, sX1_isExpression (show 3 ≤ d by omega) h, sX1_isBetween (show 4 ≤ d by omega) h, sX1_isTarget (show 4 ≤ d by omega) h, sp_tg_eq hW.2.2, sX1_isThere (show 1 ≤ d by omega) h, sX1_elementOf (show 1 ≤ d by omega), sX1_isExpressionKind (show 1 ≤ d by omega), mj_rI_k, sp_b0, mj_gb_b, h.2.2.1, h.2.2.2.2.2.1, sX1_isCall (show 4 ≤ d by omega) h hM hW, hM.2.2.1]
  have hg : ∀ (k q : Int32) r, sp_fk nt (sp_fr nt N) k q = true → mj_g k 4000 r = r := fun k q r hq => mj_g_k (sp_nd_in hN (sp_fk_nd hq) (Nat.le_refl _)) r
  have hv : ∀ (k : Int32) r, ¬ sp_val nt (sp_fr nt N) k = 0 → mj_g k 4000 r = r := fun k r hq => mj_g_k (sp_nd_in hN (sp_val_nd hq) (Nat.le_refl _)) r
  have ht : ∀ (k : Int32) r, ¬ sp_tg nt (sp_fr nt N) k = 0 → mj_g k 4000 r = r := fun k r hq => mj_g_k (sp_nd_in hN (sp_tg_nd hq) (Nat.le_refl _)) r
  have hw : ∀ (k : Int32) r, sp_nd N k = true → mj_g k 4000 r = r := fun k r hq => mj_g_k (sp_nd_in hN hq (Nat.le_refl _)) r
  have f1 := sp_val_rng hW.2.2 a
  have f2 := sp_val_rng hW.2.2 b
  have f3 : ∀ k q, sp_fk nt (sp_fr nt N) k q = true → sp_E q = false → sp_val nt (sp_fr nt N) k = 0 := fun k q => sp_val_fk
  have f4 : ∀ k, ¬ sp_val nt (sp_fr nt N) k = 0 → nt 3 k.toNatClampNeg = sp_val nt (sp_fr nt N) k := fun k => sp_val_v
  have f5 : sp_val nt (sp_fr nt N) (-1) = 0 := sp_val_m1
  have f6 : ∀ k, ¬ sp_tg nt (sp_fr nt N) k = 0 → nt 3 k.toNatClampNeg = sp_tg nt (sp_fr nt N) k ∧ sp_tg nt (sp_fr nt N) k = sp_val nt (sp_fr nt N) k := fun k => sp_tg_v hW.2.2
  have f9 := sp_tg_4 hW.2.2 a
  have g2 := sp_E_eq hW.2.2 a
  have g1 : ∀ k q r, sp_fk nt (sp_fr nt N) k q = true → sp_fk nt (sp_fr nt N) k r = true → q = r := fun k q r => sp_fk_2
  have f7 : ∀ k, sp_nd N k = true → 0 ≤ nt 3 k.toNatClampNeg := fun k hk => (hW.2.2 k hk).1
  have f8 : ∀ k q, sp_fk nt (sp_fr nt N) k q = true → sp_nd N k = true := fun k q => sp_fk_nd
  have e5 : sp_E 5 = false := rfl
  have e49 : sp_E 49 = false := rfl
  have e33 : sp_E 33 = false := rfl
  have hc : ∀ (g m : Int32) r, sp_call nt (sp_fr nt N) M par m g = true → mj_g m 40 r = r := fun g m r hq => mj_g_k (sp_call_in hM.2.1 hq) r
  have hc2 : ∀ (m g : Int32), sp_call nt (sp_fr nt N) M par m g = true → 0 ≤ res m.toNatClampNeg := fun m g hq => by
    unfold sp_call at hq
    simp only [Bool.and_eq_true] at hq
    obtain ⟨q1, q2⟩ := (sp_nd_iff (by have := hM.2.1; omega) m).mp hq.1.1
    exact hR _ (by show m.toInt.toNat < M; omega)
  simp only [sp_ty]
  simp <;> grind [sp_b, sp_isv, sp_i, sp_bin, sp_el, sp_ao]
theorem tX1_r41 {d : Nat} (hd : 5 ≤ d) {y : mj_X} {nt : sp_NT} {N M : Nat} {res par : Nat → Int32} (h : md_T y nt N) (hM : md_M y M res par) (hW : sp_W nt N M par) (hR : ∀ m, m < M → 0 ≤ res m) (a b : Int32) : kX1 (d + 1) 5 [.ref 0, .int 41, .int a, .int b] y = some (some (.int (sp_b (!decide (sp_ty nt (sp_nd N) (sp_fr nt N) M res par 41 a b = -1)))), y) := by
  have hN := h.2.1
  have e0 : kX1 (d + 1) 5 [.ref 0, .int 41, .int a, .int b] y = rX1_isRight d (148, [some (.ref 0), some (.int 41), some (.int a), some (.int b), none, none], [], y) := by simp [eX1_isRight, bX1_isRight_12, bX1_isRight_59, bX1_isRight_106]
  rw [e0]
  skip
  simp only [bX1_isRight_148, bX1_isRight_201, sX1_isFree (show 2 ≤ d by omega) h, sX1_isA (show 3 ≤ d by omega) h, sX1_isOf (show 4 ≤ d by omega) h, sX1_isStatement (show 3 ≤ d by omega) h, sX1_isExpression (show 3 ≤ d by omega) h, sX1_isBetween (show 4 ≤ d by omega) h, sX1_isTarget (show 4 ≤ d by omega) h, sp_tg_eq hW.2.2, sX1_isThere (show 1 ≤ d by omega) h, sX1_elementOf (show 1 ≤ d by omega), sX1_isExpressionKind (show 1 ≤ d by omega), mj_rI_k, sp_b0, mj_gb_b, h.2.2.1, h.2.2.2.2.2.1, sX1_isCall (show 4 ≤ d by omega) h hM hW, hM.2.2.1]
  have hg : ∀ (k q : Int32) r, sp_fk nt (sp_fr nt N) k q = true → mj_g k 4000 r = r := fun k q r hq => mj_g_k (sp_nd_in hN (sp_fk_nd hq) (Nat.le_refl _)) r
  have hv : ∀ (k : Int32) r, ¬ sp_val nt (sp_fr nt N) k = 0 → mj_g k 4000 r = r := fun k r hq => mj_g_k (sp_nd_in hN (sp_val_nd hq) (Nat.le_refl _)) r
  have ht : ∀ (k : Int32) r, ¬ sp_tg nt (sp_fr nt N) k = 0 → mj_g k 4000 r = r := fun k r hq => mj_g_k (sp_nd_in hN (sp_tg_nd hq) (Nat.le_refl _)) r
  have hw : ∀ (k : Int32) r, sp_nd N k = true → mj_g k 4000 r = r := fun k r hq => mj_g_k (sp_nd_in hN hq (Nat.le_refl _)) r
  have f1 := sp_val_rng hW.2.2 a
  have f2 := sp_val_rng hW.2.2 b
  have f3 : ∀ k q, sp_fk nt (sp_fr nt N) k q = true → sp_E q = false → sp_val nt (sp_fr nt N) k = 0 := fun k q => sp_val_fk
  have f4 : ∀ k, ¬ sp_val nt (sp_fr nt N) k = 0 → nt 3 k.toNatClampNeg = sp_val nt (sp_fr nt N) k := fun k => sp_val_v
  have f5 : sp_val nt (sp_fr nt N) (-1) = 0 := sp_val_m1
  have f6 : ∀ k, ¬ sp_tg nt (sp_fr nt N) k = 0 → nt 3 k.toNatClampNeg = sp_tg nt (sp_fr nt N) k ∧ sp_tg nt (sp_fr nt N) k = sp_val nt (sp_fr nt N) k := fun k => sp_tg_v hW.2.2
  have f9 := sp_tg_4 hW.2.2 a
  have g2 := sp_E_eq hW.2.2 a
  have g1 : ∀ k q r, sp_fk nt (sp_fr nt N) k q = true → sp_fk nt (sp_fr nt N) k r = true → q = r := fun k q r => sp_fk_2
  have f7 : ∀ k, sp_nd N k = true → 0 ≤ nt 3 k.toNatClampNeg := fun k hk => (hW.2.2 k hk).1
  have f8 : ∀ k q, sp_fk nt (sp_fr nt N) k q = true → sp_nd N k = true := fun k q => sp_fk_nd
  have e5 : sp_E 5 = false := rfl
  have e49 : sp_E 49 = false := rfl
  have e33 : sp_E 33 = false := rfl
  have hc : ∀ (g m : Int32) r, sp_call nt (sp_fr nt N) M par m g = true → mj_g m 40 r = r := fun g m r hq => mj_g_k (sp_call_in hM.2.1 hq) r
  have hc2 : ∀ (m g : Int32), sp_call nt (sp_fr nt N) M par m g = true → 0 ≤ res m.toNatClampNeg := fun m g hq => by
    unfold sp_call at hq
    simp only [Bool.and_eq_true] at hq
    obtain ⟨q1, q2⟩ := (sp_nd_iff (by have := hM.2.1; omega) m).mp hq.1.1
    exact hR _ (by show m.toInt.toNat < M; omega)
  simp only [sp_ty]
  simp <;> grind [sp_b, sp_isv, sp_i, sp_bin, sp_el, sp_ao]
theorem tX1_r42 {d : Nat} (hd : 5 ≤ d) {y : mj_X} {nt : sp_NT} {N M : Nat} {res par : Nat → Int32} (h : md_T y nt N) (hM : md_M y M res par) (hW : sp_W nt N M par) (hR : ∀ m, m < M → 0 ≤ res m) (a b : Int32) : kX1 (d + 1) 5 [.ref 0, .int 42, .int a, .int b] y = some (some (.int (sp_b (!decide (sp_ty nt (sp_nd N) (sp_fr nt N) M res par 42 a b = -1)))), y) := by
  have hN := h.2.1
  have e0 : kX1 (d + 1) 5 [.ref 0, .int 42, .int a, .int b] y = rX1_isRight d (148, [some (.ref 0), some (.int 42), some (.int a), some (.int b), none, none], [], y) := by simp [eX1_isRight, bX1_isRight_12, bX1_isRight_59, bX1_isRight_106]
  rw [e0]
  skip
  simp only [bX1_isRight_148, bX1_isRight_201, sX1_isFree (show 2 ≤ d by omega) h, sX1_isA (show 3 ≤ d by omega) h, sX1_isOf (show 4 ≤ d by omega) h, sX1_isStatement (show 3 ≤ d by omega) h, sX1_isExpression (show 3 ≤ d by omega) h, sX1_isBetween (show 4 ≤ d by omega) h, sX1_isTarget (show 4 ≤ d by omega) h, sp_tg_eq hW.2.2, sX1_isThere (show 1 ≤ d by omega) h, sX1_elementOf (show 1 ≤ d by omega), sX1_isExpressionKind (show 1 ≤ d by omega), mj_rI_k, sp_b0, mj_gb_b, h.2.2.1, h.2.2.2.2.2.1, sX1_isCall (show 4 ≤ d by omega) h hM hW, hM.2.2.1]
  have hg : ∀ (k q : Int32) r, sp_fk nt (sp_fr nt N) k q = true → mj_g k 4000 r = r := fun k q r hq => mj_g_k (sp_nd_in hN (sp_fk_nd hq) (Nat.le_refl _)) r
  have hv : ∀ (k : Int32) r, ¬ sp_val nt (sp_fr nt N) k = 0 → mj_g k 4000 r = r := fun k r hq => mj_g_k (sp_nd_in hN (sp_val_nd hq) (Nat.le_refl _)) r
  have ht : ∀ (k : Int32) r, ¬ sp_tg nt (sp_fr nt N) k = 0 → mj_g k 4000 r = r := fun k r hq => mj_g_k (sp_nd_in hN (sp_tg_nd hq) (Nat.le_refl _)) r
  have hw : ∀ (k : Int32) r, sp_nd N k = true → mj_g k 4000 r = r := fun k r hq => mj_g_k (sp_nd_in hN hq (Nat.le_refl _)) r
  have f1 := sp_val_rng hW.2.2 a
  have f2 := sp_val_rng hW.2.2 b
  have f3 : ∀ k q, sp_fk nt (sp_fr nt N) k q = true → sp_E q = false → sp_val nt (sp_fr nt N) k = 0 := fun k q => sp_val_fk
  have f4 : ∀ k, ¬ sp_val nt (sp_fr nt N) k = 0 → nt 3 k.toNatClampNeg = sp_val nt (sp_fr nt N) k := fun k => sp_val_v
  have f5 : sp_val nt (sp_fr nt N) (-1) = 0 := sp_val_m1
  have f6 : ∀ k, ¬ sp_tg nt (sp_fr nt N) k = 0 → nt 3 k.toNatClampNeg = sp_tg nt (sp_fr nt N) k ∧ sp_tg nt (sp_fr nt N) k = sp_val nt (sp_fr nt N) k := fun k => sp_tg_v hW.2.2
  have f9 := sp_tg_4 hW.2.2 a
  have g2 := sp_E_eq hW.2.2 a
  have g1 : ∀ k q r, sp_fk nt (sp_fr nt N) k q = true → sp_fk nt (sp_fr nt N) k r = true → q = r := fun k q r => sp_fk_2
  have f7 : ∀ k, sp_nd N k = true → 0 ≤ nt 3 k.toNatClampNeg := fun k hk => (hW.2.2 k hk).1
  have f8 : ∀ k q, sp_fk nt (sp_fr nt N) k q = true → sp_nd N k = true := fun k q => sp_fk_nd
  have e5 : sp_E 5 = false := rfl
  have e49 : sp_E 49 = false := rfl
  have e33 : sp_E 33 = false := rfl
  have hc : ∀ (g m : Int32) r, sp_call nt (sp_fr nt N) M par m g = true → mj_g m 40 r = r := fun g m r hq => mj_g_k (sp_call_in hM.2.1 hq) r
  have hc2 : ∀ (m g : Int32), sp_call nt (sp_fr nt N) M par m g = true → 0 ≤ res m.toNatClampNeg := fun m g hq => by
    unfold sp_call at hq
    simp only [Bool.and_eq_true] at hq
    obtain ⟨q1, q2⟩ := (sp_nd_iff (by have := hM.2.1; omega) m).mp hq.1.1
    exact hR _ (by show m.toInt.toNat < M; omega)
  simp only [sp_ty]
  simp <;> grind [sp_b, sp_isv, sp_i, sp_bin, sp_el, sp_ao]
theorem tX1_r43 {d : Nat} (hd : 5 ≤ d) {y : mj_X} {nt : sp_NT} {N M : Nat} {res par : Nat → Int32} (h : md_T y nt N) (hM : md_M y M res par) (hW : sp_W nt N M par) (hR : ∀ m, m < M → 0 ≤ res m) (a b : Int32) : kX1 (d + 1) 5 [.ref 0, .int 43, .int a, .int b] y = some (some (.int (sp_b (!decide (sp_ty nt (sp_nd N) (sp_fr nt N) M res par 43 a b = -1)))), y) := by
  have hN := h.2.1
  have e0 : kX1 (d + 1) 5 [.ref 0, .int 43, .int a, .int b] y = rX1_isRight d (148, [some (.ref 0), some (.int 43), some (.int a), some (.int b), none, none], [], y) := by simp [eX1_isRight, bX1_isRight_12, bX1_isRight_59, bX1_isRight_106]
  rw [e0]
  skip
  simp only [bX1_isRight_148, bX1_isRight_201, sX1_isFree (show 2 ≤ d by omega) h, sX1_isA (show 3 ≤ d by omega) h, sX1_isOf (show 4 ≤ d by omega) h, sX1_isStatement (show 3 ≤ d by omega) h, sX1_isExpression (show 3 ≤ d by omega) h, sX1_isBetween (show 4 ≤ d by omega) h, sX1_isTarget (show 4 ≤ d by omega) h, sp_tg_eq hW.2.2, sX1_isThere (show 1 ≤ d by omega) h, sX1_elementOf (show 1 ≤ d by omega), sX1_isExpressionKind (show 1 ≤ d by omega), mj_rI_k, sp_b0, mj_gb_b, h.2.2.1, h.2.2.2.2.2.1, sX1_isCall (show 4 ≤ d by omega) h hM hW, hM.2.2.1]
  have hg : ∀ (k q : Int32) r, sp_fk nt (sp_fr nt N) k q = true → mj_g k 4000 r = r := fun k q r hq => mj_g_k (sp_nd_in hN (sp_fk_nd hq) (Nat.le_refl _)) r
  have hv : ∀ (k : Int32) r, ¬ sp_val nt (sp_fr nt N) k = 0 → mj_g k 4000 r = r := fun k r hq => mj_g_k (sp_nd_in hN (sp_val_nd hq) (Nat.le_refl _)) r
  have ht : ∀ (k : Int32) r, ¬ sp_tg nt (sp_fr nt N) k = 0 → mj_g k 4000 r = r := fun k r hq => mj_g_k (sp_nd_in hN (sp_tg_nd hq) (Nat.le_refl _)) r
  have hw : ∀ (k : Int32) r, sp_nd N k = true → mj_g k 4000 r = r := fun k r hq => mj_g_k (sp_nd_in hN hq (Nat.le_refl _)) r
  have f1 := sp_val_rng hW.2.2 a
  have f2 := sp_val_rng hW.2.2 b
  have f3 : ∀ k q, sp_fk nt (sp_fr nt N) k q = true → sp_E q = false → sp_val nt (sp_fr nt N) k = 0 := fun k q => sp_val_fk
  have f4 : ∀ k, ¬ sp_val nt (sp_fr nt N) k = 0 → nt 3 k.toNatClampNeg = sp_val nt (sp_fr nt N) k := fun k => sp_val_v
  have f5 : sp_val nt (sp_fr nt N) (-1) = 0 := sp_val_m1
  have f6 : ∀ k, ¬ sp_tg nt (sp_fr nt N) k = 0 → nt 3 k.toNatClampNeg = sp_tg nt (sp_fr nt N) k ∧ sp_tg nt (sp_fr nt N) k = sp_val nt (sp_fr nt N) k := fun k => sp_tg_v hW.2.2
  have f9 := sp_tg_4 hW.2.2 a
  have g2 := sp_E_eq hW.2.2 a
  have g1 : ∀ k q r, sp_fk nt (sp_fr nt N) k q = true → sp_fk nt (sp_fr nt N) k r = true → q = r := fun k q r => sp_fk_2
  have f7 : ∀ k, sp_nd N k = true → 0 ≤ nt 3 k.toNatClampNeg := fun k hk => (hW.2.2 k hk).1
  have f8 : ∀ k q, sp_fk nt (sp_fr nt N) k q = true → sp_nd N k = true := fun k q => sp_fk_nd
  have e5 : sp_E 5 = false := rfl
  have e49 : sp_E 49 = false := rfl
  have e33 : sp_E 33 = false := rfl
  have hc : ∀ (g m : Int32) r, sp_call nt (sp_fr nt N) M par m g = true → mj_g m 40 r = r := fun g m r hq => mj_g_k (sp_call_in hM.2.1 hq) r
  have hc2 : ∀ (m g : Int32), sp_call nt (sp_fr nt N) M par m g = true → 0 ≤ res m.toNatClampNeg := fun m g hq => by
    unfold sp_call at hq
    simp only [Bool.and_eq_true] at hq
    obtain ⟨q1, q2⟩ := (sp_nd_iff (by have := hM.2.1; omega) m).mp hq.1.1
    exact hR _ (by show m.toInt.toNat < M; omega)
  simp only [sp_ty]
  simp <;> grind [sp_b, sp_isv, sp_i, sp_bin, sp_el, sp_ao]
theorem tX1_r44 {d : Nat} (hd : 5 ≤ d) {y : mj_X} {nt : sp_NT} {N M : Nat} {res par : Nat → Int32} (h : md_T y nt N) (hM : md_M y M res par) (hW : sp_W nt N M par) (hR : ∀ m, m < M → 0 ≤ res m) (a b : Int32) : kX1 (d + 1) 5 [.ref 0, .int 44, .int a, .int b] y = some (some (.int (sp_b (!decide (sp_ty nt (sp_nd N) (sp_fr nt N) M res par 44 a b = -1)))), y) := by
  have hN := h.2.1
  have e0 : kX1 (d + 1) 5 [.ref 0, .int 44, .int a, .int b] y = rX1_isRight d (148, [some (.ref 0), some (.int 44), some (.int a), some (.int b), none, none], [], y) := by simp [eX1_isRight, bX1_isRight_12, bX1_isRight_59, bX1_isRight_106]
  rw [e0]
  skip
  simp only [bX1_isRight_148, bX1_isRight_201, sX1_isFree (show 2 ≤ d by omega) h, sX1_isA (show 3 ≤ d by omega) h, sX1_isOf (show 4 ≤ d by omega) h, sX1_isStatement (show 3 ≤ d by omega) h, sX1_isExpression (show 3 ≤ d by omega) h, sX1_isBetween (show 4 ≤ d by omega) h, sX1_isTarget (show 4 ≤ d by omega) h, sp_tg_eq hW.2.2, sX1_isThere (show 1 ≤ d by omega) h, sX1_elementOf (show 1 ≤ d by omega), sX1_isExpressionKind (show 1 ≤ d by omega), mj_rI_k, sp_b0, mj_gb_b, h.2.2.1, h.2.2.2.2.2.1, sX1_isCall (show 4 ≤ d by omega) h hM hW, hM.2.2.1]
  have hg : ∀ (k q : Int32) r, sp_fk nt (sp_fr nt N) k q = true → mj_g k 4000 r = r := fun k q r hq => mj_g_k (sp_nd_in hN (sp_fk_nd hq) (Nat.le_refl _)) r
  have hv : ∀ (k : Int32) r, ¬ sp_val nt (sp_fr nt N) k = 0 → mj_g k 4000 r = r := fun k r hq => mj_g_k (sp_nd_in hN (sp_val_nd hq) (Nat.le_refl _)) r
  have ht : ∀ (k : Int32) r, ¬ sp_tg nt (sp_fr nt N) k = 0 → mj_g k 4000 r = r := fun k r hq => mj_g_k (sp_nd_in hN (sp_tg_nd hq) (Nat.le_refl _)) r
  have hw : ∀ (k : Int32) r, sp_nd N k = true → mj_g k 4000 r = r := fun k r hq => mj_g_k (sp_nd_in hN hq (Nat.le_refl _)) r
  have f1 := sp_val_rng hW.2.2 a
  have f2 := sp_val_rng hW.2.2 b
  have f3 : ∀ k q, sp_fk nt (sp_fr nt N) k q = true → sp_E q = false → sp_val nt (sp_fr nt N) k = 0 := fun k q => sp_val_fk
  have f4 : ∀ k, ¬ sp_val nt (sp_fr nt N) k = 0 → nt 3 k.toNatClampNeg = sp_val nt (sp_fr nt N) k := fun k => sp_val_v
  have f5 : sp_val nt (sp_fr nt N) (-1) = 0 := sp_val_m1
  have f6 : ∀ k, ¬ sp_tg nt (sp_fr nt N) k = 0 → nt 3 k.toNatClampNeg = sp_tg nt (sp_fr nt N) k ∧ sp_tg nt (sp_fr nt N) k = sp_val nt (sp_fr nt N) k := fun k => sp_tg_v hW.2.2
  have f9 := sp_tg_4 hW.2.2 a
  have g2 := sp_E_eq hW.2.2 a
  have g1 : ∀ k q r, sp_fk nt (sp_fr nt N) k q = true → sp_fk nt (sp_fr nt N) k r = true → q = r := fun k q r => sp_fk_2
  have f7 : ∀ k, sp_nd N k = true → 0 ≤ nt 3 k.toNatClampNeg := fun k hk => (hW.2.2 k hk).1
  have f8 : ∀ k q, sp_fk nt (sp_fr nt N) k q = true → sp_nd N k = true := fun k q => sp_fk_nd
  have e5 : sp_E 5 = false := rfl
  have e49 : sp_E 49 = false := rfl
  have e33 : sp_E 33 = false := rfl
  have hc : ∀ (g m : Int32) r, sp_call nt (sp_fr nt N) M par m g = true → mj_g m 40 r = r := fun g m r hq => mj_g_k (sp_call_in hM.2.1 hq) r
  have hc2 : ∀ (m g : Int32), sp_call nt (sp_fr nt N) M par m g = true → 0 ≤ res m.toNatClampNeg := fun m g hq => by
    unfold sp_call at hq
    simp only [Bool.and_eq_true] at hq
    obtain ⟨q1, q2⟩ := (sp_nd_iff (by have := hM.2.1; omega) m).mp hq.1.1
    exact hR _ (by show m.toInt.toNat < M; omega)
  simp only [sp_ty]
  simp <;> grind [sp_b, sp_isv, sp_i, sp_bin, sp_el, sp_ao]
theorem tX1_r45 {d : Nat} (hd : 5 ≤ d) {y : mj_X} {nt : sp_NT} {N M : Nat} {res par : Nat → Int32} (h : md_T y nt N) (hM : md_M y M res par) (hW : sp_W nt N M par) (hR : ∀ m, m < M → 0 ≤ res m) (a b : Int32) : kX1 (d + 1) 5 [.ref 0, .int 45, .int a, .int b] y = some (some (.int (sp_b (!decide (sp_ty nt (sp_nd N) (sp_fr nt N) M res par 45 a b = -1)))), y) := by
  have hN := h.2.1
  have e0 : kX1 (d + 1) 5 [.ref 0, .int 45, .int a, .int b] y = rX1_isRight d (148, [some (.ref 0), some (.int 45), some (.int a), some (.int b), none, none], [], y) := by simp [eX1_isRight, bX1_isRight_12, bX1_isRight_59, bX1_isRight_106]
  rw [e0]
  skip
  simp only [bX1_isRight_148, bX1_isRight_201, sX1_isFree (show 2 ≤ d by omega) h, sX1_isA (show 3 ≤ d by omega) h, sX1_isOf (show 4 ≤ d by omega) h, sX1_isStatement (show 3 ≤ d by omega) h, sX1_isExpression (show 3 ≤ d by omega) h, sX1_isBetween (show 4 ≤ d by omega) h, sX1_isTarget (show 4 ≤ d by omega) h, sp_tg_eq hW.2.2, sX1_isThere (show 1 ≤ d by omega) h, sX1_elementOf (show 1 ≤ d by omega), sX1_isExpressionKind (show 1 ≤ d by omega), mj_rI_k, sp_b0, mj_gb_b, h.2.2.1, h.2.2.2.2.2.1, sX1_isCall (show 4 ≤ d by omega) h hM hW, hM.2.2.1]
  have hg : ∀ (k q : Int32) r, sp_fk nt (sp_fr nt N) k q = true → mj_g k 4000 r = r := fun k q r hq => mj_g_k (sp_nd_in hN (sp_fk_nd hq) (Nat.le_refl _)) r
  have hv : ∀ (k : Int32) r, ¬ sp_val nt (sp_fr nt N) k = 0 → mj_g k 4000 r = r := fun k r hq => mj_g_k (sp_nd_in hN (sp_val_nd hq) (Nat.le_refl _)) r
  have ht : ∀ (k : Int32) r, ¬ sp_tg nt (sp_fr nt N) k = 0 → mj_g k 4000 r = r := fun k r hq => mj_g_k (sp_nd_in hN (sp_tg_nd hq) (Nat.le_refl _)) r
  have hw : ∀ (k : Int32) r, sp_nd N k = true → mj_g k 4000 r = r := fun k r hq => mj_g_k (sp_nd_in hN hq (Nat.le_refl _)) r
  have f1 := sp_val_rng hW.2.2 a
  have f2 := sp_val_rng hW.2.2 b
  have f3 : ∀ k q, sp_fk nt (sp_fr nt N) k q = true → sp_E q = false → sp_val nt (sp_fr nt N) k = 0 := fun k q => sp_val_fk
  have f4 : ∀ k, ¬ sp_val nt (sp_fr nt N) k = 0 → nt 3 k.toNatClampNeg = sp_val nt (sp_fr nt N) k := fun k => sp_val_v
  have f5 : sp_val nt (sp_fr nt N) (-1) = 0 := sp_val_m1
  have f6 : ∀ k, ¬ sp_tg nt (sp_fr nt N) k = 0 → nt 3 k.toNatClampNeg = sp_tg nt (sp_fr nt N) k ∧ sp_tg nt (sp_fr nt N) k = sp_val nt (sp_fr nt N) k := fun k => sp_tg_v hW.2.2
  have f9 := sp_tg_4 hW.2.2 a
  have g2 := sp_E_eq hW.2.2 a
  have g1 : ∀ k q r, sp_fk nt (sp_fr nt N) k q = true → sp_fk nt (sp_fr nt N) k r = true → q = r := fun k q r => sp_fk_2
  have f7 : ∀ k, sp_nd N k = true → 0 ≤ nt 3 k.toNatClampNeg := fun k hk => (hW.2.2 k hk).1
  have f8 : ∀ k q, sp_fk nt (sp_fr nt N) k q = true → sp_nd N k = true := fun k q => sp_fk_nd
  have e5 : sp_E 5 = false := rfl
  have e49 : sp_E 49 = false := rfl
  have e33 : sp_E 33 = false := rfl
  have hc : ∀ (g m : Int32) r, sp_call nt (sp_fr nt N) M par m g = true → mj_g m 40 r = r := fun g m r hq => mj_g_k (sp_call_in hM.2.1 hq) r
  have hc2 : ∀ (m g : Int32), sp_call nt (sp_fr nt N) M par m g = true → 0 ≤ res m.toNatClampNeg := fun m g hq => by
    unfold sp_call at hq
    simp only [Bool.and_eq_true] at hq
    obtain ⟨q1, q2⟩ := (sp_nd_iff (by have := hM.2.1; omega) m).mp hq.1.1
    exact hR _ (by show m.toInt.toNat < M; omega)
  simp only [sp_ty]
  simp <;> grind [sp_b, sp_isv, sp_i, sp_bin, sp_el, sp_ao]
theorem tX1_r46 {d : Nat} (hd : 5 ≤ d) {y : mj_X} {nt : sp_NT} {N M : Nat} {res par : Nat → Int32} (h : md_T y nt N) (hM : md_M y M res par) (hW : sp_W nt N M par) (hR : ∀ m, m < M → 0 ≤ res m) (a b : Int32) : kX1 (d + 1) 5 [.ref 0, .int 46, .int a, .int b] y = some (some (.int (sp_b (!decide (sp_ty nt (sp_nd N) (sp_fr nt N) M res par 46 a b = -1)))), y) := by
  have hN := h.2.1
  have e0 : kX1 (d + 1) 5 [.ref 0, .int 46, .int a, .int b] y = rX1_isRight d (239, [some (.ref 0), some (.int 46), some (.int a), some (.int b), none, none], [], y) := by simp [eX1_isRight, bX1_isRight_12, bX1_isRight_59, bX1_isRight_106, bX1_isRight_148]
  rw [e0]
  rw [wX1_isRight_239_46 _ _ _ _ _ rfl]
  simp only [bX1_isRight_1014, sX1_isFree (show 2 ≤ d by omega) h, sX1_isA (show 3 ≤ d by omega) h, sX1_isOf (show 4 ≤ d by omega) h, sX1_isStatement (show 3 ≤ d by omega) h, sX1_isExpression (show 3 ≤ d by omega) h, sX1_isBetween (show 4 ≤ d by omega) h, sX1_isTarget (show 4 ≤ d by omega) h, sp_tg_eq hW.2.2, sX1_isThere (show 1 ≤ d by omega) h, sX1_elementOf (show 1 ≤ d by omega), sX1_isExpressionKind (show 1 ≤ d by omega), mj_rI_k, sp_b0, mj_gb_b, h.2.2.1, h.2.2.2.2.2.1, sX1_isCall (show 4 ≤ d by omega) h hM hW, hM.2.2.1]
  have hg : ∀ (k q : Int32) r, sp_fk nt (sp_fr nt N) k q = true → mj_g k 4000 r = r := fun k q r hq => mj_g_k (sp_nd_in hN (sp_fk_nd hq) (Nat.le_refl _)) r
  have hv : ∀ (k : Int32) r, ¬ sp_val nt (sp_fr nt N) k = 0 → mj_g k 4000 r = r := fun k r hq => mj_g_k (sp_nd_in hN (sp_val_nd hq) (Nat.le_refl _)) r
  have ht : ∀ (k : Int32) r, ¬ sp_tg nt (sp_fr nt N) k = 0 → mj_g k 4000 r = r := fun k r hq => mj_g_k (sp_nd_in hN (sp_tg_nd hq) (Nat.le_refl _)) r
  have hw : ∀ (k : Int32) r, sp_nd N k = true → mj_g k 4000 r = r := fun k r hq => mj_g_k (sp_nd_in hN hq (Nat.le_refl _)) r
  have f1 := sp_val_rng hW.2.2 a
  have f2 := sp_val_rng hW.2.2 b
  have f3 : ∀ k q, sp_fk nt (sp_fr nt N) k q = true → sp_E q = false → sp_val nt (sp_fr nt N) k = 0 := fun k q => sp_val_fk
  have f4 : ∀ k, ¬ sp_val nt (sp_fr nt N) k = 0 → nt 3 k.toNatClampNeg = sp_val nt (sp_fr nt N) k := fun k => sp_val_v
  have f5 : sp_val nt (sp_fr nt N) (-1) = 0 := sp_val_m1
  have f6 : ∀ k, ¬ sp_tg nt (sp_fr nt N) k = 0 → nt 3 k.toNatClampNeg = sp_tg nt (sp_fr nt N) k ∧ sp_tg nt (sp_fr nt N) k = sp_val nt (sp_fr nt N) k := fun k => sp_tg_v hW.2.2
  have f9 := sp_tg_4 hW.2.2 a
  have g2 := sp_E_eq hW.2.2 a
  have g1 : ∀ k q r, sp_fk nt (sp_fr nt N) k q = true → sp_fk nt (sp_fr nt N) k r = true → q = r := fun k q r => sp_fk_2
  have f7 : ∀ k, sp_nd N k = true → 0 ≤ nt 3 k.toNatClampNeg := fun k hk => (hW.2.2 k hk).1
  have f8 : ∀ k q, sp_fk nt (sp_fr nt N) k q = true → sp_nd N k = true := fun k q => sp_fk_nd
  have e5 : sp_E 5 = false := rfl
  have e49 : sp_E 49 = false := rfl
  have e33 : sp_E 33 = false := rfl
  have hc : ∀ (g m : Int32) r, sp_call nt (sp_fr nt N) M par m g = true → mj_g m 40 r = r := fun g m r hq => mj_g_k (sp_call_in hM.2.1 hq) r
  have hc2 : ∀ (m g : Int32), sp_call nt (sp_fr nt N) M par m g = true → 0 ≤ res m.toNatClampNeg := fun m g hq => by
    unfold sp_call at hq
    simp only [Bool.and_eq_true] at hq
    obtain ⟨q1, q2⟩ := (sp_nd_iff (by have := hM.2.1; omega) m).mp hq.1.1
    exact hR _ (by show m.toInt.toNat < M; omega)
  simp only [sp_ty]
  simp <;> grind [sp_b, sp_isv, sp_i, sp_bin, sp_el, sp_ao]
theorem tX1_r47 {d : Nat} (hd : 5 ≤ d) {y : mj_X} {nt : sp_NT} {N M : Nat} {res par : Nat → Int32} (h : md_T y nt N) (hM : md_M y M res par) (hW : sp_W nt N M par) (hR : ∀ m, m < M → 0 ≤ res m) (a b : Int32) : kX1 (d + 1) 5 [.ref 0, .int 47, .int a, .int b] y = some (some (.int (sp_b (!decide (sp_ty nt (sp_nd N) (sp_fr nt N) M res par 47 a b = -1)))), y) := by
  have hN := h.2.1
  have e0 : kX1 (d + 1) 5 [.ref 0, .int 47, .int a, .int b] y = rX1_isRight d (239, [some (.ref 0), some (.int 47), some (.int a), some (.int b), none, none], [], y) := by simp [eX1_isRight, bX1_isRight_12, bX1_isRight_59, bX1_isRight_106, bX1_isRight_148]
  rw [e0]
  rw [wX1_isRight_239_47 _ _ _ _ _ rfl]
  simp only [bX1_isRight_1040, sX1_isFree (show 2 ≤ d by omega) h, sX1_isA (show 3 ≤ d by omega) h, sX1_isOf (show 4 ≤ d by omega) h, sX1_isStatement (show 3 ≤ d by omega) h, sX1_isExpression (show 3 ≤ d by omega) h, sX1_isBetween (show 4 ≤ d by omega) h, sX1_isTarget (show 4 ≤ d by omega) h, sp_tg_eq hW.2.2, sX1_isThere (show 1 ≤ d by omega) h, sX1_elementOf (show 1 ≤ d by omega), sX1_isExpressionKind (show 1 ≤ d by omega), mj_rI_k, sp_b0, mj_gb_b, h.2.2.1, h.2.2.2.2.2.1, sX1_isCall (show 4 ≤ d by omega) h hM hW, hM.2.2.1]
  have hg : ∀ (k q : Int32) r, sp_fk nt (sp_fr nt N) k q = true → mj_g k 4000 r = r := fun k q r hq => mj_g_k (sp_nd_in hN (sp_fk_nd hq) (Nat.le_refl _)) r
  have hv : ∀ (k : Int32) r, ¬ sp_val nt (sp_fr nt N) k = 0 → mj_g k 4000 r = r := fun k r hq => mj_g_k (sp_nd_in hN (sp_val_nd hq) (Nat.le_refl _)) r
  have ht : ∀ (k : Int32) r, ¬ sp_tg nt (sp_fr nt N) k = 0 → mj_g k 4000 r = r := fun k r hq => mj_g_k (sp_nd_in hN (sp_tg_nd hq) (Nat.le_refl _)) r
  have hw : ∀ (k : Int32) r, sp_nd N k = true → mj_g k 4000 r = r := fun k r hq => mj_g_k (sp_nd_in hN hq (Nat.le_refl _)) r
  have f1 := sp_val_rng hW.2.2 a
  have f2 := sp_val_rng hW.2.2 b
  have f3 : ∀ k q, sp_fk nt (sp_fr nt N) k q = true → sp_E q = false → sp_val nt (sp_fr nt N) k = 0 := fun k q => sp_val_fk
  have f4 : ∀ k, ¬ sp_val nt (sp_fr nt N) k = 0 → nt 3 k.toNatClampNeg = sp_val nt (sp_fr nt N) k := fun k => sp_val_v
  have f5 : sp_val nt (sp_fr nt N) (-1) = 0 := sp_val_m1
  have f6 : ∀ k, ¬ sp_tg nt (sp_fr nt N) k = 0 → nt 3 k.toNatClampNeg = sp_tg nt (sp_fr nt N) k ∧ sp_tg nt (sp_fr nt N) k = sp_val nt (sp_fr nt N) k := fun k => sp_tg_v hW.2.2
  have f9 := sp_tg_4 hW.2.2 a
  have g2 := sp_E_eq hW.2.2 a
  have g1 : ∀ k q r, sp_fk nt (sp_fr nt N) k q = true → sp_fk nt (sp_fr nt N) k r = true → q = r := fun k q r => sp_fk_2
  have f7 : ∀ k, sp_nd N k = true → 0 ≤ nt 3 k.toNatClampNeg := fun k hk => (hW.2.2 k hk).1
  have f8 : ∀ k q, sp_fk nt (sp_fr nt N) k q = true → sp_nd N k = true := fun k q => sp_fk_nd
  have e5 : sp_E 5 = false := rfl
  have e49 : sp_E 49 = false := rfl
  have e33 : sp_E 33 = false := rfl
  have hc : ∀ (g m : Int32) r, sp_call nt (sp_fr nt N) M par m g = true → mj_g m 40 r = r := fun g m r hq => mj_g_k (sp_call_in hM.2.1 hq) r
  have hc2 : ∀ (m g : Int32), sp_call nt (sp_fr nt N) M par m g = true → 0 ≤ res m.toNatClampNeg := fun m g hq => by
    unfold sp_call at hq
    simp only [Bool.and_eq_true] at hq
    obtain ⟨q1, q2⟩ := (sp_nd_iff (by have := hM.2.1; omega) m).mp hq.1.1
    exact hR _ (by show m.toInt.toNat < M; omega)
  simp only [sp_ty]
  simp <;> grind [sp_b, sp_isv, sp_i, sp_bin, sp_el, sp_ao]
theorem tX1_r48 {d : Nat} (hd : 5 ≤ d) {y : mj_X} {nt : sp_NT} {N M : Nat} {res par : Nat → Int32} (h : md_T y nt N) (hM : md_M y M res par) (hW : sp_W nt N M par) (hR : ∀ m, m < M → 0 ≤ res m) (a b : Int32) : kX1 (d + 1) 5 [.ref 0, .int 48, .int a, .int b] y = some (some (.int (sp_b (!decide (sp_ty nt (sp_nd N) (sp_fr nt N) M res par 48 a b = -1)))), y) := by
  have hN := h.2.1
  have e0 : kX1 (d + 1) 5 [.ref 0, .int 48, .int a, .int b] y = rX1_isRight d (239, [some (.ref 0), some (.int 48), some (.int a), some (.int b), none, none], [], y) := by simp [eX1_isRight, bX1_isRight_12, bX1_isRight_59, bX1_isRight_106, bX1_isRight_148]
  rw [e0]
  rw [wX1_isRight_239_48 _ _ _ _ _ rfl]
  simp only [bX1_isRight_1062, sX1_isFree (show 2 ≤ d by omega) h, sX1_isA (show 3 ≤ d by omega) h, sX1_isOf (show 4 ≤ d by omega) h, sX1_isStatement (show 3 ≤ d by omega) h, sX1_isExpression (show 3 ≤ d by omega) h, sX1_isBetween (show 4 ≤ d by omega) h, sX1_isTarget (show 4 ≤ d by omega) h, sp_tg_eq hW.2.2, sX1_isThere (show 1 ≤ d by omega) h, sX1_elementOf (show 1 ≤ d by omega), sX1_isExpressionKind (show 1 ≤ d by omega), mj_rI_k, sp_b0, mj_gb_b, h.2.2.1, h.2.2.2.2.2.1, sX1_isCall (show 4 ≤ d by omega) h hM hW, hM.2.2.1]
  have hg : ∀ (k q : Int32) r, sp_fk nt (sp_fr nt N) k q = true → mj_g k 4000 r = r := fun k q r hq => mj_g_k (sp_nd_in hN (sp_fk_nd hq) (Nat.le_refl _)) r
  have hv : ∀ (k : Int32) r, ¬ sp_val nt (sp_fr nt N) k = 0 → mj_g k 4000 r = r := fun k r hq => mj_g_k (sp_nd_in hN (sp_val_nd hq) (Nat.le_refl _)) r
  have ht : ∀ (k : Int32) r, ¬ sp_tg nt (sp_fr nt N) k = 0 → mj_g k 4000 r = r := fun k r hq => mj_g_k (sp_nd_in hN (sp_tg_nd hq) (Nat.le_refl _)) r
  have hw : ∀ (k : Int32) r, sp_nd N k = true → mj_g k 4000 r = r := fun k r hq => mj_g_k (sp_nd_in hN hq (Nat.le_refl _)) r
  have f1 := sp_val_rng hW.2.2 a
  have f2 := sp_val_rng hW.2.2 b
  have f3 : ∀ k q, sp_fk nt (sp_fr nt N) k q = true → sp_E q = false → sp_val nt (sp_fr nt N) k = 0 := fun k q => sp_val_fk
  have f4 : ∀ k, ¬ sp_val nt (sp_fr nt N) k = 0 → nt 3 k.toNatClampNeg = sp_val nt (sp_fr nt N) k := fun k => sp_val_v
  have f5 : sp_val nt (sp_fr nt N) (-1) = 0 := sp_val_m1
  have f6 : ∀ k, ¬ sp_tg nt (sp_fr nt N) k = 0 → nt 3 k.toNatClampNeg = sp_tg nt (sp_fr nt N) k ∧ sp_tg nt (sp_fr nt N) k = sp_val nt (sp_fr nt N) k := fun k => sp_tg_v hW.2.2
  have f9 := sp_tg_4 hW.2.2 a
  have g2 := sp_E_eq hW.2.2 a
  have g1 : ∀ k q r, sp_fk nt (sp_fr nt N) k q = true → sp_fk nt (sp_fr nt N) k r = true → q = r := fun k q r => sp_fk_2
  have f7 : ∀ k, sp_nd N k = true → 0 ≤ nt 3 k.toNatClampNeg := fun k hk => (hW.2.2 k hk).1
  have f8 : ∀ k q, sp_fk nt (sp_fr nt N) k q = true → sp_nd N k = true := fun k q => sp_fk_nd
  have e5 : sp_E 5 = false := rfl
  have e49 : sp_E 49 = false := rfl
  have e33 : sp_E 33 = false := rfl
  have hc : ∀ (g m : Int32) r, sp_call nt (sp_fr nt N) M par m g = true → mj_g m 40 r = r := fun g m r hq => mj_g_k (sp_call_in hM.2.1 hq) r
  have hc2 : ∀ (m g : Int32), sp_call nt (sp_fr nt N) M par m g = true → 0 ≤ res m.toNatClampNeg := fun m g hq => by
    unfold sp_call at hq
    simp only [Bool.and_eq_true] at hq
    obtain ⟨q1, q2⟩ := (sp_nd_iff (by have := hM.2.1; omega) m).mp hq.1.1
    exact hR _ (by show m.toInt.toNat < M; omega)
  simp only [sp_ty]
  simp <;> grind [sp_b, sp_isv, sp_i, sp_bin, sp_el, sp_ao]
theorem tX1_r49 {d : Nat} (hd : 5 ≤ d) {y : mj_X} {nt : sp_NT} {N M : Nat} {res par : Nat → Int32} (h : md_T y nt N) (hM : md_M y M res par) (hW : sp_W nt N M par) (hR : ∀ m, m < M → 0 ≤ res m) (a b : Int32) : kX1 (d + 1) 5 [.ref 0, .int 49, .int a, .int b] y = some (some (.int (sp_b (!decide (sp_ty nt (sp_nd N) (sp_fr nt N) M res par 49 a b = -1)))), y) := by
  have hN := h.2.1
  have e0 : kX1 (d + 1) 5 [.ref 0, .int 49, .int a, .int b] y = rX1_isRight d (239, [some (.ref 0), some (.int 49), some (.int a), some (.int b), none, none], [], y) := by simp [eX1_isRight, bX1_isRight_12, bX1_isRight_59, bX1_isRight_106, bX1_isRight_148]
  rw [e0]
  rw [wX1_isRight_239_49 _ _ _ _ _ rfl]
  simp only [bX1_isRight_1069, sX1_isFree (show 2 ≤ d by omega) h, sX1_isA (show 3 ≤ d by omega) h, sX1_isOf (show 4 ≤ d by omega) h, sX1_isStatement (show 3 ≤ d by omega) h, sX1_isExpression (show 3 ≤ d by omega) h, sX1_isBetween (show 4 ≤ d by omega) h, sX1_isTarget (show 4 ≤ d by omega) h, sp_tg_eq hW.2.2, sX1_isThere (show 1 ≤ d by omega) h, sX1_elementOf (show 1 ≤ d by omega), sX1_isExpressionKind (show 1 ≤ d by omega), mj_rI_k, sp_b0, mj_gb_b, h.2.2.1, h.2.2.2.2.2.1, sX1_isCall (show 4 ≤ d by omega) h hM hW, hM.2.2.1]
  have hg : ∀ (k q : Int32) r, sp_fk nt (sp_fr nt N) k q = true → mj_g k 4000 r = r := fun k q r hq => mj_g_k (sp_nd_in hN (sp_fk_nd hq) (Nat.le_refl _)) r
  have hv : ∀ (k : Int32) r, ¬ sp_val nt (sp_fr nt N) k = 0 → mj_g k 4000 r = r := fun k r hq => mj_g_k (sp_nd_in hN (sp_val_nd hq) (Nat.le_refl _)) r
  have ht : ∀ (k : Int32) r, ¬ sp_tg nt (sp_fr nt N) k = 0 → mj_g k 4000 r = r := fun k r hq => mj_g_k (sp_nd_in hN (sp_tg_nd hq) (Nat.le_refl _)) r
  have hw : ∀ (k : Int32) r, sp_nd N k = true → mj_g k 4000 r = r := fun k r hq => mj_g_k (sp_nd_in hN hq (Nat.le_refl _)) r
  have f1 := sp_val_rng hW.2.2 a
  have f2 := sp_val_rng hW.2.2 b
  have f3 : ∀ k q, sp_fk nt (sp_fr nt N) k q = true → sp_E q = false → sp_val nt (sp_fr nt N) k = 0 := fun k q => sp_val_fk
  have f4 : ∀ k, ¬ sp_val nt (sp_fr nt N) k = 0 → nt 3 k.toNatClampNeg = sp_val nt (sp_fr nt N) k := fun k => sp_val_v
  have f5 : sp_val nt (sp_fr nt N) (-1) = 0 := sp_val_m1
  have f6 : ∀ k, ¬ sp_tg nt (sp_fr nt N) k = 0 → nt 3 k.toNatClampNeg = sp_tg nt (sp_fr nt N) k ∧ sp_tg nt (sp_fr nt N) k = sp_val nt (sp_fr nt N) k := fun k => sp_tg_v hW.2.2
  have f9 := sp_tg_4 hW.2.2 a
  have g2 := sp_E_eq hW.2.2 a
  have g1 : ∀ k q r, sp_fk nt (sp_fr nt N) k q = true → sp_fk nt (sp_fr nt N) k r = true → q = r := fun k q r => sp_fk_2
  have f7 : ∀ k, sp_nd N k = true → 0 ≤ nt 3 k.toNatClampNeg := fun k hk => (hW.2.2 k hk).1
  have f8 : ∀ k q, sp_fk nt (sp_fr nt N) k q = true → sp_nd N k = true := fun k q => sp_fk_nd
  have e5 : sp_E 5 = false := rfl
  have e49 : sp_E 49 = false := rfl
  have e33 : sp_E 33 = false := rfl
  have hc : ∀ (g m : Int32) r, sp_call nt (sp_fr nt N) M par m g = true → mj_g m 40 r = r := fun g m r hq => mj_g_k (sp_call_in hM.2.1 hq) r
  have hc2 : ∀ (m g : Int32), sp_call nt (sp_fr nt N) M par m g = true → 0 ≤ res m.toNatClampNeg := fun m g hq => by
    unfold sp_call at hq
    simp only [Bool.and_eq_true] at hq
    obtain ⟨q1, q2⟩ := (sp_nd_iff (by have := hM.2.1; omega) m).mp hq.1.1
    exact hR _ (by show m.toInt.toNat < M; omega)
  simp only [sp_ty]
  simp <;> grind [sp_b, sp_isv, sp_i, sp_bin, sp_el, sp_ao]
theorem tX1_r51 {d : Nat} (hd : 5 ≤ d) {y : mj_X} {nt : sp_NT} {N M : Nat} {res par : Nat → Int32} (h : md_T y nt N) (hM : md_M y M res par) (hW : sp_W nt N M par) (hR : ∀ m, m < M → 0 ≤ res m) (a b : Int32) : kX1 (d + 1) 5 [.ref 0, .int 51, .int a, .int b] y = some (some (.int (sp_b (!decide (sp_ty nt (sp_nd N) (sp_fr nt N) M res par 51 a b = -1)))), y) := by
  have hN := h.2.1
  have e0 : kX1 (d + 1) 5 [.ref 0, .int 51, .int a, .int b] y = rX1_isRight d (239, [some (.ref 0), some (.int 51), some (.int a), some (.int b), none, none], [], y) := by simp [eX1_isRight, bX1_isRight_12, bX1_isRight_59, bX1_isRight_106, bX1_isRight_148]
  rw [e0]
  rw [wX1_isRight_239_51 _ _ _ _ _ rfl]
  simp only [bX1_isRight_670, sX1_isFree (show 2 ≤ d by omega) h, sX1_isA (show 3 ≤ d by omega) h, sX1_isOf (show 4 ≤ d by omega) h, sX1_isStatement (show 3 ≤ d by omega) h, sX1_isExpression (show 3 ≤ d by omega) h, sX1_isBetween (show 4 ≤ d by omega) h, sX1_isTarget (show 4 ≤ d by omega) h, sp_tg_eq hW.2.2, sX1_isThere (show 1 ≤ d by omega) h, sX1_elementOf (show 1 ≤ d by omega), sX1_isExpressionKind (show 1 ≤ d by omega), mj_rI_k, sp_b0, mj_gb_b, h.2.2.1, h.2.2.2.2.2.1, sX1_isCall (show 4 ≤ d by omega) h hM hW, hM.2.2.1]
  have hg : ∀ (k q : Int32) r, sp_fk nt (sp_fr nt N) k q = true → mj_g k 4000 r = r := fun k q r hq => mj_g_k (sp_nd_in hN (sp_fk_nd hq) (Nat.le_refl _)) r
  have hv : ∀ (k : Int32) r, ¬ sp_val nt (sp_fr nt N) k = 0 → mj_g k 4000 r = r := fun k r hq => mj_g_k (sp_nd_in hN (sp_val_nd hq) (Nat.le_refl _)) r
  have ht : ∀ (k : Int32) r, ¬ sp_tg nt (sp_fr nt N) k = 0 → mj_g k 4000 r = r := fun k r hq => mj_g_k (sp_nd_in hN (sp_tg_nd hq) (Nat.le_refl _)) r
  have hw : ∀ (k : Int32) r, sp_nd N k = true → mj_g k 4000 r = r := fun k r hq => mj_g_k (sp_nd_in hN hq (Nat.le_refl _)) r
  have f1 := sp_val_rng hW.2.2 a
  have f2 := sp_val_rng hW.2.2 b
  have f3 : ∀ k q, sp_fk nt (sp_fr nt N) k q = true → sp_E q = false → sp_val nt (sp_fr nt N) k = 0 := fun k q => sp_val_fk
  have f4 : ∀ k, ¬ sp_val nt (sp_fr nt N) k = 0 → nt 3 k.toNatClampNeg = sp_val nt (sp_fr nt N) k := fun k => sp_val_v
  have f5 : sp_val nt (sp_fr nt N) (-1) = 0 := sp_val_m1
  have f6 : ∀ k, ¬ sp_tg nt (sp_fr nt N) k = 0 → nt 3 k.toNatClampNeg = sp_tg nt (sp_fr nt N) k ∧ sp_tg nt (sp_fr nt N) k = sp_val nt (sp_fr nt N) k := fun k => sp_tg_v hW.2.2
  have f9 := sp_tg_4 hW.2.2 a
  have g2 := sp_E_eq hW.2.2 a
  have g1 : ∀ k q r, sp_fk nt (sp_fr nt N) k q = true → sp_fk nt (sp_fr nt N) k r = true → q = r := fun k q r => sp_fk_2
  have f7 : ∀ k, sp_nd N k = true → 0 ≤ nt 3 k.toNatClampNeg := fun k hk => (hW.2.2 k hk).1
  have f8 : ∀ k q, sp_fk nt (sp_fr nt N) k q = true → sp_nd N k = true := fun k q => sp_fk_nd
  have e5 : sp_E 5 = false := rfl
  have e49 : sp_E 49 = false := rfl
  have e33 : sp_E 33 = false := rfl
  have hc : ∀ (g m : Int32) r, sp_call nt (sp_fr nt N) M par m g = true → mj_g m 40 r = r := fun g m r hq => mj_g_k (sp_call_in hM.2.1 hq) r
  have hc2 : ∀ (m g : Int32), sp_call nt (sp_fr nt N) M par m g = true → 0 ≤ res m.toNatClampNeg := fun m g hq => by
    unfold sp_call at hq
    simp only [Bool.and_eq_true] at hq
    obtain ⟨q1, q2⟩ := (sp_nd_iff (by have := hM.2.1; omega) m).mp hq.1.1
    exact hR _ (by show m.toInt.toNat < M; omega)
  simp only [sp_ty]
  simp <;> grind [sp_b, sp_isv, sp_i, sp_bin, sp_el, sp_ao]
theorem tX1_r60 {d : Nat} (hd : 5 ≤ d) {y : mj_X} {nt : sp_NT} {N M : Nat} {res par : Nat → Int32} (h : md_T y nt N) (hM : md_M y M res par) (hW : sp_W nt N M par) (hR : ∀ m, m < M → 0 ≤ res m) (a b : Int32) : kX1 (d + 1) 5 [.ref 0, .int 60, .int a, .int b] y = some (some (.int (sp_b (!decide (sp_ty nt (sp_nd N) (sp_fr nt N) M res par 60 a b = -1)))), y) := by
  have hN := h.2.1
  have e0 : kX1 (d + 1) 5 [.ref 0, .int 60, .int a, .int b] y = rX1_isRight d (239, [some (.ref 0), some (.int 60), some (.int a), some (.int b), none, none], [], y) := by simp [eX1_isRight, bX1_isRight_12, bX1_isRight_59, bX1_isRight_106, bX1_isRight_148]
  rw [e0]
  rw [wX1_isRight_239_60 _ _ _ _ _ rfl]
  simp only [bX1_isRight_1103, sX1_isFree (show 2 ≤ d by omega) h, sX1_isA (show 3 ≤ d by omega) h, sX1_isOf (show 4 ≤ d by omega) h, sX1_isStatement (show 3 ≤ d by omega) h, sX1_isExpression (show 3 ≤ d by omega) h, sX1_isBetween (show 4 ≤ d by omega) h, sX1_isTarget (show 4 ≤ d by omega) h, sp_tg_eq hW.2.2, sX1_isThere (show 1 ≤ d by omega) h, sX1_elementOf (show 1 ≤ d by omega), sX1_isExpressionKind (show 1 ≤ d by omega), mj_rI_k, sp_b0, mj_gb_b, h.2.2.1, h.2.2.2.2.2.1, sX1_isCall (show 4 ≤ d by omega) h hM hW, hM.2.2.1]
  have hg : ∀ (k q : Int32) r, sp_fk nt (sp_fr nt N) k q = true → mj_g k 4000 r = r := fun k q r hq => mj_g_k (sp_nd_in hN (sp_fk_nd hq) (Nat.le_refl _)) r
  have hv : ∀ (k : Int32) r, ¬ sp_val nt (sp_fr nt N) k = 0 → mj_g k 4000 r = r := fun k r hq => mj_g_k (sp_nd_in hN (sp_val_nd hq) (Nat.le_refl _)) r
  have ht : ∀ (k : Int32) r, ¬ sp_tg nt (sp_fr nt N) k = 0 → mj_g k 4000 r = r := fun k r hq => mj_g_k (sp_nd_in hN (sp_tg_nd hq) (Nat.le_refl _)) r
  have hw : ∀ (k : Int32) r, sp_nd N k = true → mj_g k 4000 r = r := fun k r hq => mj_g_k (sp_nd_in hN hq (Nat.le_refl _)) r
  have f1 := sp_val_rng hW.2.2 a
  have f2 := sp_val_rng hW.2.2 b
  have f3 : ∀ k q, sp_fk nt (sp_fr nt N) k q = true → sp_E q = false → sp_val nt (sp_fr nt N) k = 0 := fun k q => sp_val_fk
  have f4 : ∀ k, ¬ sp_val nt (sp_fr nt N) k = 0 → nt 3 k.toNatClampNeg = sp_val nt (sp_fr nt N) k := fun k => sp_val_v
  have f5 : sp_val nt (sp_fr nt N) (-1) = 0 := sp_val_m1
  have f6 : ∀ k, ¬ sp_tg nt (sp_fr nt N) k = 0 → nt 3 k.toNatClampNeg = sp_tg nt (sp_fr nt N) k ∧ sp_tg nt (sp_fr nt N) k = sp_val nt (sp_fr nt N) k := fun k => sp_tg_v hW.2.2
  have f9 := sp_tg_4 hW.2.2 a
  have g2 := sp_E_eq hW.2.2 a
  have g1 : ∀ k q r, sp_fk nt (sp_fr nt N) k q = true → sp_fk nt (sp_fr nt N) k r = true → q = r := fun k q r => sp_fk_2
  have f7 : ∀ k, sp_nd N k = true → 0 ≤ nt 3 k.toNatClampNeg := fun k hk => (hW.2.2 k hk).1
  have f8 : ∀ k q, sp_fk nt (sp_fr nt N) k q = true → sp_nd N k = true := fun k q => sp_fk_nd
  have e5 : sp_E 5 = false := rfl
  have e49 : sp_E 49 = false := rfl
  have e33 : sp_E 33 = false := rfl
  have hc : ∀ (g m : Int32) r, sp_call nt (sp_fr nt N) M par m g = true → mj_g m 40 r = r := fun g m r hq => mj_g_k (sp_call_in hM.2.1 hq) r
  have hc2 : ∀ (m g : Int32), sp_call nt (sp_fr nt N) M par m g = true → 0 ≤ res m.toNatClampNeg := fun m g hq => by
    unfold sp_call at hq
    simp only [Bool.and_eq_true] at hq
    obtain ⟨q1, q2⟩ := (sp_nd_iff (by have := hM.2.1; omega) m).mp hq.1.1
    exact hR _ (by show m.toInt.toNat < M; omega)
  have e1 : sp_ty nt (sp_nd N) (sp_fr nt N) M res par 60 a b = bif sp_ao nt (sp_fr nt N) 60 a b then 0 else -1 := by simp [sp_ty, sp_i]
  have e2 : sp_ao nt (sp_fr nt N) 60 a b = (decide (b = -1) && (sp_fr nt N a && sp_E (nt 0 a.toNatClampNeg))) := by rw [g2]; simp [sp_ao]
  rw [e1, e2]
  cases hfr : sp_fr nt N a
  · simp [sp_b]
  · simp only [hw a _ (sp_fr_nd hfr)]
    cases hE : sp_E (nt 0 a.toNatClampNeg) <;> by_cases hb : b = -1 <;> simp [hb, sp_b]
theorem tX1_r61 {d : Nat} (hd : 5 ≤ d) {y : mj_X} {nt : sp_NT} {N M : Nat} {res par : Nat → Int32} (h : md_T y nt N) (hM : md_M y M res par) (hW : sp_W nt N M par) (hR : ∀ m, m < M → 0 ≤ res m) (a b : Int32) : kX1 (d + 1) 5 [.ref 0, .int 61, .int a, .int b] y = some (some (.int (sp_b (!decide (sp_ty nt (sp_nd N) (sp_fr nt N) M res par 61 a b = -1)))), y) := by
  have hN := h.2.1
  have e0 : kX1 (d + 1) 5 [.ref 0, .int 61, .int a, .int b] y = rX1_isRight d (239, [some (.ref 0), some (.int 61), some (.int a), some (.int b), none, none], [], y) := by simp [eX1_isRight, bX1_isRight_12, bX1_isRight_59, bX1_isRight_106, bX1_isRight_148]
  rw [e0]
  rw [wX1_isRight_239_61 _ _ _ _ _ rfl]
  simp only [bX1_isRight_1134, sX1_isFree (show 2 ≤ d by omega) h, sX1_isA (show 3 ≤ d by omega) h, sX1_isOf (show 4 ≤ d by omega) h, sX1_isStatement (show 3 ≤ d by omega) h, sX1_isExpression (show 3 ≤ d by omega) h, sX1_isBetween (show 4 ≤ d by omega) h, sX1_isTarget (show 4 ≤ d by omega) h, sp_tg_eq hW.2.2, sX1_isThere (show 1 ≤ d by omega) h, sX1_elementOf (show 1 ≤ d by omega), sX1_isExpressionKind (show 1 ≤ d by omega), mj_rI_k, sp_b0, mj_gb_b, h.2.2.1, h.2.2.2.2.2.1, sX1_isCall (show 4 ≤ d by omega) h hM hW, hM.2.2.1]
  obtain ⟨d, rfl⟩ : ∃ c, d = c + 1 := ⟨d - 1, by omega⟩
  simp only [tX1_a61 (show 4 ≤ d by omega) h hW, mj_rI_k, sp_b0, mj_gb_b]
  have hg : ∀ (k q : Int32) r, sp_fk nt (sp_fr nt N) k q = true → mj_g k 4000 r = r := fun k q r hq => mj_g_k (sp_nd_in hN (sp_fk_nd hq) (Nat.le_refl _)) r
  have hv : ∀ (k : Int32) r, ¬ sp_val nt (sp_fr nt N) k = 0 → mj_g k 4000 r = r := fun k r hq => mj_g_k (sp_nd_in hN (sp_val_nd hq) (Nat.le_refl _)) r
  have ht : ∀ (k : Int32) r, ¬ sp_tg nt (sp_fr nt N) k = 0 → mj_g k 4000 r = r := fun k r hq => mj_g_k (sp_nd_in hN (sp_tg_nd hq) (Nat.le_refl _)) r
  have hw : ∀ (k : Int32) r, sp_nd N k = true → mj_g k 4000 r = r := fun k r hq => mj_g_k (sp_nd_in hN hq (Nat.le_refl _)) r
  have f1 := sp_val_rng hW.2.2 a
  have f2 := sp_val_rng hW.2.2 b
  have f3 : ∀ k q, sp_fk nt (sp_fr nt N) k q = true → sp_E q = false → sp_val nt (sp_fr nt N) k = 0 := fun k q => sp_val_fk
  have f4 : ∀ k, ¬ sp_val nt (sp_fr nt N) k = 0 → nt 3 k.toNatClampNeg = sp_val nt (sp_fr nt N) k := fun k => sp_val_v
  have f5 : sp_val nt (sp_fr nt N) (-1) = 0 := sp_val_m1
  have f6 : ∀ k, ¬ sp_tg nt (sp_fr nt N) k = 0 → nt 3 k.toNatClampNeg = sp_tg nt (sp_fr nt N) k ∧ sp_tg nt (sp_fr nt N) k = sp_val nt (sp_fr nt N) k := fun k => sp_tg_v hW.2.2
  have f9 := sp_tg_4 hW.2.2 a
  have g2 := sp_E_eq hW.2.2 a
  have g1 : ∀ k q r, sp_fk nt (sp_fr nt N) k q = true → sp_fk nt (sp_fr nt N) k r = true → q = r := fun k q r => sp_fk_2
  have f7 : ∀ k, sp_nd N k = true → 0 ≤ nt 3 k.toNatClampNeg := fun k hk => (hW.2.2 k hk).1
  have f8 : ∀ k q, sp_fk nt (sp_fr nt N) k q = true → sp_nd N k = true := fun k q => sp_fk_nd
  have e5 : sp_E 5 = false := rfl
  have e49 : sp_E 49 = false := rfl
  have e33 : sp_E 33 = false := rfl
  have hc : ∀ (g m : Int32) r, sp_call nt (sp_fr nt N) M par m g = true → mj_g m 40 r = r := fun g m r hq => mj_g_k (sp_call_in hM.2.1 hq) r
  have hc2 : ∀ (m g : Int32), sp_call nt (sp_fr nt N) M par m g = true → 0 ≤ res m.toNatClampNeg := fun m g hq => by
    unfold sp_call at hq
    simp only [Bool.and_eq_true] at hq
    obtain ⟨q1, q2⟩ := (sp_nd_iff (by have := hM.2.1; omega) m).mp hq.1.1
    exact hR _ (by show m.toInt.toNat < M; omega)
  simp only [sp_ty]
  simp <;> grind [sp_b, sp_isv, sp_i, sp_bin, sp_el, sp_ao]
theorem tX1_r62 {d : Nat} (hd : 5 ≤ d) {y : mj_X} {nt : sp_NT} {N M : Nat} {res par : Nat → Int32} (h : md_T y nt N) (hM : md_M y M res par) (hW : sp_W nt N M par) (hR : ∀ m, m < M → 0 ≤ res m) (a b : Int32) : kX1 (d + 1) 5 [.ref 0, .int 62, .int a, .int b] y = some (some (.int (sp_b (!decide (sp_ty nt (sp_nd N) (sp_fr nt N) M res par 62 a b = -1)))), y) := by
  have hN := h.2.1
  have e0 : kX1 (d + 1) 5 [.ref 0, .int 62, .int a, .int b] y = rX1_isRight d (239, [some (.ref 0), some (.int 62), some (.int a), some (.int b), none, none], [], y) := by simp [eX1_isRight, bX1_isRight_12, bX1_isRight_59, bX1_isRight_106, bX1_isRight_148]
  rw [e0]
  rw [wX1_isRight_239_62 _ _ _ _ _ rfl]
  simp only [bX1_isRight_1134, sX1_isFree (show 2 ≤ d by omega) h, sX1_isA (show 3 ≤ d by omega) h, sX1_isOf (show 4 ≤ d by omega) h, sX1_isStatement (show 3 ≤ d by omega) h, sX1_isExpression (show 3 ≤ d by omega) h, sX1_isBetween (show 4 ≤ d by omega) h, sX1_isTarget (show 4 ≤ d by omega) h, sp_tg_eq hW.2.2, sX1_isThere (show 1 ≤ d by omega) h, sX1_elementOf (show 1 ≤ d by omega), sX1_isExpressionKind (show 1 ≤ d by omega), mj_rI_k, sp_b0, mj_gb_b, h.2.2.1, h.2.2.2.2.2.1, sX1_isCall (show 4 ≤ d by omega) h hM hW, hM.2.2.1]
  obtain ⟨d, rfl⟩ : ∃ c, d = c + 1 := ⟨d - 1, by omega⟩
  simp only [tX1_a62 (show 4 ≤ d by omega) h hW, mj_rI_k, sp_b0, mj_gb_b]
  have hg : ∀ (k q : Int32) r, sp_fk nt (sp_fr nt N) k q = true → mj_g k 4000 r = r := fun k q r hq => mj_g_k (sp_nd_in hN (sp_fk_nd hq) (Nat.le_refl _)) r
  have hv : ∀ (k : Int32) r, ¬ sp_val nt (sp_fr nt N) k = 0 → mj_g k 4000 r = r := fun k r hq => mj_g_k (sp_nd_in hN (sp_val_nd hq) (Nat.le_refl _)) r
  have ht : ∀ (k : Int32) r, ¬ sp_tg nt (sp_fr nt N) k = 0 → mj_g k 4000 r = r := fun k r hq => mj_g_k (sp_nd_in hN (sp_tg_nd hq) (Nat.le_refl _)) r
  have hw : ∀ (k : Int32) r, sp_nd N k = true → mj_g k 4000 r = r := fun k r hq => mj_g_k (sp_nd_in hN hq (Nat.le_refl _)) r
  have f1 := sp_val_rng hW.2.2 a
  have f2 := sp_val_rng hW.2.2 b
  have f3 : ∀ k q, sp_fk nt (sp_fr nt N) k q = true → sp_E q = false → sp_val nt (sp_fr nt N) k = 0 := fun k q => sp_val_fk
  have f4 : ∀ k, ¬ sp_val nt (sp_fr nt N) k = 0 → nt 3 k.toNatClampNeg = sp_val nt (sp_fr nt N) k := fun k => sp_val_v
  have f5 : sp_val nt (sp_fr nt N) (-1) = 0 := sp_val_m1
  have f6 : ∀ k, ¬ sp_tg nt (sp_fr nt N) k = 0 → nt 3 k.toNatClampNeg = sp_tg nt (sp_fr nt N) k ∧ sp_tg nt (sp_fr nt N) k = sp_val nt (sp_fr nt N) k := fun k => sp_tg_v hW.2.2
  have f9 := sp_tg_4 hW.2.2 a
  have g2 := sp_E_eq hW.2.2 a
  have g1 : ∀ k q r, sp_fk nt (sp_fr nt N) k q = true → sp_fk nt (sp_fr nt N) k r = true → q = r := fun k q r => sp_fk_2
  have f7 : ∀ k, sp_nd N k = true → 0 ≤ nt 3 k.toNatClampNeg := fun k hk => (hW.2.2 k hk).1
  have f8 : ∀ k q, sp_fk nt (sp_fr nt N) k q = true → sp_nd N k = true := fun k q => sp_fk_nd
  have e5 : sp_E 5 = false := rfl
  have e49 : sp_E 49 = false := rfl
  have e33 : sp_E 33 = false := rfl
  have hc : ∀ (g m : Int32) r, sp_call nt (sp_fr nt N) M par m g = true → mj_g m 40 r = r := fun g m r hq => mj_g_k (sp_call_in hM.2.1 hq) r
  have hc2 : ∀ (m g : Int32), sp_call nt (sp_fr nt N) M par m g = true → 0 ≤ res m.toNatClampNeg := fun m g hq => by
    unfold sp_call at hq
    simp only [Bool.and_eq_true] at hq
    obtain ⟨q1, q2⟩ := (sp_nd_iff (by have := hM.2.1; omega) m).mp hq.1.1
    exact hR _ (by show m.toInt.toNat < M; omega)
  simp only [sp_ty]
  simp <;> grind [sp_b, sp_isv, sp_i, sp_bin, sp_el, sp_ao]
theorem tX1_r63 {d : Nat} (hd : 5 ≤ d) {y : mj_X} {nt : sp_NT} {N M : Nat} {res par : Nat → Int32} (h : md_T y nt N) (hM : md_M y M res par) (hW : sp_W nt N M par) (hR : ∀ m, m < M → 0 ≤ res m) (a b : Int32) : kX1 (d + 1) 5 [.ref 0, .int 63, .int a, .int b] y = some (some (.int (sp_b (!decide (sp_ty nt (sp_nd N) (sp_fr nt N) M res par 63 a b = -1)))), y) := by
  have hN := h.2.1
  have e0 : kX1 (d + 1) 5 [.ref 0, .int 63, .int a, .int b] y = rX1_isRight d (239, [some (.ref 0), some (.int 63), some (.int a), some (.int b), none, none], [], y) := by simp [eX1_isRight, bX1_isRight_12, bX1_isRight_59, bX1_isRight_106, bX1_isRight_148]
  rw [e0]
  rw [wX1_isRight_239_63 _ _ _ _ _ rfl]
  simp only [bX1_isRight_1134, sX1_isFree (show 2 ≤ d by omega) h, sX1_isA (show 3 ≤ d by omega) h, sX1_isOf (show 4 ≤ d by omega) h, sX1_isStatement (show 3 ≤ d by omega) h, sX1_isExpression (show 3 ≤ d by omega) h, sX1_isBetween (show 4 ≤ d by omega) h, sX1_isTarget (show 4 ≤ d by omega) h, sp_tg_eq hW.2.2, sX1_isThere (show 1 ≤ d by omega) h, sX1_elementOf (show 1 ≤ d by omega), sX1_isExpressionKind (show 1 ≤ d by omega), mj_rI_k, sp_b0, mj_gb_b, h.2.2.1, h.2.2.2.2.2.1, sX1_isCall (show 4 ≤ d by omega) h hM hW, hM.2.2.1]
  obtain ⟨d, rfl⟩ : ∃ c, d = c + 1 := ⟨d - 1, by omega⟩
  simp only [tX1_a63 (show 4 ≤ d by omega) h hW, mj_rI_k, sp_b0, mj_gb_b]
  have hg : ∀ (k q : Int32) r, sp_fk nt (sp_fr nt N) k q = true → mj_g k 4000 r = r := fun k q r hq => mj_g_k (sp_nd_in hN (sp_fk_nd hq) (Nat.le_refl _)) r
  have hv : ∀ (k : Int32) r, ¬ sp_val nt (sp_fr nt N) k = 0 → mj_g k 4000 r = r := fun k r hq => mj_g_k (sp_nd_in hN (sp_val_nd hq) (Nat.le_refl _)) r
  have ht : ∀ (k : Int32) r, ¬ sp_tg nt (sp_fr nt N) k = 0 → mj_g k 4000 r = r := fun k r hq => mj_g_k (sp_nd_in hN (sp_tg_nd hq) (Nat.le_refl _)) r
  have hw : ∀ (k : Int32) r, sp_nd N k = true → mj_g k 4000 r = r := fun k r hq => mj_g_k (sp_nd_in hN hq (Nat.le_refl _)) r
  have f1 := sp_val_rng hW.2.2 a
  have f2 := sp_val_rng hW.2.2 b
  have f3 : ∀ k q, sp_fk nt (sp_fr nt N) k q = true → sp_E q = false → sp_val nt (sp_fr nt N) k = 0 := fun k q => sp_val_fk
  have f4 : ∀ k, ¬ sp_val nt (sp_fr nt N) k = 0 → nt 3 k.toNatClampNeg = sp_val nt (sp_fr nt N) k := fun k => sp_val_v
  have f5 : sp_val nt (sp_fr nt N) (-1) = 0 := sp_val_m1
  have f6 : ∀ k, ¬ sp_tg nt (sp_fr nt N) k = 0 → nt 3 k.toNatClampNeg = sp_tg nt (sp_fr nt N) k ∧ sp_tg nt (sp_fr nt N) k = sp_val nt (sp_fr nt N) k := fun k => sp_tg_v hW.2.2
  have f9 := sp_tg_4 hW.2.2 a
  have g2 := sp_E_eq hW.2.2 a
  have g1 : ∀ k q r, sp_fk nt (sp_fr nt N) k q = true → sp_fk nt (sp_fr nt N) k r = true → q = r := fun k q r => sp_fk_2
  have f7 : ∀ k, sp_nd N k = true → 0 ≤ nt 3 k.toNatClampNeg := fun k hk => (hW.2.2 k hk).1
  have f8 : ∀ k q, sp_fk nt (sp_fr nt N) k q = true → sp_nd N k = true := fun k q => sp_fk_nd
  have e5 : sp_E 5 = false := rfl
  have e49 : sp_E 49 = false := rfl
  have e33 : sp_E 33 = false := rfl
  have hc : ∀ (g m : Int32) r, sp_call nt (sp_fr nt N) M par m g = true → mj_g m 40 r = r := fun g m r hq => mj_g_k (sp_call_in hM.2.1 hq) r
  have hc2 : ∀ (m g : Int32), sp_call nt (sp_fr nt N) M par m g = true → 0 ≤ res m.toNatClampNeg := fun m g hq => by
    unfold sp_call at hq
    simp only [Bool.and_eq_true] at hq
    obtain ⟨q1, q2⟩ := (sp_nd_iff (by have := hM.2.1; omega) m).mp hq.1.1
    exact hR _ (by show m.toInt.toNat < M; omega)
  simp only [sp_ty]
  simp <;> grind [sp_b, sp_isv, sp_i, sp_bin, sp_el, sp_ao]
theorem tX1_r64 {d : Nat} (hd : 5 ≤ d) {y : mj_X} {nt : sp_NT} {N M : Nat} {res par : Nat → Int32} (h : md_T y nt N) (hM : md_M y M res par) (hW : sp_W nt N M par) (hR : ∀ m, m < M → 0 ≤ res m) (a b : Int32) : kX1 (d + 1) 5 [.ref 0, .int 64, .int a, .int b] y = some (some (.int (sp_b (!decide (sp_ty nt (sp_nd N) (sp_fr nt N) M res par 64 a b = -1)))), y) := by
  have hN := h.2.1
  have e0 : kX1 (d + 1) 5 [.ref 0, .int 64, .int a, .int b] y = rX1_isRight d (239, [some (.ref 0), some (.int 64), some (.int a), some (.int b), none, none], [], y) := by simp [eX1_isRight, bX1_isRight_12, bX1_isRight_59, bX1_isRight_106, bX1_isRight_148]
  rw [e0]
  rw [wX1_isRight_239_64 _ _ _ _ _ rfl]
  simp only [bX1_isRight_1134, sX1_isFree (show 2 ≤ d by omega) h, sX1_isA (show 3 ≤ d by omega) h, sX1_isOf (show 4 ≤ d by omega) h, sX1_isStatement (show 3 ≤ d by omega) h, sX1_isExpression (show 3 ≤ d by omega) h, sX1_isBetween (show 4 ≤ d by omega) h, sX1_isTarget (show 4 ≤ d by omega) h, sp_tg_eq hW.2.2, sX1_isThere (show 1 ≤ d by omega) h, sX1_elementOf (show 1 ≤ d by omega), sX1_isExpressionKind (show 1 ≤ d by omega), mj_rI_k, sp_b0, mj_gb_b, h.2.2.1, h.2.2.2.2.2.1, sX1_isCall (show 4 ≤ d by omega) h hM hW, hM.2.2.1]
  obtain ⟨d, rfl⟩ : ∃ c, d = c + 1 := ⟨d - 1, by omega⟩
  simp only [tX1_a64 (show 4 ≤ d by omega) h hW, mj_rI_k, sp_b0, mj_gb_b]
  have hg : ∀ (k q : Int32) r, sp_fk nt (sp_fr nt N) k q = true → mj_g k 4000 r = r := fun k q r hq => mj_g_k (sp_nd_in hN (sp_fk_nd hq) (Nat.le_refl _)) r
  have hv : ∀ (k : Int32) r, ¬ sp_val nt (sp_fr nt N) k = 0 → mj_g k 4000 r = r := fun k r hq => mj_g_k (sp_nd_in hN (sp_val_nd hq) (Nat.le_refl _)) r
  have ht : ∀ (k : Int32) r, ¬ sp_tg nt (sp_fr nt N) k = 0 → mj_g k 4000 r = r := fun k r hq => mj_g_k (sp_nd_in hN (sp_tg_nd hq) (Nat.le_refl _)) r
  have hw : ∀ (k : Int32) r, sp_nd N k = true → mj_g k 4000 r = r := fun k r hq => mj_g_k (sp_nd_in hN hq (Nat.le_refl _)) r
  have f1 := sp_val_rng hW.2.2 a
  have f2 := sp_val_rng hW.2.2 b
  have f3 : ∀ k q, sp_fk nt (sp_fr nt N) k q = true → sp_E q = false → sp_val nt (sp_fr nt N) k = 0 := fun k q => sp_val_fk
  have f4 : ∀ k, ¬ sp_val nt (sp_fr nt N) k = 0 → nt 3 k.toNatClampNeg = sp_val nt (sp_fr nt N) k := fun k => sp_val_v
  have f5 : sp_val nt (sp_fr nt N) (-1) = 0 := sp_val_m1
  have f6 : ∀ k, ¬ sp_tg nt (sp_fr nt N) k = 0 → nt 3 k.toNatClampNeg = sp_tg nt (sp_fr nt N) k ∧ sp_tg nt (sp_fr nt N) k = sp_val nt (sp_fr nt N) k := fun k => sp_tg_v hW.2.2
  have f9 := sp_tg_4 hW.2.2 a
  have g2 := sp_E_eq hW.2.2 a
  have g1 : ∀ k q r, sp_fk nt (sp_fr nt N) k q = true → sp_fk nt (sp_fr nt N) k r = true → q = r := fun k q r => sp_fk_2
  have f7 : ∀ k, sp_nd N k = true → 0 ≤ nt 3 k.toNatClampNeg := fun k hk => (hW.2.2 k hk).1
  have f8 : ∀ k q, sp_fk nt (sp_fr nt N) k q = true → sp_nd N k = true := fun k q => sp_fk_nd
  have e5 : sp_E 5 = false := rfl
  have e49 : sp_E 49 = false := rfl
  have e33 : sp_E 33 = false := rfl
  have hc : ∀ (g m : Int32) r, sp_call nt (sp_fr nt N) M par m g = true → mj_g m 40 r = r := fun g m r hq => mj_g_k (sp_call_in hM.2.1 hq) r
  have hc2 : ∀ (m g : Int32), sp_call nt (sp_fr nt N) M par m g = true → 0 ≤ res m.toNatClampNeg := fun m g hq => by
    unfold sp_call at hq
    simp only [Bool.and_eq_true] at hq
    obtain ⟨q1, q2⟩ := (sp_nd_iff (by have := hM.2.1; omega) m).mp hq.1.1
    exact hR _ (by show m.toInt.toNat < M; omega)
  simp only [sp_ty]
  simp <;> grind [sp_b, sp_isv, sp_i, sp_bin, sp_el, sp_ao]
theorem tX1_r65 {d : Nat} (hd : 5 ≤ d) {y : mj_X} {nt : sp_NT} {N M : Nat} {res par : Nat → Int32} (h : md_T y nt N) (hM : md_M y M res par) (hW : sp_W nt N M par) (hR : ∀ m, m < M → 0 ≤ res m) (a b : Int32) : kX1 (d + 1) 5 [.ref 0, .int 65, .int a, .int b] y = some (some (.int (sp_b (!decide (sp_ty nt (sp_nd N) (sp_fr nt N) M res par 65 a b = -1)))), y) := by
  have hN := h.2.1
  have e0 : kX1 (d + 1) 5 [.ref 0, .int 65, .int a, .int b] y = rX1_isRight d (239, [some (.ref 0), some (.int 65), some (.int a), some (.int b), none, none], [], y) := by simp [eX1_isRight, bX1_isRight_12, bX1_isRight_59, bX1_isRight_106, bX1_isRight_148]
  rw [e0]
  rw [wX1_isRight_239_65 _ _ _ _ _ rfl]
  simp only [bX1_isRight_1134, sX1_isFree (show 2 ≤ d by omega) h, sX1_isA (show 3 ≤ d by omega) h, sX1_isOf (show 4 ≤ d by omega) h, sX1_isStatement (show 3 ≤ d by omega) h, sX1_isExpression (show 3 ≤ d by omega) h, sX1_isBetween (show 4 ≤ d by omega) h, sX1_isTarget (show 4 ≤ d by omega) h, sp_tg_eq hW.2.2, sX1_isThere (show 1 ≤ d by omega) h, sX1_elementOf (show 1 ≤ d by omega), sX1_isExpressionKind (show 1 ≤ d by omega), mj_rI_k, sp_b0, mj_gb_b, h.2.2.1, h.2.2.2.2.2.1, sX1_isCall (show 4 ≤ d by omega) h hM hW, hM.2.2.1]
  obtain ⟨d, rfl⟩ : ∃ c, d = c + 1 := ⟨d - 1, by omega⟩
  simp only [tX1_a65 (show 4 ≤ d by omega) h hW, mj_rI_k, sp_b0, mj_gb_b]
  have hg : ∀ (k q : Int32) r, sp_fk nt (sp_fr nt N) k q = true → mj_g k 4000 r = r := fun k q r hq => mj_g_k (sp_nd_in hN (sp_fk_nd hq) (Nat.le_refl _)) r
  have hv : ∀ (k : Int32) r, ¬ sp_val nt (sp_fr nt N) k = 0 → mj_g k 4000 r = r := fun k r hq => mj_g_k (sp_nd_in hN (sp_val_nd hq) (Nat.le_refl _)) r
  have ht : ∀ (k : Int32) r, ¬ sp_tg nt (sp_fr nt N) k = 0 → mj_g k 4000 r = r := fun k r hq => mj_g_k (sp_nd_in hN (sp_tg_nd hq) (Nat.le_refl _)) r
  have hw : ∀ (k : Int32) r, sp_nd N k = true → mj_g k 4000 r = r := fun k r hq => mj_g_k (sp_nd_in hN hq (Nat.le_refl _)) r
  have f1 := sp_val_rng hW.2.2 a
  have f2 := sp_val_rng hW.2.2 b
  have f3 : ∀ k q, sp_fk nt (sp_fr nt N) k q = true → sp_E q = false → sp_val nt (sp_fr nt N) k = 0 := fun k q => sp_val_fk
  have f4 : ∀ k, ¬ sp_val nt (sp_fr nt N) k = 0 → nt 3 k.toNatClampNeg = sp_val nt (sp_fr nt N) k := fun k => sp_val_v
  have f5 : sp_val nt (sp_fr nt N) (-1) = 0 := sp_val_m1
  have f6 : ∀ k, ¬ sp_tg nt (sp_fr nt N) k = 0 → nt 3 k.toNatClampNeg = sp_tg nt (sp_fr nt N) k ∧ sp_tg nt (sp_fr nt N) k = sp_val nt (sp_fr nt N) k := fun k => sp_tg_v hW.2.2
  have f9 := sp_tg_4 hW.2.2 a
  have g2 := sp_E_eq hW.2.2 a
  have g1 : ∀ k q r, sp_fk nt (sp_fr nt N) k q = true → sp_fk nt (sp_fr nt N) k r = true → q = r := fun k q r => sp_fk_2
  have f7 : ∀ k, sp_nd N k = true → 0 ≤ nt 3 k.toNatClampNeg := fun k hk => (hW.2.2 k hk).1
  have f8 : ∀ k q, sp_fk nt (sp_fr nt N) k q = true → sp_nd N k = true := fun k q => sp_fk_nd
  have e5 : sp_E 5 = false := rfl
  have e49 : sp_E 49 = false := rfl
  have e33 : sp_E 33 = false := rfl
  have hc : ∀ (g m : Int32) r, sp_call nt (sp_fr nt N) M par m g = true → mj_g m 40 r = r := fun g m r hq => mj_g_k (sp_call_in hM.2.1 hq) r
  have hc2 : ∀ (m g : Int32), sp_call nt (sp_fr nt N) M par m g = true → 0 ≤ res m.toNatClampNeg := fun m g hq => by
    unfold sp_call at hq
    simp only [Bool.and_eq_true] at hq
    obtain ⟨q1, q2⟩ := (sp_nd_iff (by have := hM.2.1; omega) m).mp hq.1.1
    exact hR _ (by show m.toInt.toNat < M; omega)
  simp only [sp_ty]
  simp <;> grind [sp_b, sp_isv, sp_i, sp_bin, sp_el, sp_ao]
theorem tX1_r66 {d : Nat} (hd : 5 ≤ d) {y : mj_X} {nt : sp_NT} {N M : Nat} {res par : Nat → Int32} (h : md_T y nt N) (hM : md_M y M res par) (hW : sp_W nt N M par) (hR : ∀ m, m < M → 0 ≤ res m) (a b : Int32) : kX1 (d + 1) 5 [.ref 0, .int 66, .int a, .int b] y = some (some (.int (sp_b (!decide (sp_ty nt (sp_nd N) (sp_fr nt N) M res par 66 a b = -1)))), y) := by
  have hN := h.2.1
  have e0 : kX1 (d + 1) 5 [.ref 0, .int 66, .int a, .int b] y = rX1_isRight d (239, [some (.ref 0), some (.int 66), some (.int a), some (.int b), none, none], [], y) := by simp [eX1_isRight, bX1_isRight_12, bX1_isRight_59, bX1_isRight_106, bX1_isRight_148]
  rw [e0]
  rw [wX1_isRight_239_66 _ _ _ _ _ rfl]
  simp only [bX1_isRight_1134, sX1_isFree (show 2 ≤ d by omega) h, sX1_isA (show 3 ≤ d by omega) h, sX1_isOf (show 4 ≤ d by omega) h, sX1_isStatement (show 3 ≤ d by omega) h, sX1_isExpression (show 3 ≤ d by omega) h, sX1_isBetween (show 4 ≤ d by omega) h, sX1_isTarget (show 4 ≤ d by omega) h, sp_tg_eq hW.2.2, sX1_isThere (show 1 ≤ d by omega) h, sX1_elementOf (show 1 ≤ d by omega), sX1_isExpressionKind (show 1 ≤ d by omega), mj_rI_k, sp_b0, mj_gb_b, h.2.2.1, h.2.2.2.2.2.1, sX1_isCall (show 4 ≤ d by omega) h hM hW, hM.2.2.1]
  obtain ⟨d, rfl⟩ : ∃ c, d = c + 1 := ⟨d - 1, by omega⟩
  simp only [tX1_a66 (show 4 ≤ d by omega) h hW, mj_rI_k, sp_b0, mj_gb_b]
  have hg : ∀ (k q : Int32) r, sp_fk nt (sp_fr nt N) k q = true → mj_g k 4000 r = r := fun k q r hq => mj_g_k (sp_nd_in hN (sp_fk_nd hq) (Nat.le_refl _)) r
  have hv : ∀ (k : Int32) r, ¬ sp_val nt (sp_fr nt N) k = 0 → mj_g k 4000 r = r := fun k r hq => mj_g_k (sp_nd_in hN (sp_val_nd hq) (Nat.le_refl _)) r
  have ht : ∀ (k : Int32) r, ¬ sp_tg nt (sp_fr nt N) k = 0 → mj_g k 4000 r = r := fun k r hq => mj_g_k (sp_nd_in hN (sp_tg_nd hq) (Nat.le_refl _)) r
  have hw : ∀ (k : Int32) r, sp_nd N k = true → mj_g k 4000 r = r := fun k r hq => mj_g_k (sp_nd_in hN hq (Nat.le_refl _)) r
  have f1 := sp_val_rng hW.2.2 a
  have f2 := sp_val_rng hW.2.2 b
  have f3 : ∀ k q, sp_fk nt (sp_fr nt N) k q = true → sp_E q = false → sp_val nt (sp_fr nt N) k = 0 := fun k q => sp_val_fk
  have f4 : ∀ k, ¬ sp_val nt (sp_fr nt N) k = 0 → nt 3 k.toNatClampNeg = sp_val nt (sp_fr nt N) k := fun k => sp_val_v
  have f5 : sp_val nt (sp_fr nt N) (-1) = 0 := sp_val_m1
  have f6 : ∀ k, ¬ sp_tg nt (sp_fr nt N) k = 0 → nt 3 k.toNatClampNeg = sp_tg nt (sp_fr nt N) k ∧ sp_tg nt (sp_fr nt N) k = sp_val nt (sp_fr nt N) k := fun k => sp_tg_v hW.2.2
  have f9 := sp_tg_4 hW.2.2 a
  have g2 := sp_E_eq hW.2.2 a
  have g1 : ∀ k q r, sp_fk nt (sp_fr nt N) k q = true → sp_fk nt (sp_fr nt N) k r = true → q = r := fun k q r => sp_fk_2
  have f7 : ∀ k, sp_nd N k = true → 0 ≤ nt 3 k.toNatClampNeg := fun k hk => (hW.2.2 k hk).1
  have f8 : ∀ k q, sp_fk nt (sp_fr nt N) k q = true → sp_nd N k = true := fun k q => sp_fk_nd
  have e5 : sp_E 5 = false := rfl
  have e49 : sp_E 49 = false := rfl
  have e33 : sp_E 33 = false := rfl
  have hc : ∀ (g m : Int32) r, sp_call nt (sp_fr nt N) M par m g = true → mj_g m 40 r = r := fun g m r hq => mj_g_k (sp_call_in hM.2.1 hq) r
  have hc2 : ∀ (m g : Int32), sp_call nt (sp_fr nt N) M par m g = true → 0 ≤ res m.toNatClampNeg := fun m g hq => by
    unfold sp_call at hq
    simp only [Bool.and_eq_true] at hq
    obtain ⟨q1, q2⟩ := (sp_nd_iff (by have := hM.2.1; omega) m).mp hq.1.1
    exact hR _ (by show m.toInt.toNat < M; omega)
  simp only [sp_ty]
  simp <;> grind [sp_b, sp_isv, sp_i, sp_bin, sp_el, sp_ao]
theorem tX1_r67 {d : Nat} (hd : 5 ≤ d) {y : mj_X} {nt : sp_NT} {N M : Nat} {res par : Nat → Int32} (h : md_T y nt N) (hM : md_M y M res par) (hW : sp_W nt N M par) (hR : ∀ m, m < M → 0 ≤ res m) (a b : Int32) : kX1 (d + 1) 5 [.ref 0, .int 67, .int a, .int b] y = some (some (.int (sp_b (!decide (sp_ty nt (sp_nd N) (sp_fr nt N) M res par 67 a b = -1)))), y) := by
  have hN := h.2.1
  have e0 : kX1 (d + 1) 5 [.ref 0, .int 67, .int a, .int b] y = rX1_isRight d (239, [some (.ref 0), some (.int 67), some (.int a), some (.int b), none, none], [], y) := by simp [eX1_isRight, bX1_isRight_12, bX1_isRight_59, bX1_isRight_106, bX1_isRight_148]
  rw [e0]
  rw [wX1_isRight_239_67 _ _ _ _ _ rfl]
  simp only [bX1_isRight_1134, sX1_isFree (show 2 ≤ d by omega) h, sX1_isA (show 3 ≤ d by omega) h, sX1_isOf (show 4 ≤ d by omega) h, sX1_isStatement (show 3 ≤ d by omega) h, sX1_isExpression (show 3 ≤ d by omega) h, sX1_isBetween (show 4 ≤ d by omega) h, sX1_isTarget (show 4 ≤ d by omega) h, sp_tg_eq hW.2.2, sX1_isThere (show 1 ≤ d by omega) h, sX1_elementOf (show 1 ≤ d by omega), sX1_isExpressionKind (show 1 ≤ d by omega), mj_rI_k, sp_b0, mj_gb_b, h.2.2.1, h.2.2.2.2.2.1, sX1_isCall (show 4 ≤ d by omega) h hM hW, hM.2.2.1]
  obtain ⟨d, rfl⟩ : ∃ c, d = c + 1 := ⟨d - 1, by omega⟩
  simp only [tX1_a67 (show 4 ≤ d by omega) h hW, mj_rI_k, sp_b0, mj_gb_b]
  have hg : ∀ (k q : Int32) r, sp_fk nt (sp_fr nt N) k q = true → mj_g k 4000 r = r := fun k q r hq => mj_g_k (sp_nd_in hN (sp_fk_nd hq) (Nat.le_refl _)) r
  have hv : ∀ (k : Int32) r, ¬ sp_val nt (sp_fr nt N) k = 0 → mj_g k 4000 r = r := fun k r hq => mj_g_k (sp_nd_in hN (sp_val_nd hq) (Nat.le_refl _)) r
  have ht : ∀ (k : Int32) r, ¬ sp_tg nt (sp_fr nt N) k = 0 → mj_g k 4000 r = r := fun k r hq => mj_g_k (sp_nd_in hN (sp_tg_nd hq) (Nat.le_refl _)) r
  have hw : ∀ (k : Int32) r, sp_nd N k = true → mj_g k 4000 r = r := fun k r hq => mj_g_k (sp_nd_in hN hq (Nat.le_refl _)) r
  have f1 := sp_val_rng hW.2.2 a
  have f2 := sp_val_rng hW.2.2 b
  have f3 : ∀ k q, sp_fk nt (sp_fr nt N) k q = true → sp_E q = false → sp_val nt (sp_fr nt N) k = 0 := fun k q => sp_val_fk
  have f4 : ∀ k, ¬ sp_val nt (sp_fr nt N) k = 0 → nt 3 k.toNatClampNeg = sp_val nt (sp_fr nt N) k := fun k => sp_val_v
  have f5 : sp_val nt (sp_fr nt N) (-1) = 0 := sp_val_m1
  have f6 : ∀ k, ¬ sp_tg nt (sp_fr nt N) k = 0 → nt 3 k.toNatClampNeg = sp_tg nt (sp_fr nt N) k ∧ sp_tg nt (sp_fr nt N) k = sp_val nt (sp_fr nt N) k := fun k => sp_tg_v hW.2.2
  have f9 := sp_tg_4 hW.2.2 a
  have g2 := sp_E_eq hW.2.2 a
  have g1 : ∀ k q r, sp_fk nt (sp_fr nt N) k q = true → sp_fk nt (sp_fr nt N) k r = true → q = r := fun k q r => sp_fk_2
  have f7 : ∀ k, sp_nd N k = true → 0 ≤ nt 3 k.toNatClampNeg := fun k hk => (hW.2.2 k hk).1
  have f8 : ∀ k q, sp_fk nt (sp_fr nt N) k q = true → sp_nd N k = true := fun k q => sp_fk_nd
  have e5 : sp_E 5 = false := rfl
  have e49 : sp_E 49 = false := rfl
  have e33 : sp_E 33 = false := rfl
  have hc : ∀ (g m : Int32) r, sp_call nt (sp_fr nt N) M par m g = true → mj_g m 40 r = r := fun g m r hq => mj_g_k (sp_call_in hM.2.1 hq) r
  have hc2 : ∀ (m g : Int32), sp_call nt (sp_fr nt N) M par m g = true → 0 ≤ res m.toNatClampNeg := fun m g hq => by
    unfold sp_call at hq
    simp only [Bool.and_eq_true] at hq
    obtain ⟨q1, q2⟩ := (sp_nd_iff (by have := hM.2.1; omega) m).mp hq.1.1
    exact hR _ (by show m.toInt.toNat < M; omega)
  simp only [sp_ty]
  simp <;> grind [sp_b, sp_isv, sp_i, sp_bin, sp_el, sp_ao]
theorem tX1_r68 {d : Nat} (hd : 5 ≤ d) {y : mj_X} {nt : sp_NT} {N M : Nat} {res par : Nat → Int32} (h : md_T y nt N) (hM : md_M y M res par) (hW : sp_W nt N M par) (hR : ∀ m, m < M → 0 ≤ res m) (a b : Int32) : kX1 (d + 1) 5 [.ref 0, .int 68, .int a, .int b] y = some (some (.int (sp_b (!decide (sp_ty nt (sp_nd N) (sp_fr nt N) M res par 68 a b = -1)))), y) := by
  have hN := h.2.1
  have e0 : kX1 (d + 1) 5 [.ref 0, .int 68, .int a, .int b] y = rX1_isRight d (239, [some (.ref 0), some (.int 68), some (.int a), some (.int b), none, none], [], y) := by simp [eX1_isRight, bX1_isRight_12, bX1_isRight_59, bX1_isRight_106, bX1_isRight_148]
  rw [e0]
  rw [wX1_isRight_239_68 _ _ _ _ _ rfl]
  simp only [bX1_isRight_1134, sX1_isFree (show 2 ≤ d by omega) h, sX1_isA (show 3 ≤ d by omega) h, sX1_isOf (show 4 ≤ d by omega) h, sX1_isStatement (show 3 ≤ d by omega) h, sX1_isExpression (show 3 ≤ d by omega) h, sX1_isBetween (show 4 ≤ d by omega) h, sX1_isTarget (show 4 ≤ d by omega) h, sp_tg_eq hW.2.2, sX1_isThere (show 1 ≤ d by omega) h, sX1_elementOf (show 1 ≤ d by omega), sX1_isExpressionKind (show 1 ≤ d by omega), mj_rI_k, sp_b0, mj_gb_b, h.2.2.1, h.2.2.2.2.2.1, sX1_isCall (show 4 ≤ d by omega) h hM hW, hM.2.2.1]
  obtain ⟨d, rfl⟩ : ∃ c, d = c + 1 := ⟨d - 1, by omega⟩
  simp only [tX1_a68 (show 4 ≤ d by omega) h hW, mj_rI_k, sp_b0, mj_gb_b]
  have hg : ∀ (k q : Int32) r, sp_fk nt (sp_fr nt N) k q = true → mj_g k 4000 r = r := fun k q r hq => mj_g_k (sp_nd_in hN (sp_fk_nd hq) (Nat.le_refl _)) r
  have hv : ∀ (k : Int32) r, ¬ sp_val nt (sp_fr nt N) k = 0 → mj_g k 4000 r = r := fun k r hq => mj_g_k (sp_nd_in hN (sp_val_nd hq) (Nat.le_refl _)) r
  have ht : ∀ (k : Int32) r, ¬ sp_tg nt (sp_fr nt N) k = 0 → mj_g k 4000 r = r := fun k r hq => mj_g_k (sp_nd_in hN (sp_tg_nd hq) (Nat.le_refl _)) r
  have hw : ∀ (k : Int32) r, sp_nd N k = true → mj_g k 4000 r = r := fun k r hq => mj_g_k (sp_nd_in hN hq (Nat.le_refl _)) r
  have f1 := sp_val_rng hW.2.2 a
  have f2 := sp_val_rng hW.2.2 b
  have f3 : ∀ k q, sp_fk nt (sp_fr nt N) k q = true → sp_E q = false → sp_val nt (sp_fr nt N) k = 0 := fun k q => sp_val_fk
  have f4 : ∀ k, ¬ sp_val nt (sp_fr nt N) k = 0 → nt 3 k.toNatClampNeg = sp_val nt (sp_fr nt N) k := fun k => sp_val_v
  have f5 : sp_val nt (sp_fr nt N) (-1) = 0 := sp_val_m1
  have f6 : ∀ k, ¬ sp_tg nt (sp_fr nt N) k = 0 → nt 3 k.toNatClampNeg = sp_tg nt (sp_fr nt N) k ∧ sp_tg nt (sp_fr nt N) k = sp_val nt (sp_fr nt N) k := fun k => sp_tg_v hW.2.2
  have f9 := sp_tg_4 hW.2.2 a
  have g2 := sp_E_eq hW.2.2 a
  have g1 : ∀ k q r, sp_fk nt (sp_fr nt N) k q = true → sp_fk nt (sp_fr nt N) k r = true → q = r := fun k q r => sp_fk_2
  have f7 : ∀ k, sp_nd N k = true → 0 ≤ nt 3 k.toNatClampNeg := fun k hk => (hW.2.2 k hk).1
  have f8 : ∀ k q, sp_fk nt (sp_fr nt N) k q = true → sp_nd N k = true := fun k q => sp_fk_nd
  have e5 : sp_E 5 = false := rfl
  have e49 : sp_E 49 = false := rfl
  have e33 : sp_E 33 = false := rfl
  have hc : ∀ (g m : Int32) r, sp_call nt (sp_fr nt N) M par m g = true → mj_g m 40 r = r := fun g m r hq => mj_g_k (sp_call_in hM.2.1 hq) r
  have hc2 : ∀ (m g : Int32), sp_call nt (sp_fr nt N) M par m g = true → 0 ≤ res m.toNatClampNeg := fun m g hq => by
    unfold sp_call at hq
    simp only [Bool.and_eq_true] at hq
    obtain ⟨q1, q2⟩ := (sp_nd_iff (by have := hM.2.1; omega) m).mp hq.1.1
    exact hR _ (by show m.toInt.toNat < M; omega)
  simp only [sp_ty]
  simp <;> grind [sp_b, sp_isv, sp_i, sp_bin, sp_el, sp_ao]
theorem tX1_r69 {d : Nat} (hd : 5 ≤ d) {y : mj_X} {nt : sp_NT} {N M : Nat} {res par : Nat → Int32} (h : md_T y nt N) (hM : md_M y M res par) (hW : sp_W nt N M par) (hR : ∀ m, m < M → 0 ≤ res m) (a b : Int32) : kX1 (d + 1) 5 [.ref 0, .int 69, .int a, .int b] y = some (some (.int (sp_b (!decide (sp_ty nt (sp_nd N) (sp_fr nt N) M res par 69 a b = -1)))), y) := by
  have hN := h.2.1
  have e0 : kX1 (d + 1) 5 [.ref 0, .int 69, .int a, .int b] y = rX1_isRight d (239, [some (.ref 0), some (.int 69), some (.int a), some (.int b), none, none], [], y) := by simp [eX1_isRight, bX1_isRight_12, bX1_isRight_59, bX1_isRight_106, bX1_isRight_148]
  rw [e0]
  rw [wX1_isRight_239_69 _ _ _ _ _ rfl]
  simp only [bX1_isRight_1134, sX1_isFree (show 2 ≤ d by omega) h, sX1_isA (show 3 ≤ d by omega) h, sX1_isOf (show 4 ≤ d by omega) h, sX1_isStatement (show 3 ≤ d by omega) h, sX1_isExpression (show 3 ≤ d by omega) h, sX1_isBetween (show 4 ≤ d by omega) h, sX1_isTarget (show 4 ≤ d by omega) h, sp_tg_eq hW.2.2, sX1_isThere (show 1 ≤ d by omega) h, sX1_elementOf (show 1 ≤ d by omega), sX1_isExpressionKind (show 1 ≤ d by omega), mj_rI_k, sp_b0, mj_gb_b, h.2.2.1, h.2.2.2.2.2.1, sX1_isCall (show 4 ≤ d by omega) h hM hW, hM.2.2.1]
  obtain ⟨d, rfl⟩ : ∃ c, d = c + 1 := ⟨d - 1, by omega⟩
  simp only [tX1_a69 (show 4 ≤ d by omega) h hW, mj_rI_k, sp_b0, mj_gb_b]
  have hg : ∀ (k q : Int32) r, sp_fk nt (sp_fr nt N) k q = true → mj_g k 4000 r = r := fun k q r hq => mj_g_k (sp_nd_in hN (sp_fk_nd hq) (Nat.le_refl _)) r
  have hv : ∀ (k : Int32) r, ¬ sp_val nt (sp_fr nt N) k = 0 → mj_g k 4000 r = r := fun k r hq => mj_g_k (sp_nd_in hN (sp_val_nd hq) (Nat.le_refl _)) r
  have ht : ∀ (k : Int32) r, ¬ sp_tg nt (sp_fr nt N) k = 0 → mj_g k 4000 r = r := fun k r hq => mj_g_k (sp_nd_in hN (sp_tg_nd hq) (Nat.le_refl _)) r
  have hw : ∀ (k : Int32) r, sp_nd N k = true → mj_g k 4000 r = r := fun k r hq => mj_g_k (sp_nd_in hN hq (Nat.le_refl _)) r
  have f1 := sp_val_rng hW.2.2 a
  have f2 := sp_val_rng hW.2.2 b
  have f3 : ∀ k q, sp_fk nt (sp_fr nt N) k q = true → sp_E q = false → sp_val nt (sp_fr nt N) k = 0 := fun k q => sp_val_fk
  have f4 : ∀ k, ¬ sp_val nt (sp_fr nt N) k = 0 → nt 3 k.toNatClampNeg = sp_val nt (sp_fr nt N) k := fun k => sp_val_v
  have f5 : sp_val nt (sp_fr nt N) (-1) = 0 := sp_val_m1
  have f6 : ∀ k, ¬ sp_tg nt (sp_fr nt N) k = 0 → nt 3 k.toNatClampNeg = sp_tg nt (sp_fr nt N) k ∧ sp_tg nt (sp_fr nt N) k = sp_val nt (sp_fr nt N) k := fun k => sp_tg_v hW.2.2
  have f9 := sp_tg_4 hW.2.2 a
  have g2 := sp_E_eq hW.2.2 a
  have g1 : ∀ k q r, sp_fk nt (sp_fr nt N) k q = true → sp_fk nt (sp_fr nt N) k r = true → q = r := fun k q r => sp_fk_2
  have f7 : ∀ k, sp_nd N k = true → 0 ≤ nt 3 k.toNatClampNeg := fun k hk => (hW.2.2 k hk).1
  have f8 : ∀ k q, sp_fk nt (sp_fr nt N) k q = true → sp_nd N k = true := fun k q => sp_fk_nd
  have e5 : sp_E 5 = false := rfl
  have e49 : sp_E 49 = false := rfl
  have e33 : sp_E 33 = false := rfl
  have hc : ∀ (g m : Int32) r, sp_call nt (sp_fr nt N) M par m g = true → mj_g m 40 r = r := fun g m r hq => mj_g_k (sp_call_in hM.2.1 hq) r
  have hc2 : ∀ (m g : Int32), sp_call nt (sp_fr nt N) M par m g = true → 0 ≤ res m.toNatClampNeg := fun m g hq => by
    unfold sp_call at hq
    simp only [Bool.and_eq_true] at hq
    obtain ⟨q1, q2⟩ := (sp_nd_iff (by have := hM.2.1; omega) m).mp hq.1.1
    exact hR _ (by show m.toInt.toNat < M; omega)
  simp only [sp_ty]
  simp <;> grind [sp_b, sp_isv, sp_i, sp_bin, sp_el, sp_ao]
theorem tX1_r70 {d : Nat} (hd : 5 ≤ d) {y : mj_X} {nt : sp_NT} {N M : Nat} {res par : Nat → Int32} (h : md_T y nt N) (hM : md_M y M res par) (hW : sp_W nt N M par) (hR : ∀ m, m < M → 0 ≤ res m) (a b : Int32) : kX1 (d + 1) 5 [.ref 0, .int 70, .int a, .int b] y = some (some (.int (sp_b (!decide (sp_ty nt (sp_nd N) (sp_fr nt N) M res par 70 a b = -1)))), y) := by
  have hN := h.2.1
  have e0 : kX1 (d + 1) 5 [.ref 0, .int 70, .int a, .int b] y = rX1_isRight d (239, [some (.ref 0), some (.int 70), some (.int a), some (.int b), none, none], [], y) := by simp [eX1_isRight, bX1_isRight_12, bX1_isRight_59, bX1_isRight_106, bX1_isRight_148]
  rw [e0]
  rw [wX1_isRight_239_70 _ _ _ _ _ rfl]
  simp only [bX1_isRight_1134, sX1_isFree (show 2 ≤ d by omega) h, sX1_isA (show 3 ≤ d by omega) h, sX1_isOf (show 4 ≤ d by omega) h, sX1_isStatement (show 3 ≤ d by omega) h, sX1_isExpression (show 3 ≤ d by omega) h, sX1_isBetween (show 4 ≤ d by omega) h, sX1_isTarget (show 4 ≤ d by omega) h, sp_tg_eq hW.2.2, sX1_isThere (show 1 ≤ d by omega) h, sX1_elementOf (show 1 ≤ d by omega), sX1_isExpressionKind (show 1 ≤ d by omega), mj_rI_k, sp_b0, mj_gb_b, h.2.2.1, h.2.2.2.2.2.1, sX1_isCall (show 4 ≤ d by omega) h hM hW, hM.2.2.1]
  obtain ⟨d, rfl⟩ : ∃ c, d = c + 1 := ⟨d - 1, by omega⟩
  simp only [tX1_a70 (show 4 ≤ d by omega) h hW, mj_rI_k, sp_b0, mj_gb_b]
  have hg : ∀ (k q : Int32) r, sp_fk nt (sp_fr nt N) k q = true → mj_g k 4000 r = r := fun k q r hq => mj_g_k (sp_nd_in hN (sp_fk_nd hq) (Nat.le_refl _)) r
  have hv : ∀ (k : Int32) r, ¬ sp_val nt (sp_fr nt N) k = 0 → mj_g k 4000 r = r := fun k r hq => mj_g_k (sp_nd_in hN (sp_val_nd hq) (Nat.le_refl _)) r
  have ht : ∀ (k : Int32) r, ¬ sp_tg nt (sp_fr nt N) k = 0 → mj_g k 4000 r = r := fun k r hq => mj_g_k (sp_nd_in hN (sp_tg_nd hq) (Nat.le_refl _)) r
  have hw : ∀ (k : Int32) r, sp_nd N k = true → mj_g k 4000 r = r := fun k r hq => mj_g_k (sp_nd_in hN hq (Nat.le_refl _)) r
  have f1 := sp_val_rng hW.2.2 a
  have f2 := sp_val_rng hW.2.2 b
  have f3 : ∀ k q, sp_fk nt (sp_fr nt N) k q = true → sp_E q = false → sp_val nt (sp_fr nt N) k = 0 := fun k q => sp_val_fk
  have f4 : ∀ k, ¬ sp_val nt (sp_fr nt N) k = 0 → nt 3 k.toNatClampNeg = sp_val nt (sp_fr nt N) k := fun k => sp_val_v
  have f5 : sp_val nt (sp_fr nt N) (-1) = 0 := sp_val_m1
  have f6 : ∀ k, ¬ sp_tg nt (sp_fr nt N) k = 0 → nt 3 k.toNatClampNeg = sp_tg nt (sp_fr nt N) k ∧ sp_tg nt (sp_fr nt N) k = sp_val nt (sp_fr nt N) k := fun k => sp_tg_v hW.2.2
  have f9 := sp_tg_4 hW.2.2 a
  have g2 := sp_E_eq hW.2.2 a
  have g1 : ∀ k q r, sp_fk nt (sp_fr nt N) k q = true → sp_fk nt (sp_fr nt N) k r = true → q = r := fun k q r => sp_fk_2
  have f7 : ∀ k, sp_nd N k = true → 0 ≤ nt 3 k.toNatClampNeg := fun k hk => (hW.2.2 k hk).1
  have f8 : ∀ k q, sp_fk nt (sp_fr nt N) k q = true → sp_nd N k = true := fun k q => sp_fk_nd
  have e5 : sp_E 5 = false := rfl
  have e49 : sp_E 49 = false := rfl
  have e33 : sp_E 33 = false := rfl
  have hc : ∀ (g m : Int32) r, sp_call nt (sp_fr nt N) M par m g = true → mj_g m 40 r = r := fun g m r hq => mj_g_k (sp_call_in hM.2.1 hq) r
  have hc2 : ∀ (m g : Int32), sp_call nt (sp_fr nt N) M par m g = true → 0 ≤ res m.toNatClampNeg := fun m g hq => by
    unfold sp_call at hq
    simp only [Bool.and_eq_true] at hq
    obtain ⟨q1, q2⟩ := (sp_nd_iff (by have := hM.2.1; omega) m).mp hq.1.1
    exact hR _ (by show m.toInt.toNat < M; omega)
  simp only [sp_ty]
  simp <;> grind [sp_b, sp_isv, sp_i, sp_bin, sp_el, sp_ao]
theorem tX1_r71 {d : Nat} (hd : 5 ≤ d) {y : mj_X} {nt : sp_NT} {N M : Nat} {res par : Nat → Int32} (h : md_T y nt N) (hM : md_M y M res par) (hW : sp_W nt N M par) (hR : ∀ m, m < M → 0 ≤ res m) (a b : Int32) : kX1 (d + 1) 5 [.ref 0, .int 71, .int a, .int b] y = some (some (.int (sp_b (!decide (sp_ty nt (sp_nd N) (sp_fr nt N) M res par 71 a b = -1)))), y) := by
  have hN := h.2.1
  have e0 : kX1 (d + 1) 5 [.ref 0, .int 71, .int a, .int b] y = rX1_isRight d (239, [some (.ref 0), some (.int 71), some (.int a), some (.int b), none, none], [], y) := by simp [eX1_isRight, bX1_isRight_12, bX1_isRight_59, bX1_isRight_106, bX1_isRight_148]
  rw [e0]
  rw [wX1_isRight_239_71 _ _ _ _ _ rfl]
  simp only [bX1_isRight_1134, sX1_isFree (show 2 ≤ d by omega) h, sX1_isA (show 3 ≤ d by omega) h, sX1_isOf (show 4 ≤ d by omega) h, sX1_isStatement (show 3 ≤ d by omega) h, sX1_isExpression (show 3 ≤ d by omega) h, sX1_isBetween (show 4 ≤ d by omega) h, sX1_isTarget (show 4 ≤ d by omega) h, sp_tg_eq hW.2.2, sX1_isThere (show 1 ≤ d by omega) h, sX1_elementOf (show 1 ≤ d by omega), sX1_isExpressionKind (show 1 ≤ d by omega), mj_rI_k, sp_b0, mj_gb_b, h.2.2.1, h.2.2.2.2.2.1, sX1_isCall (show 4 ≤ d by omega) h hM hW, hM.2.2.1]
  obtain ⟨d, rfl⟩ : ∃ c, d = c + 1 := ⟨d - 1, by omega⟩
  simp only [tX1_a71 (show 4 ≤ d by omega) h hW, mj_rI_k, sp_b0, mj_gb_b]
  have hg : ∀ (k q : Int32) r, sp_fk nt (sp_fr nt N) k q = true → mj_g k 4000 r = r := fun k q r hq => mj_g_k (sp_nd_in hN (sp_fk_nd hq) (Nat.le_refl _)) r
  have hv : ∀ (k : Int32) r, ¬ sp_val nt (sp_fr nt N) k = 0 → mj_g k 4000 r = r := fun k r hq => mj_g_k (sp_nd_in hN (sp_val_nd hq) (Nat.le_refl _)) r
  have ht : ∀ (k : Int32) r, ¬ sp_tg nt (sp_fr nt N) k = 0 → mj_g k 4000 r = r := fun k r hq => mj_g_k (sp_nd_in hN (sp_tg_nd hq) (Nat.le_refl _)) r
  have hw : ∀ (k : Int32) r, sp_nd N k = true → mj_g k 4000 r = r := fun k r hq => mj_g_k (sp_nd_in hN hq (Nat.le_refl _)) r
  have f1 := sp_val_rng hW.2.2 a
  have f2 := sp_val_rng hW.2.2 b
  have f3 : ∀ k q, sp_fk nt (sp_fr nt N) k q = true → sp_E q = false → sp_val nt (sp_fr nt N) k = 0 := fun k q => sp_val_fk
  have f4 : ∀ k, ¬ sp_val nt (sp_fr nt N) k = 0 → nt 3 k.toNatClampNeg = sp_val nt (sp_fr nt N) k := fun k => sp_val_v
  have f5 : sp_val nt (sp_fr nt N) (-1) = 0 := sp_val_m1
  have f6 : ∀ k, ¬ sp_tg nt (sp_fr nt N) k = 0 → nt 3 k.toNatClampNeg = sp_tg nt (sp_fr nt N) k ∧ sp_tg nt (sp_fr nt N) k = sp_val nt (sp_fr nt N) k := fun k => sp_tg_v hW.2.2
  have f9 := sp_tg_4 hW.2.2 a
  have g2 := sp_E_eq hW.2.2 a
  have g1 : ∀ k q r, sp_fk nt (sp_fr nt N) k q = true → sp_fk nt (sp_fr nt N) k r = true → q = r := fun k q r => sp_fk_2
  have f7 : ∀ k, sp_nd N k = true → 0 ≤ nt 3 k.toNatClampNeg := fun k hk => (hW.2.2 k hk).1
  have f8 : ∀ k q, sp_fk nt (sp_fr nt N) k q = true → sp_nd N k = true := fun k q => sp_fk_nd
  have e5 : sp_E 5 = false := rfl
  have e49 : sp_E 49 = false := rfl
  have e33 : sp_E 33 = false := rfl
  have hc : ∀ (g m : Int32) r, sp_call nt (sp_fr nt N) M par m g = true → mj_g m 40 r = r := fun g m r hq => mj_g_k (sp_call_in hM.2.1 hq) r
  have hc2 : ∀ (m g : Int32), sp_call nt (sp_fr nt N) M par m g = true → 0 ≤ res m.toNatClampNeg := fun m g hq => by
    unfold sp_call at hq
    simp only [Bool.and_eq_true] at hq
    obtain ⟨q1, q2⟩ := (sp_nd_iff (by have := hM.2.1; omega) m).mp hq.1.1
    exact hR _ (by show m.toInt.toNat < M; omega)
  simp only [sp_ty]
  simp <;> grind [sp_b, sp_isv, sp_i, sp_bin, sp_el, sp_ao]
theorem tX1_r72 {d : Nat} (hd : 5 ≤ d) {y : mj_X} {nt : sp_NT} {N M : Nat} {res par : Nat → Int32} (h : md_T y nt N) (hM : md_M y M res par) (hW : sp_W nt N M par) (hR : ∀ m, m < M → 0 ≤ res m) (a b : Int32) : kX1 (d + 1) 5 [.ref 0, .int 72, .int a, .int b] y = some (some (.int (sp_b (!decide (sp_ty nt (sp_nd N) (sp_fr nt N) M res par 72 a b = -1)))), y) := by
  have hN := h.2.1
  have e0 : kX1 (d + 1) 5 [.ref 0, .int 72, .int a, .int b] y = rX1_isRight d (239, [some (.ref 0), some (.int 72), some (.int a), some (.int b), none, none], [], y) := by simp [eX1_isRight, bX1_isRight_12, bX1_isRight_59, bX1_isRight_106, bX1_isRight_148]
  rw [e0]
  rw [wX1_isRight_239_72 _ _ _ _ _ rfl]
  simp only [bX1_isRight_1134, sX1_isFree (show 2 ≤ d by omega) h, sX1_isA (show 3 ≤ d by omega) h, sX1_isOf (show 4 ≤ d by omega) h, sX1_isStatement (show 3 ≤ d by omega) h, sX1_isExpression (show 3 ≤ d by omega) h, sX1_isBetween (show 4 ≤ d by omega) h, sX1_isTarget (show 4 ≤ d by omega) h, sp_tg_eq hW.2.2, sX1_isThere (show 1 ≤ d by omega) h, sX1_elementOf (show 1 ≤ d by omega), sX1_isExpressionKind (show 1 ≤ d by omega), mj_rI_k, sp_b0, mj_gb_b, h.2.2.1, h.2.2.2.2.2.1, sX1_isCall (show 4 ≤ d by omega) h hM hW, hM.2.2.1]
  obtain ⟨d, rfl⟩ : ∃ c, d = c + 1 := ⟨d - 1, by omega⟩
  simp only [tX1_a72 (show 4 ≤ d by omega) h hW, mj_rI_k, sp_b0, mj_gb_b]
  have hg : ∀ (k q : Int32) r, sp_fk nt (sp_fr nt N) k q = true → mj_g k 4000 r = r := fun k q r hq => mj_g_k (sp_nd_in hN (sp_fk_nd hq) (Nat.le_refl _)) r
  have hv : ∀ (k : Int32) r, ¬ sp_val nt (sp_fr nt N) k = 0 → mj_g k 4000 r = r := fun k r hq => mj_g_k (sp_nd_in hN (sp_val_nd hq) (Nat.le_refl _)) r
  have ht : ∀ (k : Int32) r, ¬ sp_tg nt (sp_fr nt N) k = 0 → mj_g k 4000 r = r := fun k r hq => mj_g_k (sp_nd_in hN (sp_tg_nd hq) (Nat.le_refl _)) r
  have hw : ∀ (k : Int32) r, sp_nd N k = true → mj_g k 4000 r = r := fun k r hq => mj_g_k (sp_nd_in hN hq (Nat.le_refl _)) r
  have f1 := sp_val_rng hW.2.2 a
  have f2 := sp_val_rng hW.2.2 b
  have f3 : ∀ k q, sp_fk nt (sp_fr nt N) k q = true → sp_E q = false → sp_val nt (sp_fr nt N) k = 0 := fun k q => sp_val_fk
  have f4 : ∀ k, ¬ sp_val nt (sp_fr nt N) k = 0 → nt 3 k.toNatClampNeg = sp_val nt (sp_fr nt N) k := fun k => sp_val_v
  have f5 : sp_val nt (sp_fr nt N) (-1) = 0 := sp_val_m1
  have f6 : ∀ k, ¬ sp_tg nt (sp_fr nt N) k = 0 → nt 3 k.toNatClampNeg = sp_tg nt (sp_fr nt N) k ∧ sp_tg nt (sp_fr nt N) k = sp_val nt (sp_fr nt N) k := fun k => sp_tg_v hW.2.2
  have f9 := sp_tg_4 hW.2.2 a
  have g2 := sp_E_eq hW.2.2 a
  have g1 : ∀ k q r, sp_fk nt (sp_fr nt N) k q = true → sp_fk nt (sp_fr nt N) k r = true → q = r := fun k q r => sp_fk_2
  have f7 : ∀ k, sp_nd N k = true → 0 ≤ nt 3 k.toNatClampNeg := fun k hk => (hW.2.2 k hk).1
  have f8 : ∀ k q, sp_fk nt (sp_fr nt N) k q = true → sp_nd N k = true := fun k q => sp_fk_nd
  have e5 : sp_E 5 = false := rfl
  have e49 : sp_E 49 = false := rfl
  have e33 : sp_E 33 = false := rfl
  have hc : ∀ (g m : Int32) r, sp_call nt (sp_fr nt N) M par m g = true → mj_g m 40 r = r := fun g m r hq => mj_g_k (sp_call_in hM.2.1 hq) r
  have hc2 : ∀ (m g : Int32), sp_call nt (sp_fr nt N) M par m g = true → 0 ≤ res m.toNatClampNeg := fun m g hq => by
    unfold sp_call at hq
    simp only [Bool.and_eq_true] at hq
    obtain ⟨q1, q2⟩ := (sp_nd_iff (by have := hM.2.1; omega) m).mp hq.1.1
    exact hR _ (by show m.toInt.toNat < M; omega)
  simp only [sp_ty]
  simp <;> grind [sp_b, sp_isv, sp_i, sp_bin, sp_el, sp_ao]
theorem tX1_r73 {d : Nat} (hd : 5 ≤ d) {y : mj_X} {nt : sp_NT} {N M : Nat} {res par : Nat → Int32} (h : md_T y nt N) (hM : md_M y M res par) (hW : sp_W nt N M par) (hR : ∀ m, m < M → 0 ≤ res m) (a b : Int32) : kX1 (d + 1) 5 [.ref 0, .int 73, .int a, .int b] y = some (some (.int (sp_b (!decide (sp_ty nt (sp_nd N) (sp_fr nt N) M res par 73 a b = -1)))), y) := by
  have hN := h.2.1
  have e0 : kX1 (d + 1) 5 [.ref 0, .int 73, .int a, .int b] y = rX1_isRight d (239, [some (.ref 0), some (.int 73), some (.int a), some (.int b), none, none], [], y) := by simp [eX1_isRight, bX1_isRight_12, bX1_isRight_59, bX1_isRight_106, bX1_isRight_148]
  rw [e0]
  rw [wX1_isRight_239_73 _ _ _ _ _ rfl]
  simp only [bX1_isRight_1134, sX1_isFree (show 2 ≤ d by omega) h, sX1_isA (show 3 ≤ d by omega) h, sX1_isOf (show 4 ≤ d by omega) h, sX1_isStatement (show 3 ≤ d by omega) h, sX1_isExpression (show 3 ≤ d by omega) h, sX1_isBetween (show 4 ≤ d by omega) h, sX1_isTarget (show 4 ≤ d by omega) h, sp_tg_eq hW.2.2, sX1_isThere (show 1 ≤ d by omega) h, sX1_elementOf (show 1 ≤ d by omega), sX1_isExpressionKind (show 1 ≤ d by omega), mj_rI_k, sp_b0, mj_gb_b, h.2.2.1, h.2.2.2.2.2.1, sX1_isCall (show 4 ≤ d by omega) h hM hW, hM.2.2.1]
  obtain ⟨d, rfl⟩ : ∃ c, d = c + 1 := ⟨d - 1, by omega⟩
  simp only [tX1_a73 (show 4 ≤ d by omega) h hW, mj_rI_k, sp_b0, mj_gb_b]
  have hg : ∀ (k q : Int32) r, sp_fk nt (sp_fr nt N) k q = true → mj_g k 4000 r = r := fun k q r hq => mj_g_k (sp_nd_in hN (sp_fk_nd hq) (Nat.le_refl _)) r
  have hv : ∀ (k : Int32) r, ¬ sp_val nt (sp_fr nt N) k = 0 → mj_g k 4000 r = r := fun k r hq => mj_g_k (sp_nd_in hN (sp_val_nd hq) (Nat.le_refl _)) r
  have ht : ∀ (k : Int32) r, ¬ sp_tg nt (sp_fr nt N) k = 0 → mj_g k 4000 r = r := fun k r hq => mj_g_k (sp_nd_in hN (sp_tg_nd hq) (Nat.le_refl _)) r
  have hw : ∀ (k : Int32) r, sp_nd N k = true → mj_g k 4000 r = r := fun k r hq => mj_g_k (sp_nd_in hN hq (Nat.le_refl _)) r
  have f1 := sp_val_rng hW.2.2 a
  have f2 := sp_val_rng hW.2.2 b
  have f3 : ∀ k q, sp_fk nt (sp_fr nt N) k q = true → sp_E q = false → sp_val nt (sp_fr nt N) k = 0 := fun k q => sp_val_fk
  have f4 : ∀ k, ¬ sp_val nt (sp_fr nt N) k = 0 → nt 3 k.toNatClampNeg = sp_val nt (sp_fr nt N) k := fun k => sp_val_v
  have f5 : sp_val nt (sp_fr nt N) (-1) = 0 := sp_val_m1
  have f6 : ∀ k, ¬ sp_tg nt (sp_fr nt N) k = 0 → nt 3 k.toNatClampNeg = sp_tg nt (sp_fr nt N) k ∧ sp_tg nt (sp_fr nt N) k = sp_val nt (sp_fr nt N) k := fun k => sp_tg_v hW.2.2
  have f9 := sp_tg_4 hW.2.2 a
  have g2 := sp_E_eq hW.2.2 a
  have g1 : ∀ k q r, sp_fk nt (sp_fr nt N) k q = true → sp_fk nt (sp_fr nt N) k r = true → q = r := fun k q r => sp_fk_2
  have f7 : ∀ k, sp_nd N k = true → 0 ≤ nt 3 k.toNatClampNeg := fun k hk => (hW.2.2 k hk).1
  have f8 : ∀ k q, sp_fk nt (sp_fr nt N) k q = true → sp_nd N k = true := fun k q => sp_fk_nd
  have e5 : sp_E 5 = false := rfl
  have e49 : sp_E 49 = false := rfl
  have e33 : sp_E 33 = false := rfl
  have hc : ∀ (g m : Int32) r, sp_call nt (sp_fr nt N) M par m g = true → mj_g m 40 r = r := fun g m r hq => mj_g_k (sp_call_in hM.2.1 hq) r
  have hc2 : ∀ (m g : Int32), sp_call nt (sp_fr nt N) M par m g = true → 0 ≤ res m.toNatClampNeg := fun m g hq => by
    unfold sp_call at hq
    simp only [Bool.and_eq_true] at hq
    obtain ⟨q1, q2⟩ := (sp_nd_iff (by have := hM.2.1; omega) m).mp hq.1.1
    exact hR _ (by show m.toInt.toNat < M; omega)
  simp only [sp_ty]
  simp <;> grind [sp_b, sp_isv, sp_i, sp_bin, sp_el, sp_ao]
theorem tX1_r74 {d : Nat} (hd : 5 ≤ d) {y : mj_X} {nt : sp_NT} {N M : Nat} {res par : Nat → Int32} (h : md_T y nt N) (hM : md_M y M res par) (hW : sp_W nt N M par) (hR : ∀ m, m < M → 0 ≤ res m) (a b : Int32) : kX1 (d + 1) 5 [.ref 0, .int 74, .int a, .int b] y = some (some (.int (sp_b (!decide (sp_ty nt (sp_nd N) (sp_fr nt N) M res par 74 a b = -1)))), y) := by
  have hN := h.2.1
  have e0 : kX1 (d + 1) 5 [.ref 0, .int 74, .int a, .int b] y = rX1_isRight d (239, [some (.ref 0), some (.int 74), some (.int a), some (.int b), none, none], [], y) := by simp [eX1_isRight, bX1_isRight_12, bX1_isRight_59, bX1_isRight_106, bX1_isRight_148]
  rw [e0]
  rw [wX1_isRight_239_74 _ _ _ _ _ rfl]
  simp only [bX1_isRight_1134, sX1_isFree (show 2 ≤ d by omega) h, sX1_isA (show 3 ≤ d by omega) h, sX1_isOf (show 4 ≤ d by omega) h, sX1_isStatement (show 3 ≤ d by omega) h, sX1_isExpression (show 3 ≤ d by omega) h, sX1_isBetween (show 4 ≤ d by omega) h, sX1_isTarget (show 4 ≤ d by omega) h, sp_tg_eq hW.2.2, sX1_isThere (show 1 ≤ d by omega) h, sX1_elementOf (show 1 ≤ d by omega), sX1_isExpressionKind (show 1 ≤ d by omega), mj_rI_k, sp_b0, mj_gb_b, h.2.2.1, h.2.2.2.2.2.1, sX1_isCall (show 4 ≤ d by omega) h hM hW, hM.2.2.1]
  obtain ⟨d, rfl⟩ : ∃ c, d = c + 1 := ⟨d - 1, by omega⟩
  simp only [tX1_a74 (show 4 ≤ d by omega) h hW, mj_rI_k, sp_b0, mj_gb_b]
  have hg : ∀ (k q : Int32) r, sp_fk nt (sp_fr nt N) k q = true → mj_g k 4000 r = r := fun k q r hq => mj_g_k (sp_nd_in hN (sp_fk_nd hq) (Nat.le_refl _)) r
  have hv : ∀ (k : Int32) r, ¬ sp_val nt (sp_fr nt N) k = 0 → mj_g k 4000 r = r := fun k r hq => mj_g_k (sp_nd_in hN (sp_val_nd hq) (Nat.le_refl _)) r
  have ht : ∀ (k : Int32) r, ¬ sp_tg nt (sp_fr nt N) k = 0 → mj_g k 4000 r = r := fun k r hq => mj_g_k (sp_nd_in hN (sp_tg_nd hq) (Nat.le_refl _)) r
  have hw : ∀ (k : Int32) r, sp_nd N k = true → mj_g k 4000 r = r := fun k r hq => mj_g_k (sp_nd_in hN hq (Nat.le_refl _)) r
  have f1 := sp_val_rng hW.2.2 a
  have f2 := sp_val_rng hW.2.2 b
  have f3 : ∀ k q, sp_fk nt (sp_fr nt N) k q = true → sp_E q = false → sp_val nt (sp_fr nt N) k = 0 := fun k q => sp_val_fk
  have f4 : ∀ k, ¬ sp_val nt (sp_fr nt N) k = 0 → nt 3 k.toNatClampNeg = sp_val nt (sp_fr nt N) k := fun k => sp_val_v
  have f5 : sp_val nt (sp_fr nt N) (-1) = 0 := sp_val_m1
  have f6 : ∀ k, ¬ sp_tg nt (sp_fr nt N) k = 0 → nt 3 k.toNatClampNeg = sp_tg nt (sp_fr nt N) k ∧ sp_tg nt (sp_fr nt N) k = sp_val nt (sp_fr nt N) k := fun k => sp_tg_v hW.2.2
  have f9 := sp_tg_4 hW.2.2 a
  have g2 := sp_E_eq hW.2.2 a
  have g1 : ∀ k q r, sp_fk nt (sp_fr nt N) k q = true → sp_fk nt (sp_fr nt N) k r = true → q = r := fun k q r => sp_fk_2
  have f7 : ∀ k, sp_nd N k = true → 0 ≤ nt 3 k.toNatClampNeg := fun k hk => (hW.2.2 k hk).1
  have f8 : ∀ k q, sp_fk nt (sp_fr nt N) k q = true → sp_nd N k = true := fun k q => sp_fk_nd
  have e5 : sp_E 5 = false := rfl
  have e49 : sp_E 49 = false := rfl
  have e33 : sp_E 33 = false := rfl
  have hc : ∀ (g m : Int32) r, sp_call nt (sp_fr nt N) M par m g = true → mj_g m 40 r = r := fun g m r hq => mj_g_k (sp_call_in hM.2.1 hq) r
  have hc2 : ∀ (m g : Int32), sp_call nt (sp_fr nt N) M par m g = true → 0 ≤ res m.toNatClampNeg := fun m g hq => by
    unfold sp_call at hq
    simp only [Bool.and_eq_true] at hq
    obtain ⟨q1, q2⟩ := (sp_nd_iff (by have := hM.2.1; omega) m).mp hq.1.1
    exact hR _ (by show m.toInt.toNat < M; omega)
  simp only [sp_ty]
  simp <;> grind [sp_b, sp_isv, sp_i, sp_bin, sp_el, sp_ao]
theorem tX1_r75 {d : Nat} (hd : 5 ≤ d) {y : mj_X} {nt : sp_NT} {N M : Nat} {res par : Nat → Int32} (h : md_T y nt N) (hM : md_M y M res par) (hW : sp_W nt N M par) (hR : ∀ m, m < M → 0 ≤ res m) (a b : Int32) : kX1 (d + 1) 5 [.ref 0, .int 75, .int a, .int b] y = some (some (.int (sp_b (!decide (sp_ty nt (sp_nd N) (sp_fr nt N) M res par 75 a b = -1)))), y) := by
  have hN := h.2.1
  have e0 : kX1 (d + 1) 5 [.ref 0, .int 75, .int a, .int b] y = rX1_isRight d (239, [some (.ref 0), some (.int 75), some (.int a), some (.int b), none, none], [], y) := by simp [eX1_isRight, bX1_isRight_12, bX1_isRight_59, bX1_isRight_106, bX1_isRight_148]
  rw [e0]
  rw [wX1_isRight_239_75 _ _ _ _ _ rfl]
  simp only [bX1_isRight_1134, sX1_isFree (show 2 ≤ d by omega) h, sX1_isA (show 3 ≤ d by omega) h, sX1_isOf (show 4 ≤ d by omega) h, sX1_isStatement (show 3 ≤ d by omega) h, sX1_isExpression (show 3 ≤ d by omega) h, sX1_isBetween (show 4 ≤ d by omega) h, sX1_isTarget (show 4 ≤ d by omega) h, sp_tg_eq hW.2.2, sX1_isThere (show 1 ≤ d by omega) h, sX1_elementOf (show 1 ≤ d by omega), sX1_isExpressionKind (show 1 ≤ d by omega), mj_rI_k, sp_b0, mj_gb_b, h.2.2.1, h.2.2.2.2.2.1, sX1_isCall (show 4 ≤ d by omega) h hM hW, hM.2.2.1]
  obtain ⟨d, rfl⟩ : ∃ c, d = c + 1 := ⟨d - 1, by omega⟩
  simp only [tX1_a75 (show 4 ≤ d by omega) h hW, mj_rI_k, sp_b0, mj_gb_b]
  have hg : ∀ (k q : Int32) r, sp_fk nt (sp_fr nt N) k q = true → mj_g k 4000 r = r := fun k q r hq => mj_g_k (sp_nd_in hN (sp_fk_nd hq) (Nat.le_refl _)) r
  have hv : ∀ (k : Int32) r, ¬ sp_val nt (sp_fr nt N) k = 0 → mj_g k 4000 r = r := fun k r hq => mj_g_k (sp_nd_in hN (sp_val_nd hq) (Nat.le_refl _)) r
  have ht : ∀ (k : Int32) r, ¬ sp_tg nt (sp_fr nt N) k = 0 → mj_g k 4000 r = r := fun k r hq => mj_g_k (sp_nd_in hN (sp_tg_nd hq) (Nat.le_refl _)) r
  have hw : ∀ (k : Int32) r, sp_nd N k = true → mj_g k 4000 r = r := fun k r hq => mj_g_k (sp_nd_in hN hq (Nat.le_refl _)) r
  have f1 := sp_val_rng hW.2.2 a
  have f2 := sp_val_rng hW.2.2 b
  have f3 : ∀ k q, sp_fk nt (sp_fr nt N) k q = true → sp_E q = false → sp_val nt (sp_fr nt N) k = 0 := fun k q => sp_val_fk
  have f4 : ∀ k, ¬ sp_val nt (sp_fr nt N) k = 0 → nt 3 k.toNatClampNeg = sp_val nt (sp_fr nt N) k := fun k => sp_val_v
  have f5 : sp_val nt (sp_fr nt N) (-1) = 0 := sp_val_m1
  have f6 : ∀ k, ¬ sp_tg nt (sp_fr nt N) k = 0 → nt 3 k.toNatClampNeg = sp_tg nt (sp_fr nt N) k ∧ sp_tg nt (sp_fr nt N) k = sp_val nt (sp_fr nt N) k := fun k => sp_tg_v hW.2.2
  have f9 := sp_tg_4 hW.2.2 a
  have g2 := sp_E_eq hW.2.2 a
  have g1 : ∀ k q r, sp_fk nt (sp_fr nt N) k q = true → sp_fk nt (sp_fr nt N) k r = true → q = r := fun k q r => sp_fk_2
  have f7 : ∀ k, sp_nd N k = true → 0 ≤ nt 3 k.toNatClampNeg := fun k hk => (hW.2.2 k hk).1
  have f8 : ∀ k q, sp_fk nt (sp_fr nt N) k q = true → sp_nd N k = true := fun k q => sp_fk_nd
  have e5 : sp_E 5 = false := rfl
  have e49 : sp_E 49 = false := rfl
  have e33 : sp_E 33 = false := rfl
  have hc : ∀ (g m : Int32) r, sp_call nt (sp_fr nt N) M par m g = true → mj_g m 40 r = r := fun g m r hq => mj_g_k (sp_call_in hM.2.1 hq) r
  have hc2 : ∀ (m g : Int32), sp_call nt (sp_fr nt N) M par m g = true → 0 ≤ res m.toNatClampNeg := fun m g hq => by
    unfold sp_call at hq
    simp only [Bool.and_eq_true] at hq
    obtain ⟨q1, q2⟩ := (sp_nd_iff (by have := hM.2.1; omega) m).mp hq.1.1
    exact hR _ (by show m.toInt.toNat < M; omega)
  simp only [sp_ty]
  simp <;> grind [sp_b, sp_isv, sp_i, sp_bin, sp_el, sp_ao]
theorem tX1_r76 {d : Nat} (hd : 5 ≤ d) {y : mj_X} {nt : sp_NT} {N M : Nat} {res par : Nat → Int32} (h : md_T y nt N) (hM : md_M y M res par) (hW : sp_W nt N M par) (hR : ∀ m, m < M → 0 ≤ res m) (a b : Int32) : kX1 (d + 1) 5 [.ref 0, .int 76, .int a, .int b] y = some (some (.int (sp_b (!decide (sp_ty nt (sp_nd N) (sp_fr nt N) M res par 76 a b = -1)))), y) := by
  have hN := h.2.1
  have e0 : kX1 (d + 1) 5 [.ref 0, .int 76, .int a, .int b] y = rX1_isRight d (239, [some (.ref 0), some (.int 76), some (.int a), some (.int b), none, none], [], y) := by simp [eX1_isRight, bX1_isRight_12, bX1_isRight_59, bX1_isRight_106, bX1_isRight_148]
  rw [e0]
  rw [wX1_isRight_239_76 _ _ _ _ _ rfl]
  simp only [bX1_isRight_1134, sX1_isFree (show 2 ≤ d by omega) h, sX1_isA (show 3 ≤ d by omega) h, sX1_isOf (show 4 ≤ d by omega) h, sX1_isStatement (show 3 ≤ d by omega) h, sX1_isExpression (show 3 ≤ d by omega) h, sX1_isBetween (show 4 ≤ d by omega) h, sX1_isTarget (show 4 ≤ d by omega) h, sp_tg_eq hW.2.2, sX1_isThere (show 1 ≤ d by omega) h, sX1_elementOf (show 1 ≤ d by omega), sX1_isExpressionKind (show 1 ≤ d by omega), mj_rI_k, sp_b0, mj_gb_b, h.2.2.1, h.2.2.2.2.2.1, sX1_isCall (show 4 ≤ d by omega) h hM hW, hM.2.2.1]
  obtain ⟨d, rfl⟩ : ∃ c, d = c + 1 := ⟨d - 1, by omega⟩
  simp only [tX1_a76 (show 4 ≤ d by omega) h hW, mj_rI_k, sp_b0, mj_gb_b]
  have hg : ∀ (k q : Int32) r, sp_fk nt (sp_fr nt N) k q = true → mj_g k 4000 r = r := fun k q r hq => mj_g_k (sp_nd_in hN (sp_fk_nd hq) (Nat.le_refl _)) r
  have hv : ∀ (k : Int32) r, ¬ sp_val nt (sp_fr nt N) k = 0 → mj_g k 4000 r = r := fun k r hq => mj_g_k (sp_nd_in hN (sp_val_nd hq) (Nat.le_refl _)) r
  have ht : ∀ (k : Int32) r, ¬ sp_tg nt (sp_fr nt N) k = 0 → mj_g k 4000 r = r := fun k r hq => mj_g_k (sp_nd_in hN (sp_tg_nd hq) (Nat.le_refl _)) r
  have hw : ∀ (k : Int32) r, sp_nd N k = true → mj_g k 4000 r = r := fun k r hq => mj_g_k (sp_nd_in hN hq (Nat.le_refl _)) r
  have f1 := sp_val_rng hW.2.2 a
  have f2 := sp_val_rng hW.2.2 b
  have f3 : ∀ k q, sp_fk nt (sp_fr nt N) k q = true → sp_E q = false → sp_val nt (sp_fr nt N) k = 0 := fun k q => sp_val_fk
  have f4 : ∀ k, ¬ sp_val nt (sp_fr nt N) k = 0 → nt 3 k.toNatClampNeg = sp_val nt (sp_fr nt N) k := fun k => sp_val_v
  have f5 : sp_val nt (sp_fr nt N) (-1) = 0 := sp_val_m1
  have f6 : ∀ k, ¬ sp_tg nt (sp_fr nt N) k = 0 → nt 3 k.toNatClampNeg = sp_tg nt (sp_fr nt N) k ∧ sp_tg nt (sp_fr nt N) k = sp_val nt (sp_fr nt N) k := fun k => sp_tg_v hW.2.2
  have f9 := sp_tg_4 hW.2.2 a
  have g2 := sp_E_eq hW.2.2 a
  have g1 : ∀ k q r, sp_fk nt (sp_fr nt N) k q = true → sp_fk nt (sp_fr nt N) k r = true → q = r := fun k q r => sp_fk_2
  have f7 : ∀ k, sp_nd N k = true → 0 ≤ nt 3 k.toNatClampNeg := fun k hk => (hW.2.2 k hk).1
  have f8 : ∀ k q, sp_fk nt (sp_fr nt N) k q = true → sp_nd N k = true := fun k q => sp_fk_nd
  have e5 : sp_E 5 = false := rfl
  have e49 : sp_E 49 = false := rfl
  have e33 : sp_E 33 = false := rfl
  have hc : ∀ (g m : Int32) r, sp_call nt (sp_fr nt N) M par m g = true → mj_g m 40 r = r := fun g m r hq => mj_g_k (sp_call_in hM.2.1 hq) r
  have hc2 : ∀ (m g : Int32), sp_call nt (sp_fr nt N) M par m g = true → 0 ≤ res m.toNatClampNeg := fun m g hq => by
    unfold sp_call at hq
    simp only [Bool.and_eq_true] at hq
    obtain ⟨q1, q2⟩ := (sp_nd_iff (by have := hM.2.1; omega) m).mp hq.1.1
    exact hR _ (by show m.toInt.toNat < M; omega)
  simp only [sp_ty]
  simp <;> grind [sp_b, sp_isv, sp_i, sp_bin, sp_el, sp_ao]
theorem tX1_r77 {d : Nat} (hd : 5 ≤ d) {y : mj_X} {nt : sp_NT} {N M : Nat} {res par : Nat → Int32} (h : md_T y nt N) (hM : md_M y M res par) (hW : sp_W nt N M par) (hR : ∀ m, m < M → 0 ≤ res m) (a b : Int32) : kX1 (d + 1) 5 [.ref 0, .int 77, .int a, .int b] y = some (some (.int (sp_b (!decide (sp_ty nt (sp_nd N) (sp_fr nt N) M res par 77 a b = -1)))), y) := by
  have hN := h.2.1
  have e0 : kX1 (d + 1) 5 [.ref 0, .int 77, .int a, .int b] y = rX1_isRight d (239, [some (.ref 0), some (.int 77), some (.int a), some (.int b), none, none], [], y) := by simp [eX1_isRight, bX1_isRight_12, bX1_isRight_59, bX1_isRight_106, bX1_isRight_148]
  rw [e0]
  rw [wX1_isRight_239_77 _ _ _ _ _ rfl]
  simp only [bX1_isRight_1134, sX1_isFree (show 2 ≤ d by omega) h, sX1_isA (show 3 ≤ d by omega) h, sX1_isOf (show 4 ≤ d by omega) h, sX1_isStatement (show 3 ≤ d by omega) h, sX1_isExpression (show 3 ≤ d by omega) h, sX1_isBetween (show 4 ≤ d by omega) h, sX1_isTarget (show 4 ≤ d by omega) h, sp_tg_eq hW.2.2, sX1_isThere (show 1 ≤ d by omega) h, sX1_elementOf (show 1 ≤ d by omega), sX1_isExpressionKind (show 1 ≤ d by omega), mj_rI_k, sp_b0, mj_gb_b, h.2.2.1, h.2.2.2.2.2.1, sX1_isCall (show 4 ≤ d by omega) h hM hW, hM.2.2.1]
  obtain ⟨d, rfl⟩ : ∃ c, d = c + 1 := ⟨d - 1, by omega⟩
  simp only [tX1_a77 (show 4 ≤ d by omega) h hW, mj_rI_k, sp_b0, mj_gb_b]
  have hg : ∀ (k q : Int32) r, sp_fk nt (sp_fr nt N) k q = true → mj_g k 4000 r = r := fun k q r hq => mj_g_k (sp_nd_in hN (sp_fk_nd hq) (Nat.le_refl _)) r
  have hv : ∀ (k : Int32) r, ¬ sp_val nt (sp_fr nt N) k = 0 → mj_g k 4000 r = r := fun k r hq => mj_g_k (sp_nd_in hN (sp_val_nd hq) (Nat.le_refl _)) r
  have ht : ∀ (k : Int32) r, ¬ sp_tg nt (sp_fr nt N) k = 0 → mj_g k 4000 r = r := fun k r hq => mj_g_k (sp_nd_in hN (sp_tg_nd hq) (Nat.le_refl _)) r
  have hw : ∀ (k : Int32) r, sp_nd N k = true → mj_g k 4000 r = r := fun k r hq => mj_g_k (sp_nd_in hN hq (Nat.le_refl _)) r
  have f1 := sp_val_rng hW.2.2 a
  have f2 := sp_val_rng hW.2.2 b
  have f3 : ∀ k q, sp_fk nt (sp_fr nt N) k q = true → sp_E q = false → sp_val nt (sp_fr nt N) k = 0 := fun k q => sp_val_fk
  have f4 : ∀ k, ¬ sp_val nt (sp_fr nt N) k = 0 → nt 3 k.toNatClampNeg = sp_val nt (sp_fr nt N) k := fun k => sp_val_v
  have f5 : sp_val nt (sp_fr nt N) (-1) = 0 := sp_val_m1
  have f6 : ∀ k, ¬ sp_tg nt (sp_fr nt N) k = 0 → nt 3 k.toNatClampNeg = sp_tg nt (sp_fr nt N) k ∧ sp_tg nt (sp_fr nt N) k = sp_val nt (sp_fr nt N) k := fun k => sp_tg_v hW.2.2
  have f9 := sp_tg_4 hW.2.2 a
  have g2 := sp_E_eq hW.2.2 a
  have g1 : ∀ k q r, sp_fk nt (sp_fr nt N) k q = true → sp_fk nt (sp_fr nt N) k r = true → q = r := fun k q r => sp_fk_2
  have f7 : ∀ k, sp_nd N k = true → 0 ≤ nt 3 k.toNatClampNeg := fun k hk => (hW.2.2 k hk).1
  have f8 : ∀ k q, sp_fk nt (sp_fr nt N) k q = true → sp_nd N k = true := fun k q => sp_fk_nd
  have e5 : sp_E 5 = false := rfl
  have e49 : sp_E 49 = false := rfl
  have e33 : sp_E 33 = false := rfl
  have hc : ∀ (g m : Int32) r, sp_call nt (sp_fr nt N) M par m g = true → mj_g m 40 r = r := fun g m r hq => mj_g_k (sp_call_in hM.2.1 hq) r
  have hc2 : ∀ (m g : Int32), sp_call nt (sp_fr nt N) M par m g = true → 0 ≤ res m.toNatClampNeg := fun m g hq => by
    unfold sp_call at hq
    simp only [Bool.and_eq_true] at hq
    obtain ⟨q1, q2⟩ := (sp_nd_iff (by have := hM.2.1; omega) m).mp hq.1.1
    exact hR _ (by show m.toInt.toNat < M; omega)
  simp only [sp_ty]
  simp <;> grind [sp_b, sp_isv, sp_i, sp_bin, sp_el, sp_ao]
theorem tX1_r78 {d : Nat} (hd : 5 ≤ d) {y : mj_X} {nt : sp_NT} {N M : Nat} {res par : Nat → Int32} (h : md_T y nt N) (hM : md_M y M res par) (hW : sp_W nt N M par) (hR : ∀ m, m < M → 0 ≤ res m) (a b : Int32) : kX1 (d + 1) 5 [.ref 0, .int 78, .int a, .int b] y = some (some (.int (sp_b (!decide (sp_ty nt (sp_nd N) (sp_fr nt N) M res par 78 a b = -1)))), y) := by
  have hN := h.2.1
  have e0 : kX1 (d + 1) 5 [.ref 0, .int 78, .int a, .int b] y = rX1_isRight d (239, [some (.ref 0), some (.int 78), some (.int a), some (.int b), none, none], [], y) := by simp [eX1_isRight, bX1_isRight_12, bX1_isRight_59, bX1_isRight_106, bX1_isRight_148]
  rw [e0]
  rw [wX1_isRight_239_78 _ _ _ _ _ rfl]
  simp only [bX1_isRight_1134, sX1_isFree (show 2 ≤ d by omega) h, sX1_isA (show 3 ≤ d by omega) h, sX1_isOf (show 4 ≤ d by omega) h, sX1_isStatement (show 3 ≤ d by omega) h, sX1_isExpression (show 3 ≤ d by omega) h, sX1_isBetween (show 4 ≤ d by omega) h, sX1_isTarget (show 4 ≤ d by omega) h, sp_tg_eq hW.2.2, sX1_isThere (show 1 ≤ d by omega) h, sX1_elementOf (show 1 ≤ d by omega), sX1_isExpressionKind (show 1 ≤ d by omega), mj_rI_k, sp_b0, mj_gb_b, h.2.2.1, h.2.2.2.2.2.1, sX1_isCall (show 4 ≤ d by omega) h hM hW, hM.2.2.1]
  obtain ⟨d, rfl⟩ : ∃ c, d = c + 1 := ⟨d - 1, by omega⟩
  simp only [tX1_a78 (show 4 ≤ d by omega) h hW, mj_rI_k, sp_b0, mj_gb_b]
  have hg : ∀ (k q : Int32) r, sp_fk nt (sp_fr nt N) k q = true → mj_g k 4000 r = r := fun k q r hq => mj_g_k (sp_nd_in hN (sp_fk_nd hq) (Nat.le_refl _)) r
  have hv : ∀ (k : Int32) r, ¬ sp_val nt (sp_fr nt N) k = 0 → mj_g k 4000 r = r := fun k r hq => mj_g_k (sp_nd_in hN (sp_val_nd hq) (Nat.le_refl _)) r
  have ht : ∀ (k : Int32) r, ¬ sp_tg nt (sp_fr nt N) k = 0 → mj_g k 4000 r = r := fun k r hq => mj_g_k (sp_nd_in hN (sp_tg_nd hq) (Nat.le_refl _)) r
  have hw : ∀ (k : Int32) r, sp_nd N k = true → mj_g k 4000 r = r := fun k r hq => mj_g_k (sp_nd_in hN hq (Nat.le_refl _)) r
  have f1 := sp_val_rng hW.2.2 a
  have f2 := sp_val_rng hW.2.2 b
  have f3 : ∀ k q, sp_fk nt (sp_fr nt N) k q = true → sp_E q = false → sp_val nt (sp_fr nt N) k = 0 := fun k q => sp_val_fk
  have f4 : ∀ k, ¬ sp_val nt (sp_fr nt N) k = 0 → nt 3 k.toNatClampNeg = sp_val nt (sp_fr nt N) k := fun k => sp_val_v
  have f5 : sp_val nt (sp_fr nt N) (-1) = 0 := sp_val_m1
  have f6 : ∀ k, ¬ sp_tg nt (sp_fr nt N) k = 0 → nt 3 k.toNatClampNeg = sp_tg nt (sp_fr nt N) k ∧ sp_tg nt (sp_fr nt N) k = sp_val nt (sp_fr nt N) k := fun k => sp_tg_v hW.2.2
  have f9 := sp_tg_4 hW.2.2 a
  have g2 := sp_E_eq hW.2.2 a
  have g1 : ∀ k q r, sp_fk nt (sp_fr nt N) k q = true → sp_fk nt (sp_fr nt N) k r = true → q = r := fun k q r => sp_fk_2
  have f7 : ∀ k, sp_nd N k = true → 0 ≤ nt 3 k.toNatClampNeg := fun k hk => (hW.2.2 k hk).1
  have f8 : ∀ k q, sp_fk nt (sp_fr nt N) k q = true → sp_nd N k = true := fun k q => sp_fk_nd
  have e5 : sp_E 5 = false := rfl
  have e49 : sp_E 49 = false := rfl
  have e33 : sp_E 33 = false := rfl
  have hc : ∀ (g m : Int32) r, sp_call nt (sp_fr nt N) M par m g = true → mj_g m 40 r = r := fun g m r hq => mj_g_k (sp_call_in hM.2.1 hq) r
  have hc2 : ∀ (m g : Int32), sp_call nt (sp_fr nt N) M par m g = true → 0 ≤ res m.toNatClampNeg := fun m g hq => by
    unfold sp_call at hq
    simp only [Bool.and_eq_true] at hq
    obtain ⟨q1, q2⟩ := (sp_nd_iff (by have := hM.2.1; omega) m).mp hq.1.1
    exact hR _ (by show m.toInt.toNat < M; omega)
  simp only [sp_ty]
  simp <;> grind [sp_b, sp_isv, sp_i, sp_bin, sp_el, sp_ao]
theorem tX1_r79 {d : Nat} (hd : 5 ≤ d) {y : mj_X} {nt : sp_NT} {N M : Nat} {res par : Nat → Int32} (h : md_T y nt N) (hM : md_M y M res par) (hW : sp_W nt N M par) (hR : ∀ m, m < M → 0 ≤ res m) (a b : Int32) : kX1 (d + 1) 5 [.ref 0, .int 79, .int a, .int b] y = some (some (.int (sp_b (!decide (sp_ty nt (sp_nd N) (sp_fr nt N) M res par 79 a b = -1)))), y) := by
  have hN := h.2.1
  have e0 : kX1 (d + 1) 5 [.ref 0, .int 79, .int a, .int b] y = rX1_isRight d (239, [some (.ref 0), some (.int 79), some (.int a), some (.int b), none, none], [], y) := by simp [eX1_isRight, bX1_isRight_12, bX1_isRight_59, bX1_isRight_106, bX1_isRight_148]
  rw [e0]
  rw [wX1_isRight_239_79 _ _ _ _ _ rfl]
  simp only [bX1_isRight_1134, sX1_isFree (show 2 ≤ d by omega) h, sX1_isA (show 3 ≤ d by omega) h, sX1_isOf (show 4 ≤ d by omega) h, sX1_isStatement (show 3 ≤ d by omega) h, sX1_isExpression (show 3 ≤ d by omega) h, sX1_isBetween (show 4 ≤ d by omega) h, sX1_isTarget (show 4 ≤ d by omega) h, sp_tg_eq hW.2.2, sX1_isThere (show 1 ≤ d by omega) h, sX1_elementOf (show 1 ≤ d by omega), sX1_isExpressionKind (show 1 ≤ d by omega), mj_rI_k, sp_b0, mj_gb_b, h.2.2.1, h.2.2.2.2.2.1, sX1_isCall (show 4 ≤ d by omega) h hM hW, hM.2.2.1]
  obtain ⟨d, rfl⟩ : ∃ c, d = c + 1 := ⟨d - 1, by omega⟩
  simp only [tX1_a79 (show 4 ≤ d by omega) h hW, mj_rI_k, sp_b0, mj_gb_b]
  have hg : ∀ (k q : Int32) r, sp_fk nt (sp_fr nt N) k q = true → mj_g k 4000 r = r := fun k q r hq => mj_g_k (sp_nd_in hN (sp_fk_nd hq) (Nat.le_refl _)) r
  have hv : ∀ (k : Int32) r, ¬ sp_val nt (sp_fr nt N) k = 0 → mj_g k 4000 r = r := fun k r hq => mj_g_k (sp_nd_in hN (sp_val_nd hq) (Nat.le_refl _)) r
  have ht : ∀ (k : Int32) r, ¬ sp_tg nt (sp_fr nt N) k = 0 → mj_g k 4000 r = r := fun k r hq => mj_g_k (sp_nd_in hN (sp_tg_nd hq) (Nat.le_refl _)) r
  have hw : ∀ (k : Int32) r, sp_nd N k = true → mj_g k 4000 r = r := fun k r hq => mj_g_k (sp_nd_in hN hq (Nat.le_refl _)) r
  have f1 := sp_val_rng hW.2.2 a
  have f2 := sp_val_rng hW.2.2 b
  have f3 : ∀ k q, sp_fk nt (sp_fr nt N) k q = true → sp_E q = false → sp_val nt (sp_fr nt N) k = 0 := fun k q => sp_val_fk
  have f4 : ∀ k, ¬ sp_val nt (sp_fr nt N) k = 0 → nt 3 k.toNatClampNeg = sp_val nt (sp_fr nt N) k := fun k => sp_val_v
  have f5 : sp_val nt (sp_fr nt N) (-1) = 0 := sp_val_m1
  have f6 : ∀ k, ¬ sp_tg nt (sp_fr nt N) k = 0 → nt 3 k.toNatClampNeg = sp_tg nt (sp_fr nt N) k ∧ sp_tg nt (sp_fr nt N) k = sp_val nt (sp_fr nt N) k := fun k => sp_tg_v hW.2.2
  have f9 := sp_tg_4 hW.2.2 a
  have g2 := sp_E_eq hW.2.2 a
  have g1 : ∀ k q r, sp_fk nt (sp_fr nt N) k q = true → sp_fk nt (sp_fr nt N) k r = true → q = r := fun k q r => sp_fk_2
  have f7 : ∀ k, sp_nd N k = true → 0 ≤ nt 3 k.toNatClampNeg := fun k hk => (hW.2.2 k hk).1
  have f8 : ∀ k q, sp_fk nt (sp_fr nt N) k q = true → sp_nd N k = true := fun k q => sp_fk_nd
  have e5 : sp_E 5 = false := rfl
  have e49 : sp_E 49 = false := rfl
  have e33 : sp_E 33 = false := rfl
  have hc : ∀ (g m : Int32) r, sp_call nt (sp_fr nt N) M par m g = true → mj_g m 40 r = r := fun g m r hq => mj_g_k (sp_call_in hM.2.1 hq) r
  have hc2 : ∀ (m g : Int32), sp_call nt (sp_fr nt N) M par m g = true → 0 ≤ res m.toNatClampNeg := fun m g hq => by
    unfold sp_call at hq
    simp only [Bool.and_eq_true] at hq
    obtain ⟨q1, q2⟩ := (sp_nd_iff (by have := hM.2.1; omega) m).mp hq.1.1
    exact hR _ (by show m.toInt.toNat < M; omega)
  simp only [sp_ty]
  simp <;> grind [sp_b, sp_isv, sp_i, sp_bin, sp_el, sp_ao]
theorem tX1_r80 {d : Nat} (hd : 5 ≤ d) {y : mj_X} {nt : sp_NT} {N M : Nat} {res par : Nat → Int32} (h : md_T y nt N) (hM : md_M y M res par) (hW : sp_W nt N M par) (hR : ∀ m, m < M → 0 ≤ res m) (a b : Int32) : kX1 (d + 1) 5 [.ref 0, .int 80, .int a, .int b] y = some (some (.int (sp_b (!decide (sp_ty nt (sp_nd N) (sp_fr nt N) M res par 80 a b = -1)))), y) := by
  have hN := h.2.1
  have e0 : kX1 (d + 1) 5 [.ref 0, .int 80, .int a, .int b] y = rX1_isRight d (239, [some (.ref 0), some (.int 80), some (.int a), some (.int b), none, none], [], y) := by simp [eX1_isRight, bX1_isRight_12, bX1_isRight_59, bX1_isRight_106, bX1_isRight_148]
  rw [e0]
  rw [wX1_isRight_239_80 _ _ _ _ _ rfl]
  simp only [bX1_isRight_1134, sX1_isFree (show 2 ≤ d by omega) h, sX1_isA (show 3 ≤ d by omega) h, sX1_isOf (show 4 ≤ d by omega) h, sX1_isStatement (show 3 ≤ d by omega) h, sX1_isExpression (show 3 ≤ d by omega) h, sX1_isBetween (show 4 ≤ d by omega) h, sX1_isTarget (show 4 ≤ d by omega) h, sp_tg_eq hW.2.2, sX1_isThere (show 1 ≤ d by omega) h, sX1_elementOf (show 1 ≤ d by omega), sX1_isExpressionKind (show 1 ≤ d by omega), mj_rI_k, sp_b0, mj_gb_b, h.2.2.1, h.2.2.2.2.2.1, sX1_isCall (show 4 ≤ d by omega) h hM hW, hM.2.2.1]
  obtain ⟨d, rfl⟩ : ∃ c, d = c + 1 := ⟨d - 1, by omega⟩
  simp only [tX1_a80 (show 4 ≤ d by omega) h hW, mj_rI_k, sp_b0, mj_gb_b]
  have hg : ∀ (k q : Int32) r, sp_fk nt (sp_fr nt N) k q = true → mj_g k 4000 r = r := fun k q r hq => mj_g_k (sp_nd_in hN (sp_fk_nd hq) (Nat.le_refl _)) r
  have hv : ∀ (k : Int32) r, ¬ sp_val nt (sp_fr nt N) k = 0 → mj_g k 4000 r = r := fun k r hq => mj_g_k (sp_nd_in hN (sp_val_nd hq) (Nat.le_refl _)) r
  have ht : ∀ (k : Int32) r, ¬ sp_tg nt (sp_fr nt N) k = 0 → mj_g k 4000 r = r := fun k r hq => mj_g_k (sp_nd_in hN (sp_tg_nd hq) (Nat.le_refl _)) r
  have hw : ∀ (k : Int32) r, sp_nd N k = true → mj_g k 4000 r = r := fun k r hq => mj_g_k (sp_nd_in hN hq (Nat.le_refl _)) r
  have f1 := sp_val_rng hW.2.2 a
  have f2 := sp_val_rng hW.2.2 b
  have f3 : ∀ k q, sp_fk nt (sp_fr nt N) k q = true → sp_E q = false → sp_val nt (sp_fr nt N) k = 0 := fun k q => sp_val_fk
  have f4 : ∀ k, ¬ sp_val nt (sp_fr nt N) k = 0 → nt 3 k.toNatClampNeg = sp_val nt (sp_fr nt N) k := fun k => sp_val_v
  have f5 : sp_val nt (sp_fr nt N) (-1) = 0 := sp_val_m1
  have f6 : ∀ k, ¬ sp_tg nt (sp_fr nt N) k = 0 → nt 3 k.toNatClampNeg = sp_tg nt (sp_fr nt N) k ∧ sp_tg nt (sp_fr nt N) k = sp_val nt (sp_fr nt N) k := fun k => sp_tg_v hW.2.2
  have f9 := sp_tg_4 hW.2.2 a
  have g2 := sp_E_eq hW.2.2 a
  have g1 : ∀ k q r, sp_fk nt (sp_fr nt N) k q = true → sp_fk nt (sp_fr nt N) k r = true → q = r := fun k q r => sp_fk_2
  have f7 : ∀ k, sp_nd N k = true → 0 ≤ nt 3 k.toNatClampNeg := fun k hk => (hW.2.2 k hk).1
  have f8 : ∀ k q, sp_fk nt (sp_fr nt N) k q = true → sp_nd N k = true := fun k q => sp_fk_nd
  have e5 : sp_E 5 = false := rfl
  have e49 : sp_E 49 = false := rfl
  have e33 : sp_E 33 = false := rfl
  have hc : ∀ (g m : Int32) r, sp_call nt (sp_fr nt N) M par m g = true → mj_g m 40 r = r := fun g m r hq => mj_g_k (sp_call_in hM.2.1 hq) r
  have hc2 : ∀ (m g : Int32), sp_call nt (sp_fr nt N) M par m g = true → 0 ≤ res m.toNatClampNeg := fun m g hq => by
    unfold sp_call at hq
    simp only [Bool.and_eq_true] at hq
    obtain ⟨q1, q2⟩ := (sp_nd_iff (by have := hM.2.1; omega) m).mp hq.1.1
    exact hR _ (by show m.toInt.toNat < M; omega)
  simp only [sp_ty]
  simp <;> grind [sp_b, sp_isv, sp_i, sp_bin, sp_el, sp_ao]
theorem tX1_r81 {d : Nat} (hd : 5 ≤ d) {y : mj_X} {nt : sp_NT} {N M : Nat} {res par : Nat → Int32} (h : md_T y nt N) (hM : md_M y M res par) (hW : sp_W nt N M par) (hR : ∀ m, m < M → 0 ≤ res m) (a b : Int32) : kX1 (d + 1) 5 [.ref 0, .int 81, .int a, .int b] y = some (some (.int (sp_b (!decide (sp_ty nt (sp_nd N) (sp_fr nt N) M res par 81 a b = -1)))), y) := by
  have hN := h.2.1
  have e0 : kX1 (d + 1) 5 [.ref 0, .int 81, .int a, .int b] y = rX1_isRight d (239, [some (.ref 0), some (.int 81), some (.int a), some (.int b), none, none], [], y) := by simp [eX1_isRight, bX1_isRight_12, bX1_isRight_59, bX1_isRight_106, bX1_isRight_148]
  rw [e0]
  rw [wX1_isRight_239_81 _ _ _ _ _ rfl]
  simp only [bX1_isRight_1134, sX1_isFree (show 2 ≤ d by omega) h, sX1_isA (show 3 ≤ d by omega) h, sX1_isOf (show 4 ≤ d by omega) h, sX1_isStatement (show 3 ≤ d by omega) h, sX1_isExpression (show 3 ≤ d by omega) h, sX1_isBetween (show 4 ≤ d by omega) h, sX1_isTarget (show 4 ≤ d by omega) h, sp_tg_eq hW.2.2, sX1_isThere (show 1 ≤ d by omega) h, sX1_elementOf (show 1 ≤ d by omega), sX1_isExpressionKind (show 1 ≤ d by omega), mj_rI_k, sp_b0, mj_gb_b, h.2.2.1, h.2.2.2.2.2.1, sX1_isCall (show 4 ≤ d by omega) h hM hW, hM.2.2.1]
  obtain ⟨d, rfl⟩ : ∃ c, d = c + 1 := ⟨d - 1, by omega⟩
  simp only [tX1_a81 (show 4 ≤ d by omega) h hW, mj_rI_k, sp_b0, mj_gb_b]
  have hg : ∀ (k q : Int32) r, sp_fk nt (sp_fr nt N) k q = true → mj_g k 4000 r = r := fun k q r hq => mj_g_k (sp_nd_in hN (sp_fk_nd hq) (Nat.le_refl _)) r
  have hv : ∀ (k : Int32) r, ¬ sp_val nt (sp_fr nt N) k = 0 → mj_g k 4000 r = r := fun k r hq => mj_g_k (sp_nd_in hN (sp_val_nd hq) (Nat.le_refl _)) r
  have ht : ∀ (k : Int32) r, ¬ sp_tg nt (sp_fr nt N) k = 0 → mj_g k 4000 r = r := fun k r hq => mj_g_k (sp_nd_in hN (sp_tg_nd hq) (Nat.le_refl _)) r
  have hw : ∀ (k : Int32) r, sp_nd N k = true → mj_g k 4000 r = r := fun k r hq => mj_g_k (sp_nd_in hN hq (Nat.le_refl _)) r
  have f1 := sp_val_rng hW.2.2 a
  have f2 := sp_val_rng hW.2.2 b
  have f3 : ∀ k q, sp_fk nt (sp_fr nt N) k q = true → sp_E q = false → sp_val nt (sp_fr nt N) k = 0 := fun k q => sp_val_fk
  have f4 : ∀ k, ¬ sp_val nt (sp_fr nt N) k = 0 → nt 3 k.toNatClampNeg = sp_val nt (sp_fr nt N) k := fun k => sp_val_v
  have f5 : sp_val nt (sp_fr nt N) (-1) = 0 := sp_val_m1
  have f6 : ∀ k, ¬ sp_tg nt (sp_fr nt N) k = 0 → nt 3 k.toNatClampNeg = sp_tg nt (sp_fr nt N) k ∧ sp_tg nt (sp_fr nt N) k = sp_val nt (sp_fr nt N) k := fun k => sp_tg_v hW.2.2
  have f9 := sp_tg_4 hW.2.2 a
  have g2 := sp_E_eq hW.2.2 a
  have g1 : ∀ k q r, sp_fk nt (sp_fr nt N) k q = true → sp_fk nt (sp_fr nt N) k r = true → q = r := fun k q r => sp_fk_2
  have f7 : ∀ k, sp_nd N k = true → 0 ≤ nt 3 k.toNatClampNeg := fun k hk => (hW.2.2 k hk).1
  have f8 : ∀ k q, sp_fk nt (sp_fr nt N) k q = true → sp_nd N k = true := fun k q => sp_fk_nd
  have e5 : sp_E 5 = false := rfl
  have e49 : sp_E 49 = false := rfl
  have e33 : sp_E 33 = false := rfl
  have hc : ∀ (g m : Int32) r, sp_call nt (sp_fr nt N) M par m g = true → mj_g m 40 r = r := fun g m r hq => mj_g_k (sp_call_in hM.2.1 hq) r
  have hc2 : ∀ (m g : Int32), sp_call nt (sp_fr nt N) M par m g = true → 0 ≤ res m.toNatClampNeg := fun m g hq => by
    unfold sp_call at hq
    simp only [Bool.and_eq_true] at hq
    obtain ⟨q1, q2⟩ := (sp_nd_iff (by have := hM.2.1; omega) m).mp hq.1.1
    exact hR _ (by show m.toInt.toNat < M; omega)
  simp only [sp_ty]
  simp <;> grind [sp_b, sp_isv, sp_i, sp_bin, sp_el, sp_ao]
theorem tX1_r82 {d : Nat} (hd : 5 ≤ d) {y : mj_X} {nt : sp_NT} {N M : Nat} {res par : Nat → Int32} (h : md_T y nt N) (hM : md_M y M res par) (hW : sp_W nt N M par) (hR : ∀ m, m < M → 0 ≤ res m) (a b : Int32) : kX1 (d + 1) 5 [.ref 0, .int 82, .int a, .int b] y = some (some (.int (sp_b (!decide (sp_ty nt (sp_nd N) (sp_fr nt N) M res par 82 a b = -1)))), y) := by
  have hN := h.2.1
  have e0 : kX1 (d + 1) 5 [.ref 0, .int 82, .int a, .int b] y = rX1_isRight d (239, [some (.ref 0), some (.int 82), some (.int a), some (.int b), none, none], [], y) := by simp [eX1_isRight, bX1_isRight_12, bX1_isRight_59, bX1_isRight_106, bX1_isRight_148]
  rw [e0]
  rw [wX1_isRight_239_82 _ _ _ _ _ rfl]
  simp only [bX1_isRight_1134, sX1_isFree (show 2 ≤ d by omega) h, sX1_isA (show 3 ≤ d by omega) h, sX1_isOf (show 4 ≤ d by omega) h, sX1_isStatement (show 3 ≤ d by omega) h, sX1_isExpression (show 3 ≤ d by omega) h, sX1_isBetween (show 4 ≤ d by omega) h, sX1_isTarget (show 4 ≤ d by omega) h, sp_tg_eq hW.2.2, sX1_isThere (show 1 ≤ d by omega) h, sX1_elementOf (show 1 ≤ d by omega), sX1_isExpressionKind (show 1 ≤ d by omega), mj_rI_k, sp_b0, mj_gb_b, h.2.2.1, h.2.2.2.2.2.1, sX1_isCall (show 4 ≤ d by omega) h hM hW, hM.2.2.1]
  obtain ⟨d, rfl⟩ : ∃ c, d = c + 1 := ⟨d - 1, by omega⟩
  simp only [tX1_a82 (show 4 ≤ d by omega) h hW, mj_rI_k, sp_b0, mj_gb_b]
  have hg : ∀ (k q : Int32) r, sp_fk nt (sp_fr nt N) k q = true → mj_g k 4000 r = r := fun k q r hq => mj_g_k (sp_nd_in hN (sp_fk_nd hq) (Nat.le_refl _)) r
  have hv : ∀ (k : Int32) r, ¬ sp_val nt (sp_fr nt N) k = 0 → mj_g k 4000 r = r := fun k r hq => mj_g_k (sp_nd_in hN (sp_val_nd hq) (Nat.le_refl _)) r
  have ht : ∀ (k : Int32) r, ¬ sp_tg nt (sp_fr nt N) k = 0 → mj_g k 4000 r = r := fun k r hq => mj_g_k (sp_nd_in hN (sp_tg_nd hq) (Nat.le_refl _)) r
  have hw : ∀ (k : Int32) r, sp_nd N k = true → mj_g k 4000 r = r := fun k r hq => mj_g_k (sp_nd_in hN hq (Nat.le_refl _)) r
  have f1 := sp_val_rng hW.2.2 a
  have f2 := sp_val_rng hW.2.2 b
  have f3 : ∀ k q, sp_fk nt (sp_fr nt N) k q = true → sp_E q = false → sp_val nt (sp_fr nt N) k = 0 := fun k q => sp_val_fk
  have f4 : ∀ k, ¬ sp_val nt (sp_fr nt N) k = 0 → nt 3 k.toNatClampNeg = sp_val nt (sp_fr nt N) k := fun k => sp_val_v
  have f5 : sp_val nt (sp_fr nt N) (-1) = 0 := sp_val_m1
  have f6 : ∀ k, ¬ sp_tg nt (sp_fr nt N) k = 0 → nt 3 k.toNatClampNeg = sp_tg nt (sp_fr nt N) k ∧ sp_tg nt (sp_fr nt N) k = sp_val nt (sp_fr nt N) k := fun k => sp_tg_v hW.2.2
  have f9 := sp_tg_4 hW.2.2 a
  have g2 := sp_E_eq hW.2.2 a
  have g1 : ∀ k q r, sp_fk nt (sp_fr nt N) k q = true → sp_fk nt (sp_fr nt N) k r = true → q = r := fun k q r => sp_fk_2
  have f7 : ∀ k, sp_nd N k = true → 0 ≤ nt 3 k.toNatClampNeg := fun k hk => (hW.2.2 k hk).1
  have f8 : ∀ k q, sp_fk nt (sp_fr nt N) k q = true → sp_nd N k = true := fun k q => sp_fk_nd
  have e5 : sp_E 5 = false := rfl
  have e49 : sp_E 49 = false := rfl
  have e33 : sp_E 33 = false := rfl
  have hc : ∀ (g m : Int32) r, sp_call nt (sp_fr nt N) M par m g = true → mj_g m 40 r = r := fun g m r hq => mj_g_k (sp_call_in hM.2.1 hq) r
  have hc2 : ∀ (m g : Int32), sp_call nt (sp_fr nt N) M par m g = true → 0 ≤ res m.toNatClampNeg := fun m g hq => by
    unfold sp_call at hq
    simp only [Bool.and_eq_true] at hq
    obtain ⟨q1, q2⟩ := (sp_nd_iff (by have := hM.2.1; omega) m).mp hq.1.1
    exact hR _ (by show m.toInt.toNat < M; omega)
  simp only [sp_ty]
  simp <;> grind [sp_b, sp_isv, sp_i, sp_bin, sp_el, sp_ao]
theorem tX1_r83 {d : Nat} (hd : 5 ≤ d) {y : mj_X} {nt : sp_NT} {N M : Nat} {res par : Nat → Int32} (h : md_T y nt N) (hM : md_M y M res par) (hW : sp_W nt N M par) (hR : ∀ m, m < M → 0 ≤ res m) (a b : Int32) : kX1 (d + 1) 5 [.ref 0, .int 83, .int a, .int b] y = some (some (.int (sp_b (!decide (sp_ty nt (sp_nd N) (sp_fr nt N) M res par 83 a b = -1)))), y) := by
  have hN := h.2.1
  have e0 : kX1 (d + 1) 5 [.ref 0, .int 83, .int a, .int b] y = rX1_isRight d (239, [some (.ref 0), some (.int 83), some (.int a), some (.int b), none, none], [], y) := by simp [eX1_isRight, bX1_isRight_12, bX1_isRight_59, bX1_isRight_106, bX1_isRight_148]
  rw [e0]
  rw [wX1_isRight_239_83 _ _ _ _ _ rfl]
  simp only [bX1_isRight_1134, sX1_isFree (show 2 ≤ d by omega) h, sX1_isA (show 3 ≤ d by omega) h, sX1_isOf (show 4 ≤ d by omega) h, sX1_isStatement (show 3 ≤ d by omega) h, sX1_isExpression (show 3 ≤ d by omega) h, sX1_isBetween (show 4 ≤ d by omega) h, sX1_isTarget (show 4 ≤ d by omega) h, sp_tg_eq hW.2.2, sX1_isThere (show 1 ≤ d by omega) h, sX1_elementOf (show 1 ≤ d by omega), sX1_isExpressionKind (show 1 ≤ d by omega), mj_rI_k, sp_b0, mj_gb_b, h.2.2.1, h.2.2.2.2.2.1, sX1_isCall (show 4 ≤ d by omega) h hM hW, hM.2.2.1]
  obtain ⟨d, rfl⟩ : ∃ c, d = c + 1 := ⟨d - 1, by omega⟩
  simp only [tX1_a83 (show 4 ≤ d by omega) h hW, mj_rI_k, sp_b0, mj_gb_b]
  have hg : ∀ (k q : Int32) r, sp_fk nt (sp_fr nt N) k q = true → mj_g k 4000 r = r := fun k q r hq => mj_g_k (sp_nd_in hN (sp_fk_nd hq) (Nat.le_refl _)) r
  have hv : ∀ (k : Int32) r, ¬ sp_val nt (sp_fr nt N) k = 0 → mj_g k 4000 r = r := fun k r hq => mj_g_k (sp_nd_in hN (sp_val_nd hq) (Nat.le_refl _)) r
  have ht : ∀ (k : Int32) r, ¬ sp_tg nt (sp_fr nt N) k = 0 → mj_g k 4000 r = r := fun k r hq => mj_g_k (sp_nd_in hN (sp_tg_nd hq) (Nat.le_refl _)) r
  have hw : ∀ (k : Int32) r, sp_nd N k = true → mj_g k 4000 r = r := fun k r hq => mj_g_k (sp_nd_in hN hq (Nat.le_refl _)) r
  have f1 := sp_val_rng hW.2.2 a
  have f2 := sp_val_rng hW.2.2 b
  have f3 : ∀ k q, sp_fk nt (sp_fr nt N) k q = true → sp_E q = false → sp_val nt (sp_fr nt N) k = 0 := fun k q => sp_val_fk
  have f4 : ∀ k, ¬ sp_val nt (sp_fr nt N) k = 0 → nt 3 k.toNatClampNeg = sp_val nt (sp_fr nt N) k := fun k => sp_val_v
  have f5 : sp_val nt (sp_fr nt N) (-1) = 0 := sp_val_m1
  have f6 : ∀ k, ¬ sp_tg nt (sp_fr nt N) k = 0 → nt 3 k.toNatClampNeg = sp_tg nt (sp_fr nt N) k ∧ sp_tg nt (sp_fr nt N) k = sp_val nt (sp_fr nt N) k := fun k => sp_tg_v hW.2.2
  have f9 := sp_tg_4 hW.2.2 a
  have g2 := sp_E_eq hW.2.2 a
  have g1 : ∀ k q r, sp_fk nt (sp_fr nt N) k q = true → sp_fk nt (sp_fr nt N) k r = true → q = r := fun k q r => sp_fk_2
  have f7 : ∀ k, sp_nd N k = true → 0 ≤ nt 3 k.toNatClampNeg := fun k hk => (hW.2.2 k hk).1
  have f8 : ∀ k q, sp_fk nt (sp_fr nt N) k q = true → sp_nd N k = true := fun k q => sp_fk_nd
  have e5 : sp_E 5 = false := rfl
  have e49 : sp_E 49 = false := rfl
  have e33 : sp_E 33 = false := rfl
  have hc : ∀ (g m : Int32) r, sp_call nt (sp_fr nt N) M par m g = true → mj_g m 40 r = r := fun g m r hq => mj_g_k (sp_call_in hM.2.1 hq) r
  have hc2 : ∀ (m g : Int32), sp_call nt (sp_fr nt N) M par m g = true → 0 ≤ res m.toNatClampNeg := fun m g hq => by
    unfold sp_call at hq
    simp only [Bool.and_eq_true] at hq
    obtain ⟨q1, q2⟩ := (sp_nd_iff (by have := hM.2.1; omega) m).mp hq.1.1
    exact hR _ (by show m.toInt.toNat < M; omega)
  simp only [sp_ty]
  simp <;> grind [sp_b, sp_isv, sp_i, sp_bin, sp_el, sp_ao]
theorem tX1_r84 {d : Nat} (hd : 5 ≤ d) {y : mj_X} {nt : sp_NT} {N M : Nat} {res par : Nat → Int32} (h : md_T y nt N) (hM : md_M y M res par) (hW : sp_W nt N M par) (hR : ∀ m, m < M → 0 ≤ res m) (a b : Int32) : kX1 (d + 1) 5 [.ref 0, .int 84, .int a, .int b] y = some (some (.int (sp_b (!decide (sp_ty nt (sp_nd N) (sp_fr nt N) M res par 84 a b = -1)))), y) := by
  have hN := h.2.1
  have e0 : kX1 (d + 1) 5 [.ref 0, .int 84, .int a, .int b] y = rX1_isRight d (239, [some (.ref 0), some (.int 84), some (.int a), some (.int b), none, none], [], y) := by simp [eX1_isRight, bX1_isRight_12, bX1_isRight_59, bX1_isRight_106, bX1_isRight_148]
  rw [e0]
  rw [wX1_isRight_239_84 _ _ _ _ _ rfl]
  simp only [bX1_isRight_1134, sX1_isFree (show 2 ≤ d by omega) h, sX1_isA (show 3 ≤ d by omega) h, sX1_isOf (show 4 ≤ d by omega) h, sX1_isStatement (show 3 ≤ d by omega) h, sX1_isExpression (show 3 ≤ d by omega) h, sX1_isBetween (show 4 ≤ d by omega) h, sX1_isTarget (show 4 ≤ d by omega) h, sp_tg_eq hW.2.2, sX1_isThere (show 1 ≤ d by omega) h, sX1_elementOf (show 1 ≤ d by omega), sX1_isExpressionKind (show 1 ≤ d by omega), mj_rI_k, sp_b0, mj_gb_b, h.2.2.1, h.2.2.2.2.2.1, sX1_isCall (show 4 ≤ d by omega) h hM hW, hM.2.2.1]
  obtain ⟨d, rfl⟩ : ∃ c, d = c + 1 := ⟨d - 1, by omega⟩
  simp only [tX1_a84 (show 4 ≤ d by omega) h hW, mj_rI_k, sp_b0, mj_gb_b]
  have hg : ∀ (k q : Int32) r, sp_fk nt (sp_fr nt N) k q = true → mj_g k 4000 r = r := fun k q r hq => mj_g_k (sp_nd_in hN (sp_fk_nd hq) (Nat.le_refl _)) r
  have hv : ∀ (k : Int32) r, ¬ sp_val nt (sp_fr nt N) k = 0 → mj_g k 4000 r = r := fun k r hq => mj_g_k (sp_nd_in hN (sp_val_nd hq) (Nat.le_refl _)) r
  have ht : ∀ (k : Int32) r, ¬ sp_tg nt (sp_fr nt N) k = 0 → mj_g k 4000 r = r := fun k r hq => mj_g_k (sp_nd_in hN (sp_tg_nd hq) (Nat.le_refl _)) r
  have hw : ∀ (k : Int32) r, sp_nd N k = true → mj_g k 4000 r = r := fun k r hq => mj_g_k (sp_nd_in hN hq (Nat.le_refl _)) r
  have f1 := sp_val_rng hW.2.2 a
  have f2 := sp_val_rng hW.2.2 b
  have f3 : ∀ k q, sp_fk nt (sp_fr nt N) k q = true → sp_E q = false → sp_val nt (sp_fr nt N) k = 0 := fun k q => sp_val_fk
  have f4 : ∀ k, ¬ sp_val nt (sp_fr nt N) k = 0 → nt 3 k.toNatClampNeg = sp_val nt (sp_fr nt N) k := fun k => sp_val_v
  have f5 : sp_val nt (sp_fr nt N) (-1) = 0 := sp_val_m1
  have f6 : ∀ k, ¬ sp_tg nt (sp_fr nt N) k = 0 → nt 3 k.toNatClampNeg = sp_tg nt (sp_fr nt N) k ∧ sp_tg nt (sp_fr nt N) k = sp_val nt (sp_fr nt N) k := fun k => sp_tg_v hW.2.2
  have f9 := sp_tg_4 hW.2.2 a
  have g2 := sp_E_eq hW.2.2 a
  have g1 : ∀ k q r, sp_fk nt (sp_fr nt N) k q = true → sp_fk nt (sp_fr nt N) k r = true → q = r := fun k q r => sp_fk_2
  have f7 : ∀ k, sp_nd N k = true → 0 ≤ nt 3 k.toNatClampNeg := fun k hk => (hW.2.2 k hk).1
  have f8 : ∀ k q, sp_fk nt (sp_fr nt N) k q = true → sp_nd N k = true := fun k q => sp_fk_nd
  have e5 : sp_E 5 = false := rfl
  have e49 : sp_E 49 = false := rfl
  have e33 : sp_E 33 = false := rfl
  have hc : ∀ (g m : Int32) r, sp_call nt (sp_fr nt N) M par m g = true → mj_g m 40 r = r := fun g m r hq => mj_g_k (sp_call_in hM.2.1 hq) r
  have hc2 : ∀ (m g : Int32), sp_call nt (sp_fr nt N) M par m g = true → 0 ≤ res m.toNatClampNeg := fun m g hq => by
    unfold sp_call at hq
    simp only [Bool.and_eq_true] at hq
    obtain ⟨q1, q2⟩ := (sp_nd_iff (by have := hM.2.1; omega) m).mp hq.1.1
    exact hR _ (by show m.toInt.toNat < M; omega)
  simp only [sp_ty]
  simp <;> grind [sp_b, sp_isv, sp_i, sp_bin, sp_el, sp_ao]
theorem tX1_r85 {d : Nat} (hd : 5 ≤ d) {y : mj_X} {nt : sp_NT} {N M : Nat} {res par : Nat → Int32} (h : md_T y nt N) (hM : md_M y M res par) (hW : sp_W nt N M par) (hR : ∀ m, m < M → 0 ≤ res m) (a b : Int32) : kX1 (d + 1) 5 [.ref 0, .int 85, .int a, .int b] y = some (some (.int (sp_b (!decide (sp_ty nt (sp_nd N) (sp_fr nt N) M res par 85 a b = -1)))), y) := by
  have hN := h.2.1
  have e0 : kX1 (d + 1) 5 [.ref 0, .int 85, .int a, .int b] y = rX1_isRight d (239, [some (.ref 0), some (.int 85), some (.int a), some (.int b), none, none], [], y) := by simp [eX1_isRight, bX1_isRight_12, bX1_isRight_59, bX1_isRight_106, bX1_isRight_148]
  rw [e0]
  rw [wX1_isRight_239_85 _ _ _ _ _ rfl]
  simp only [bX1_isRight_1134, sX1_isFree (show 2 ≤ d by omega) h, sX1_isA (show 3 ≤ d by omega) h, sX1_isOf (show 4 ≤ d by omega) h, sX1_isStatement (show 3 ≤ d by omega) h, sX1_isExpression (show 3 ≤ d by omega) h, sX1_isBetween (show 4 ≤ d by omega) h, sX1_isTarget (show 4 ≤ d by omega) h, sp_tg_eq hW.2.2, sX1_isThere (show 1 ≤ d by omega) h, sX1_elementOf (show 1 ≤ d by omega), sX1_isExpressionKind (show 1 ≤ d by omega), mj_rI_k, sp_b0, mj_gb_b, h.2.2.1, h.2.2.2.2.2.1, sX1_isCall (show 4 ≤ d by omega) h hM hW, hM.2.2.1]
  obtain ⟨d, rfl⟩ : ∃ c, d = c + 1 := ⟨d - 1, by omega⟩
  simp only [tX1_a85 (show 4 ≤ d by omega) h hW, mj_rI_k, sp_b0, mj_gb_b]
  have hg : ∀ (k q : Int32) r, sp_fk nt (sp_fr nt N) k q = true → mj_g k 4000 r = r := fun k q r hq => mj_g_k (sp_nd_in hN (sp_fk_nd hq) (Nat.le_refl _)) r
  have hv : ∀ (k : Int32) r, ¬ sp_val nt (sp_fr nt N) k = 0 → mj_g k 4000 r = r := fun k r hq => mj_g_k (sp_nd_in hN (sp_val_nd hq) (Nat.le_refl _)) r
  have ht : ∀ (k : Int32) r, ¬ sp_tg nt (sp_fr nt N) k = 0 → mj_g k 4000 r = r := fun k r hq => mj_g_k (sp_nd_in hN (sp_tg_nd hq) (Nat.le_refl _)) r
  have hw : ∀ (k : Int32) r, sp_nd N k = true → mj_g k 4000 r = r := fun k r hq => mj_g_k (sp_nd_in hN hq (Nat.le_refl _)) r
  have f1 := sp_val_rng hW.2.2 a
  have f2 := sp_val_rng hW.2.2 b
  have f3 : ∀ k q, sp_fk nt (sp_fr nt N) k q = true → sp_E q = false → sp_val nt (sp_fr nt N) k = 0 := fun k q => sp_val_fk
  have f4 : ∀ k, ¬ sp_val nt (sp_fr nt N) k = 0 → nt 3 k.toNatClampNeg = sp_val nt (sp_fr nt N) k := fun k => sp_val_v
  have f5 : sp_val nt (sp_fr nt N) (-1) = 0 := sp_val_m1
  have f6 : ∀ k, ¬ sp_tg nt (sp_fr nt N) k = 0 → nt 3 k.toNatClampNeg = sp_tg nt (sp_fr nt N) k ∧ sp_tg nt (sp_fr nt N) k = sp_val nt (sp_fr nt N) k := fun k => sp_tg_v hW.2.2
  have f9 := sp_tg_4 hW.2.2 a
  have g2 := sp_E_eq hW.2.2 a
  have g1 : ∀ k q r, sp_fk nt (sp_fr nt N) k q = true → sp_fk nt (sp_fr nt N) k r = true → q = r := fun k q r => sp_fk_2
  have f7 : ∀ k, sp_nd N k = true → 0 ≤ nt 3 k.toNatClampNeg := fun k hk => (hW.2.2 k hk).1
  have f8 : ∀ k q, sp_fk nt (sp_fr nt N) k q = true → sp_nd N k = true := fun k q => sp_fk_nd
  have e5 : sp_E 5 = false := rfl
  have e49 : sp_E 49 = false := rfl
  have e33 : sp_E 33 = false := rfl
  have hc : ∀ (g m : Int32) r, sp_call nt (sp_fr nt N) M par m g = true → mj_g m 40 r = r := fun g m r hq => mj_g_k (sp_call_in hM.2.1 hq) r
  have hc2 : ∀ (m g : Int32), sp_call nt (sp_fr nt N) M par m g = true → 0 ≤ res m.toNatClampNeg := fun m g hq => by
    unfold sp_call at hq
    simp only [Bool.and_eq_true] at hq
    obtain ⟨q1, q2⟩ := (sp_nd_iff (by have := hM.2.1; omega) m).mp hq.1.1
    exact hR _ (by show m.toInt.toNat < M; omega)
  simp only [sp_ty]
  simp <;> grind [sp_b, sp_isv, sp_i, sp_bin, sp_el, sp_ao]
theorem tX1_r86 {d : Nat} (hd : 5 ≤ d) {y : mj_X} {nt : sp_NT} {N M : Nat} {res par : Nat → Int32} (h : md_T y nt N) (hM : md_M y M res par) (hW : sp_W nt N M par) (hR : ∀ m, m < M → 0 ≤ res m) (a b : Int32) : kX1 (d + 1) 5 [.ref 0, .int 86, .int a, .int b] y = some (some (.int (sp_b (!decide (sp_ty nt (sp_nd N) (sp_fr nt N) M res par 86 a b = -1)))), y) := by
  have hN := h.2.1
  have e0 : kX1 (d + 1) 5 [.ref 0, .int 86, .int a, .int b] y = rX1_isRight d (239, [some (.ref 0), some (.int 86), some (.int a), some (.int b), none, none], [], y) := by simp [eX1_isRight, bX1_isRight_12, bX1_isRight_59, bX1_isRight_106, bX1_isRight_148]
  rw [e0]
  rw [wX1_isRight_239_86 _ _ _ _ _ rfl]
  simp only [bX1_isRight_635, sX1_isFree (show 2 ≤ d by omega) h, sX1_isA (show 3 ≤ d by omega) h, sX1_isOf (show 4 ≤ d by omega) h, sX1_isStatement (show 3 ≤ d by omega) h, sX1_isExpression (show 3 ≤ d by omega) h, sX1_isBetween (show 4 ≤ d by omega) h, sX1_isTarget (show 4 ≤ d by omega) h, sp_tg_eq hW.2.2, sX1_isThere (show 1 ≤ d by omega) h, sX1_elementOf (show 1 ≤ d by omega), sX1_isExpressionKind (show 1 ≤ d by omega), mj_rI_k, sp_b0, mj_gb_b, h.2.2.1, h.2.2.2.2.2.1, sX1_isCall (show 4 ≤ d by omega) h hM hW, hM.2.2.1]
  have hg : ∀ (k q : Int32) r, sp_fk nt (sp_fr nt N) k q = true → mj_g k 4000 r = r := fun k q r hq => mj_g_k (sp_nd_in hN (sp_fk_nd hq) (Nat.le_refl _)) r
  have hv : ∀ (k : Int32) r, ¬ sp_val nt (sp_fr nt N) k = 0 → mj_g k 4000 r = r := fun k r hq => mj_g_k (sp_nd_in hN (sp_val_nd hq) (Nat.le_refl _)) r
  have ht : ∀ (k : Int32) r, ¬ sp_tg nt (sp_fr nt N) k = 0 → mj_g k 4000 r = r := fun k r hq => mj_g_k (sp_nd_in hN (sp_tg_nd hq) (Nat.le_refl _)) r
  have hw : ∀ (k : Int32) r, sp_nd N k = true → mj_g k 4000 r = r := fun k r hq => mj_g_k (sp_nd_in hN hq (Nat.le_refl _)) r
  have f1 := sp_val_rng hW.2.2 a
  have f2 := sp_val_rng hW.2.2 b
  have f3 : ∀ k q, sp_fk nt (sp_fr nt N) k q = true → sp_E q = false → sp_val nt (sp_fr nt N) k = 0 := fun k q => sp_val_fk
  have f4 : ∀ k, ¬ sp_val nt (sp_fr nt N) k = 0 → nt 3 k.toNatClampNeg = sp_val nt (sp_fr nt N) k := fun k => sp_val_v
  have f5 : sp_val nt (sp_fr nt N) (-1) = 0 := sp_val_m1
  have f6 : ∀ k, ¬ sp_tg nt (sp_fr nt N) k = 0 → nt 3 k.toNatClampNeg = sp_tg nt (sp_fr nt N) k ∧ sp_tg nt (sp_fr nt N) k = sp_val nt (sp_fr nt N) k := fun k => sp_tg_v hW.2.2
  have f9 := sp_tg_4 hW.2.2 a
  have g2 := sp_E_eq hW.2.2 a
  have g1 : ∀ k q r, sp_fk nt (sp_fr nt N) k q = true → sp_fk nt (sp_fr nt N) k r = true → q = r := fun k q r => sp_fk_2
  have f7 : ∀ k, sp_nd N k = true → 0 ≤ nt 3 k.toNatClampNeg := fun k hk => (hW.2.2 k hk).1
  have f8 : ∀ k q, sp_fk nt (sp_fr nt N) k q = true → sp_nd N k = true := fun k q => sp_fk_nd
  have e5 : sp_E 5 = false := rfl
  have e49 : sp_E 49 = false := rfl
  have e33 : sp_E 33 = false := rfl
  have hc : ∀ (g m : Int32) r, sp_call nt (sp_fr nt N) M par m g = true → mj_g m 40 r = r := fun g m r hq => mj_g_k (sp_call_in hM.2.1 hq) r
  have hc2 : ∀ (m g : Int32), sp_call nt (sp_fr nt N) M par m g = true → 0 ≤ res m.toNatClampNeg := fun m g hq => by
    unfold sp_call at hq
    simp only [Bool.and_eq_true] at hq
    obtain ⟨q1, q2⟩ := (sp_nd_iff (by have := hM.2.1; omega) m).mp hq.1.1
    exact hR _ (by show m.toInt.toNat < M; omega)
  simp only [sp_ty]
  simp <;> grind [sp_b, sp_isv, sp_i, sp_bin, sp_el, sp_ao]
