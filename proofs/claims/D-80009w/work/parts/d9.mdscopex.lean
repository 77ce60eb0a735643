/-! CodeWriterModel.isScoped on expressions -/
theorem sp_E_Ex {k : Int32} (h : sp_E k = true) : sp_Ex k = true := by
  unfold sp_E at h; unfold sp_Ex
  simp only [sp_i, Bool.or_eq_true, Bool.and_eq_true, decide_eq_true_eq, Int32.le_iff_toInt_le, ← Int32.toInt_inj] at h ⊢
  have e1 : (1 : Int32).toInt = 1 := by decide
  have e2 : (4 : Int32).toInt = 4 := by decide
  have e3 : (6 : Int32).toInt = 6 := by decide
  have e4 : (32 : Int32).toInt = 32 := by decide
  have e5 : (34 : Int32).toInt = 34 := by decide
  have e6 : (48 : Int32).toInt = 48 := by decide
  have e7 : (49 : Int32).toInt = 49 := by decide
  omega
theorem sp_Ex_in (k : Int32) (h : sp_Ex k = true) : k ∈ ([1, 2, 3, 4, 6, 7, 8, 9, 10, 11, 12, 13, 14, 15, 16, 17, 18, 19, 20, 21, 22, 23, 24, 25, 26, 27, 28, 29, 30, 31, 32, 33, 34, 35, 36, 37, 38, 39, 40, 41, 42, 43, 44, 45, 46, 47, 48, 49, 51] : List Int32) := by
  have hk : 1 ≤ k.toInt ∧ k.toInt < 52 ∧ ¬ k.toInt = 5 ∧ ¬ k.toInt = 50 := by
    unfold sp_Ex at h
    simp only [sp_i, Bool.or_eq_true, Bool.and_eq_true, decide_eq_true_eq, Int32.le_iff_toInt_le, ← Int32.toInt_inj] at h
    have e1 : (1 : Int32).toInt = 1 := by decide
    have e2 : (4 : Int32).toInt = 4 := by decide
    have e3 : (6 : Int32).toInt = 6 := by decide
    have e7 : (49 : Int32).toInt = 49 := by decide
    have e8 : (51 : Int32).toInt = 51 := by decide
    omega
  obtain ⟨j, hj⟩ : ∃ j : Nat, k.toInt = j := ⟨k.toInt.toNat, by omega⟩
  have e : k = Int32.ofInt j := by rw [← hj, Int32.ofInt_toInt]
  rw [hj] at hk
  have : j = 1 ∨ j = 2 ∨ j = 3 ∨ j = 4 ∨ j = 6 ∨ j = 7 ∨ j = 8 ∨ j = 9 ∨ j = 10 ∨ j = 11 ∨ j = 12 ∨ j = 13 ∨ j = 14 ∨ j = 15 ∨ j = 16 ∨ j = 17 ∨ j = 18 ∨ j = 19 ∨ j = 20 ∨ j = 21 ∨ j = 22 ∨ j = 23 ∨ j = 24 ∨ j = 25 ∨ j = 26 ∨ j = 27 ∨ j = 28 ∨ j = 29 ∨ j = 30 ∨ j = 31 ∨ j = 32 ∨ j = 33 ∨ j = 34 ∨ j = 35 ∨ j = 36 ∨ j = 37 ∨ j = 38 ∨ j = 39 ∨ j = 40 ∨ j = 41 ∨ j = 42 ∨ j = 43 ∨ j = 44 ∨ j = 45 ∨ j = 46 ∨ j = 47 ∨ j = 48 ∨ j = 49 ∨ j = 51 := by omega
  rcases this with rfl | rfl | rfl | rfl | rfl | rfl | rfl | rfl | rfl | rfl | rfl | rfl | rfl | rfl | rfl | rfl | rfl | rfl | rfl | rfl | rfl | rfl | rfl | rfl | rfl | rfl | rfl | rfl | rfl | rfl | rfl | rfl | rfl | rfl | rfl | rfl | rfl | rfl | rfl | rfl | rfl | rfl | rfl | rfl | rfl | rfl | rfl | rfl | rfl <;> subst e <;> decide
theorem sp_x6 {nt : sp_NT} {M n : Nat} {res par : Nat → Int32} (h : sp_OK nt M res par n) (hT : sp_TY nt n) (e : nt 0 n = 6) : sp_nd n (nt 1 n) = true := by
  have := sp_k6 h hT e
  have ha := @sp_E_Ex (nt 0 (nt 1 n).toNatClampNeg)
  have hb := @sp_E_Ex (nt 0 (nt 2 n).toNatClampNeg)
  have h6 : sp_Ex 6 = true := rfl
  have h8 : sp_Ex 8 = true := rfl
  have h33 : sp_Ex 33 = true := rfl
  have h48 : sp_Ex 48 = true := rfl
  have h49 : sp_Ex 49 = true := rfl
  grind
theorem sp_x7 {nt : sp_NT} {M n : Nat} {res par : Nat → Int32} (h : sp_OK nt M res par n) (hT : sp_TY nt n) (e : nt 0 n = 7) : sp_nd n (nt 1 n) = true ∧ sp_nd n (nt 2 n) = true ∧ sp_Ex (nt 0 (nt 2 n).toNatClampNeg) = true := by
  have := sp_k7 h hT e
  have ha := @sp_E_Ex (nt 0 (nt 1 n).toNatClampNeg)
  have hb := @sp_E_Ex (nt 0 (nt 2 n).toNatClampNeg)
  have h6 : sp_Ex 6 = true := rfl
  have h8 : sp_Ex 8 = true := rfl
  have h33 : sp_Ex 33 = true := rfl
  have h48 : sp_Ex 48 = true := rfl
  have h49 : sp_Ex 49 = true := rfl
  grind
theorem sp_x8 {nt : sp_NT} {M n : Nat} {res par : Nat → Int32} (h : sp_OK nt M res par n) (hT : sp_TY nt n) (e : nt 0 n = 8) : sp_nd n (nt 1 n) = true ∧ sp_Ex (nt 0 (nt 1 n).toNatClampNeg) = true ∧ (¬ (nt 2 n) = -1 → sp_nd n (nt 2 n) = true ∧ sp_Ex (nt 0 (nt 2 n).toNatClampNeg) = true) := by
  have := sp_k8 h hT e
  have ha := @sp_E_Ex (nt 0 (nt 1 n).toNatClampNeg)
  have hb := @sp_E_Ex (nt 0 (nt 2 n).toNatClampNeg)
  have h6 : sp_Ex 6 = true := rfl
  have h8 : sp_Ex 8 = true := rfl
  have h33 : sp_Ex 33 = true := rfl
  have h48 : sp_Ex 48 = true := rfl
  have h49 : sp_Ex 49 = true := rfl
  grind
theorem sp_x9 {nt : sp_NT} {M n : Nat} {res par : Nat → Int32} (h : sp_OK nt M res par n) (hT : sp_TY nt n) (e : nt 0 n = 9) : sp_nd n (nt 1 n) = true ∧ sp_Ex (nt 0 (nt 1 n).toNatClampNeg) = true ∧ (¬ (nt 2 n) = -1 → sp_nd n (nt 2 n) = true ∧ sp_Ex (nt 0 (nt 2 n).toNatClampNeg) = true) := by
  have := sp_k9 h hT e
  have ha := @sp_E_Ex (nt 0 (nt 1 n).toNatClampNeg)
  have hb := @sp_E_Ex (nt 0 (nt 2 n).toNatClampNeg)
  have h6 : sp_Ex 6 = true := rfl
  have h8 : sp_Ex 8 = true := rfl
  have h33 : sp_Ex 33 = true := rfl
  have h48 : sp_Ex 48 = true := rfl
  have h49 : sp_Ex 49 = true := rfl
  grind
theorem sp_x10 {nt : sp_NT} {M n : Nat} {res par : Nat → Int32} (h : sp_OK nt M res par n) (hT : sp_TY nt n) (e : nt 0 n = 10) : sp_nd n (nt 1 n) = true ∧ sp_Ex (nt 0 (nt 1 n).toNatClampNeg) = true ∧ (¬ (nt 2 n) = -1 → sp_nd n (nt 2 n) = true ∧ sp_Ex (nt 0 (nt 2 n).toNatClampNeg) = true) := by
  have := sp_k10 h hT e
  have ha := @sp_E_Ex (nt 0 (nt 1 n).toNatClampNeg)
  have hb := @sp_E_Ex (nt 0 (nt 2 n).toNatClampNeg)
  have h6 : sp_Ex 6 = true := rfl
  have h8 : sp_Ex 8 = true := rfl
  have h33 : sp_Ex 33 = true := rfl
  have h48 : sp_Ex 48 = true := rfl
  have h49 : sp_Ex 49 = true := rfl
  grind
theorem sp_x11 {nt : sp_NT} {M n : Nat} {res par : Nat → Int32} (h : sp_OK nt M res par n) (hT : sp_TY nt n) (e : nt 0 n = 11) : sp_nd n (nt 1 n) = true ∧ sp_Ex (nt 0 (nt 1 n).toNatClampNeg) = true ∧ (¬ (nt 2 n) = -1 → sp_nd n (nt 2 n) = true ∧ sp_Ex (nt 0 (nt 2 n).toNatClampNeg) = true) := by
  have := sp_k11 h hT e
  have ha := @sp_E_Ex (nt 0 (nt 1 n).toNatClampNeg)
  have hb := @sp_E_Ex (nt 0 (nt 2 n).toNatClampNeg)
  have h6 : sp_Ex 6 = true := rfl
  have h8 : sp_Ex 8 = true := rfl
  have h33 : sp_Ex 33 = true := rfl
  have h48 : sp_Ex 48 = true := rfl
  have h49 : sp_Ex 49 = true := rfl
  grind
theorem sp_x12 {nt : sp_NT} {M n : Nat} {res par : Nat → Int32} (h : sp_OK nt M res par n) (hT : sp_TY nt n) (e : nt 0 n = 12) : sp_nd n (nt 1 n) = true ∧ sp_Ex (nt 0 (nt 1 n).toNatClampNeg) = true ∧ (¬ (nt 2 n) = -1 → sp_nd n (nt 2 n) = true ∧ sp_Ex (nt 0 (nt 2 n).toNatClampNeg) = true) := by
  have := sp_k12 h hT e
  have ha := @sp_E_Ex (nt 0 (nt 1 n).toNatClampNeg)
  have hb := @sp_E_Ex (nt 0 (nt 2 n).toNatClampNeg)
  have h6 : sp_Ex 6 = true := rfl
  have h8 : sp_Ex 8 = true := rfl
  have h33 : sp_Ex 33 = true := rfl
  have h48 : sp_Ex 48 = true := rfl
  have h49 : sp_Ex 49 = true := rfl
  grind
theorem sp_x13 {nt : sp_NT} {M n : Nat} {res par : Nat → Int32} (h : sp_OK nt M res par n) (hT : sp_TY nt n) (e : nt 0 n = 13) : sp_nd n (nt 1 n) = true ∧ sp_Ex (nt 0 (nt 1 n).toNatClampNeg) = true ∧ (¬ (nt 2 n) = -1 → sp_nd n (nt 2 n) = true ∧ sp_Ex (nt 0 (nt 2 n).toNatClampNeg) = true) := by
  have := sp_k13 h hT e
  have ha := @sp_E_Ex (nt 0 (nt 1 n).toNatClampNeg)
  have hb := @sp_E_Ex (nt 0 (nt 2 n).toNatClampNeg)
  have h6 : sp_Ex 6 = true := rfl
  have h8 : sp_Ex 8 = true := rfl
  have h33 : sp_Ex 33 = true := rfl
  have h48 : sp_Ex 48 = true := rfl
  have h49 : sp_Ex 49 = true := rfl
  grind
theorem sp_x14 {nt : sp_NT} {M n : Nat} {res par : Nat → Int32} (h : sp_OK nt M res par n) (hT : sp_TY nt n) (e : nt 0 n = 14) : sp_nd n (nt 1 n) = true ∧ sp_Ex (nt 0 (nt 1 n).toNatClampNeg) = true ∧ (¬ (nt 2 n) = -1 → sp_nd n (nt 2 n) = true ∧ sp_Ex (nt 0 (nt 2 n).toNatClampNeg) = true) := by
  have := sp_k14 h hT e
  have ha := @sp_E_Ex (nt 0 (nt 1 n).toNatClampNeg)
  have hb := @sp_E_Ex (nt 0 (nt 2 n).toNatClampNeg)
  have h6 : sp_Ex 6 = true := rfl
  have h8 : sp_Ex 8 = true := rfl
  have h33 : sp_Ex 33 = true := rfl
  have h48 : sp_Ex 48 = true := rfl
  have h49 : sp_Ex 49 = true := rfl
  grind
theorem sp_x15 {nt : sp_NT} {M n : Nat} {res par : Nat → Int32} (h : sp_OK nt M res par n) (hT : sp_TY nt n) (e : nt 0 n = 15) : sp_nd n (nt 1 n) = true ∧ sp_Ex (nt 0 (nt 1 n).toNatClampNeg) = true ∧ (¬ (nt 2 n) = -1 → sp_nd n (nt 2 n) = true ∧ sp_Ex (nt 0 (nt 2 n).toNatClampNeg) = true) := by
  have := sp_k15 h hT e
  have ha := @sp_E_Ex (nt 0 (nt 1 n).toNatClampNeg)
  have hb := @sp_E_Ex (nt 0 (nt 2 n).toNatClampNeg)
  have h6 : sp_Ex 6 = true := rfl
  have h8 : sp_Ex 8 = true := rfl
  have h33 : sp_Ex 33 = true := rfl
  have h48 : sp_Ex 48 = true := rfl
  have h49 : sp_Ex 49 = true := rfl
  grind
theorem sp_x16 {nt : sp_NT} {M n : Nat} {res par : Nat → Int32} (h : sp_OK nt M res par n) (hT : sp_TY nt n) (e : nt 0 n = 16) : sp_nd n (nt 1 n) = true ∧ sp_Ex (nt 0 (nt 1 n).toNatClampNeg) = true ∧ (¬ (nt 2 n) = -1 → sp_nd n (nt 2 n) = true ∧ sp_Ex (nt 0 (nt 2 n).toNatClampNeg) = true) := by
  have := sp_k16 h hT e
  have ha := @sp_E_Ex (nt 0 (nt 1 n).toNatClampNeg)
  have hb := @sp_E_Ex (nt 0 (nt 2 n).toNatClampNeg)
  have h6 : sp_Ex 6 = true := rfl
  have h8 : sp_Ex 8 = true := rfl
  have h33 : sp_Ex 33 = true := rfl
  have h48 : sp_Ex 48 = true := rfl
  have h49 : sp_Ex 49 = true := rfl
  grind
theorem sp_x17 {nt : sp_NT} {M n : Nat} {res par : Nat → Int32} (h : sp_OK nt M res par n) (hT : sp_TY nt n) (e : nt 0 n = 17) : sp_nd n (nt 1 n) = true ∧ sp_Ex (nt 0 (nt 1 n).toNatClampNeg) = true ∧ (¬ (nt 2 n) = -1 → sp_nd n (nt 2 n) = true ∧ sp_Ex (nt 0 (nt 2 n).toNatClampNeg) = true) := by
  have := sp_k17 h hT e
  have ha := @sp_E_Ex (nt 0 (nt 1 n).toNatClampNeg)
  have hb := @sp_E_Ex (nt 0 (nt 2 n).toNatClampNeg)
  have h6 : sp_Ex 6 = true := rfl
  have h8 : sp_Ex 8 = true := rfl
  have h33 : sp_Ex 33 = true := rfl
  have h48 : sp_Ex 48 = true := rfl
  have h49 : sp_Ex 49 = true := rfl
  grind
theorem sp_x18 {nt : sp_NT} {M n : Nat} {res par : Nat → Int32} (h : sp_OK nt M res par n) (hT : sp_TY nt n) (e : nt 0 n = 18) : sp_nd n (nt 1 n) = true ∧ sp_Ex (nt 0 (nt 1 n).toNatClampNeg) = true ∧ (¬ (nt 2 n) = -1 → sp_nd n (nt 2 n) = true ∧ sp_Ex (nt 0 (nt 2 n).toNatClampNeg) = true) := by
  have := sp_k18 h hT e
  have ha := @sp_E_Ex (nt 0 (nt 1 n).toNatClampNeg)
  have hb := @sp_E_Ex (nt 0 (nt 2 n).toNatClampNeg)
  have h6 : sp_Ex 6 = true := rfl
  have h8 : sp_Ex 8 = true := rfl
  have h33 : sp_Ex 33 = true := rfl
  have h48 : sp_Ex 48 = true := rfl
  have h49 : sp_Ex 49 = true := rfl
  grind
theorem sp_x19 {nt : sp_NT} {M n : Nat} {res par : Nat → Int32} (h : sp_OK nt M res par n) (hT : sp_TY nt n) (e : nt 0 n = 19) : sp_nd n (nt 1 n) = true ∧ sp_Ex (nt 0 (nt 1 n).toNatClampNeg) = true ∧ (¬ (nt 2 n) = -1 → sp_nd n (nt 2 n) = true ∧ sp_Ex (nt 0 (nt 2 n).toNatClampNeg) = true) := by
  have := sp_k19 h hT e
  have ha := @sp_E_Ex (nt 0 (nt 1 n).toNatClampNeg)
  have hb := @sp_E_Ex (nt 0 (nt 2 n).toNatClampNeg)
  have h6 : sp_Ex 6 = true := rfl
  have h8 : sp_Ex 8 = true := rfl
  have h33 : sp_Ex 33 = true := rfl
  have h48 : sp_Ex 48 = true := rfl
  have h49 : sp_Ex 49 = true := rfl
  grind
theorem sp_x20 {nt : sp_NT} {M n : Nat} {res par : Nat → Int32} (h : sp_OK nt M res par n) (hT : sp_TY nt n) (e : nt 0 n = 20) : sp_nd n (nt 1 n) = true ∧ sp_Ex (nt 0 (nt 1 n).toNatClampNeg) = true ∧ (¬ (nt 2 n) = -1 → sp_nd n (nt 2 n) = true ∧ sp_Ex (nt 0 (nt 2 n).toNatClampNeg) = true) := by
  have := sp_k20 h hT e
  have ha := @sp_E_Ex (nt 0 (nt 1 n).toNatClampNeg)
  have hb := @sp_E_Ex (nt 0 (nt 2 n).toNatClampNeg)
  have h6 : sp_Ex 6 = true := rfl
  have h8 : sp_Ex 8 = true := rfl
  have h33 : sp_Ex 33 = true := rfl
  have h48 : sp_Ex 48 = true := rfl
  have h49 : sp_Ex 49 = true := rfl
  grind
theorem sp_x21 {nt : sp_NT} {M n : Nat} {res par : Nat → Int32} (h : sp_OK nt M res par n) (hT : sp_TY nt n) (e : nt 0 n = 21) : sp_nd n (nt 1 n) = true ∧ sp_Ex (nt 0 (nt 1 n).toNatClampNeg) = true ∧ (¬ (nt 2 n) = -1 → sp_nd n (nt 2 n) = true ∧ sp_Ex (nt 0 (nt 2 n).toNatClampNeg) = true) := by
  have := sp_k21 h hT e
  have ha := @sp_E_Ex (nt 0 (nt 1 n).toNatClampNeg)
  have hb := @sp_E_Ex (nt 0 (nt 2 n).toNatClampNeg)
  have h6 : sp_Ex 6 = true := rfl
  have h8 : sp_Ex 8 = true := rfl
  have h33 : sp_Ex 33 = true := rfl
  have h48 : sp_Ex 48 = true := rfl
  have h49 : sp_Ex 49 = true := rfl
  grind
theorem sp_x22 {nt : sp_NT} {M n : Nat} {res par : Nat → Int32} (h : sp_OK nt M res par n) (hT : sp_TY nt n) (e : nt 0 n = 22) : sp_nd n (nt 2 n) = true ∧ sp_Ex (nt 0 (nt 2 n).toNatClampNeg) = true := by
  have := sp_k22 h hT e
  have ha := @sp_E_Ex (nt 0 (nt 1 n).toNatClampNeg)
  have hb := @sp_E_Ex (nt 0 (nt 2 n).toNatClampNeg)
  have h6 : sp_Ex 6 = true := rfl
  have h8 : sp_Ex 8 = true := rfl
  have h33 : sp_Ex 33 = true := rfl
  have h48 : sp_Ex 48 = true := rfl
  have h49 : sp_Ex 49 = true := rfl
  grind
theorem sp_x23 {nt : sp_NT} {M n : Nat} {res par : Nat → Int32} (h : sp_OK nt M res par n) (hT : sp_TY nt n) (e : nt 0 n = 23) : sp_nd n (nt 1 n) = true ∧ sp_Ex (nt 0 (nt 1 n).toNatClampNeg) = true ∧ (¬ (nt 2 n) = -1 → sp_nd n (nt 2 n) = true ∧ sp_Ex (nt 0 (nt 2 n).toNatClampNeg) = true) := by
  have := sp_k23 h hT e
  have ha := @sp_E_Ex (nt 0 (nt 1 n).toNatClampNeg)
  have hb := @sp_E_Ex (nt 0 (nt 2 n).toNatClampNeg)
  have h6 : sp_Ex 6 = true := rfl
  have h8 : sp_Ex 8 = true := rfl
  have h33 : sp_Ex 33 = true := rfl
  have h48 : sp_Ex 48 = true := rfl
  have h49 : sp_Ex 49 = true := rfl
  grind
theorem sp_x24 {nt : sp_NT} {M n : Nat} {res par : Nat → Int32} (h : sp_OK nt M res par n) (hT : sp_TY nt n) (e : nt 0 n = 24) : sp_nd n (nt 1 n) = true ∧ sp_Ex (nt 0 (nt 1 n).toNatClampNeg) = true ∧ (¬ (nt 2 n) = -1 → sp_nd n (nt 2 n) = true ∧ sp_Ex (nt 0 (nt 2 n).toNatClampNeg) = true) := by
  have := sp_k24 h hT e
  have ha := @sp_E_Ex (nt 0 (nt 1 n).toNatClampNeg)
  have hb := @sp_E_Ex (nt 0 (nt 2 n).toNatClampNeg)
  have h6 : sp_Ex 6 = true := rfl
  have h8 : sp_Ex 8 = true := rfl
  have h33 : sp_Ex 33 = true := rfl
  have h48 : sp_Ex 48 = true := rfl
  have h49 : sp_Ex 49 = true := rfl
  grind
theorem sp_x25 {nt : sp_NT} {M n : Nat} {res par : Nat → Int32} (h : sp_OK nt M res par n) (hT : sp_TY nt n) (e : nt 0 n = 25) : sp_nd n (nt 1 n) = true ∧ sp_Ex (nt 0 (nt 1 n).toNatClampNeg) = true ∧ (¬ (nt 2 n) = -1 → sp_nd n (nt 2 n) = true ∧ sp_Ex (nt 0 (nt 2 n).toNatClampNeg) = true) := by
  have := sp_k25 h hT e
  have ha := @sp_E_Ex (nt 0 (nt 1 n).toNatClampNeg)
  have hb := @sp_E_Ex (nt 0 (nt 2 n).toNatClampNeg)
  have h6 : sp_Ex 6 = true := rfl
  have h8 : sp_Ex 8 = true := rfl
  have h33 : sp_Ex 33 = true := rfl
  have h48 : sp_Ex 48 = true := rfl
  have h49 : sp_Ex 49 = true := rfl
  grind
theorem sp_x26 {nt : sp_NT} {M n : Nat} {res par : Nat → Int32} (h : sp_OK nt M res par n) (hT : sp_TY nt n) (e : nt 0 n = 26) : sp_nd n (nt 1 n) = true ∧ sp_Ex (nt 0 (nt 1 n).toNatClampNeg) = true ∧ (¬ (nt 2 n) = -1 → sp_nd n (nt 2 n) = true ∧ sp_Ex (nt 0 (nt 2 n).toNatClampNeg) = true) := by
  have := sp_k26 h hT e
  have ha := @sp_E_Ex (nt 0 (nt 1 n).toNatClampNeg)
  have hb := @sp_E_Ex (nt 0 (nt 2 n).toNatClampNeg)
  have h6 : sp_Ex 6 = true := rfl
  have h8 : sp_Ex 8 = true := rfl
  have h33 : sp_Ex 33 = true := rfl
  have h48 : sp_Ex 48 = true := rfl
  have h49 : sp_Ex 49 = true := rfl
  grind
theorem sp_x27 {nt : sp_NT} {M n : Nat} {res par : Nat → Int32} (h : sp_OK nt M res par n) (hT : sp_TY nt n) (e : nt 0 n = 27) : sp_nd n (nt 1 n) = true ∧ sp_Ex (nt 0 (nt 1 n).toNatClampNeg) = true ∧ (¬ (nt 2 n) = -1 → sp_nd n (nt 2 n) = true ∧ sp_Ex (nt 0 (nt 2 n).toNatClampNeg) = true) := by
  have := sp_k27 h hT e
  have ha := @sp_E_Ex (nt 0 (nt 1 n).toNatClampNeg)
  have hb := @sp_E_Ex (nt 0 (nt 2 n).toNatClampNeg)
  have h6 : sp_Ex 6 = true := rfl
  have h8 : sp_Ex 8 = true := rfl
  have h33 : sp_Ex 33 = true := rfl
  have h48 : sp_Ex 48 = true := rfl
  have h49 : sp_Ex 49 = true := rfl
  grind
theorem sp_x28 {nt : sp_NT} {M n : Nat} {res par : Nat → Int32} (h : sp_OK nt M res par n) (hT : sp_TY nt n) (e : nt 0 n = 28) : sp_nd n (nt 1 n) = true ∧ sp_Ex (nt 0 (nt 1 n).toNatClampNeg) = true ∧ (¬ (nt 2 n) = -1 → sp_nd n (nt 2 n) = true ∧ sp_Ex (nt 0 (nt 2 n).toNatClampNeg) = true) := by
  have := sp_k28 h hT e
  have ha := @sp_E_Ex (nt 0 (nt 1 n).toNatClampNeg)
  have hb := @sp_E_Ex (nt 0 (nt 2 n).toNatClampNeg)
  have h6 : sp_Ex 6 = true := rfl
  have h8 : sp_Ex 8 = true := rfl
  have h33 : sp_Ex 33 = true := rfl
  have h48 : sp_Ex 48 = true := rfl
  have h49 : sp_Ex 49 = true := rfl
  grind
theorem sp_x29 {nt : sp_NT} {M n : Nat} {res par : Nat → Int32} (h : sp_OK nt M res par n) (hT : sp_TY nt n) (e : nt 0 n = 29) : sp_nd n (nt 1 n) = true ∧ sp_Ex (nt 0 (nt 1 n).toNatClampNeg) = true ∧ (¬ (nt 2 n) = -1 → sp_nd n (nt 2 n) = true ∧ sp_Ex (nt 0 (nt 2 n).toNatClampNeg) = true) := by
  have := sp_k29 h hT e
  have ha := @sp_E_Ex (nt 0 (nt 1 n).toNatClampNeg)
  have hb := @sp_E_Ex (nt 0 (nt 2 n).toNatClampNeg)
  have h6 : sp_Ex 6 = true := rfl
  have h8 : sp_Ex 8 = true := rfl
  have h33 : sp_Ex 33 = true := rfl
  have h48 : sp_Ex 48 = true := rfl
  have h49 : sp_Ex 49 = true := rfl
  grind
theorem sp_x30 {nt : sp_NT} {M n : Nat} {res par : Nat → Int32} (h : sp_OK nt M res par n) (hT : sp_TY nt n) (e : nt 0 n = 30) : sp_nd n (nt 1 n) = true ∧ sp_Ex (nt 0 (nt 1 n).toNatClampNeg) = true ∧ (¬ (nt 2 n) = -1 → sp_nd n (nt 2 n) = true ∧ sp_Ex (nt 0 (nt 2 n).toNatClampNeg) = true) := by
  have := sp_k30 h hT e
  have ha := @sp_E_Ex (nt 0 (nt 1 n).toNatClampNeg)
  have hb := @sp_E_Ex (nt 0 (nt 2 n).toNatClampNeg)
  have h6 : sp_Ex 6 = true := rfl
  have h8 : sp_Ex 8 = true := rfl
  have h33 : sp_Ex 33 = true := rfl
  have h48 : sp_Ex 48 = true := rfl
  have h49 : sp_Ex 49 = true := rfl
  grind
theorem sp_x31 {nt : sp_NT} {M n : Nat} {res par : Nat → Int32} (h : sp_OK nt M res par n) (hT : sp_TY nt n) (e : nt 0 n = 31) : sp_nd n (nt 1 n) = true ∧ sp_Ex (nt 0 (nt 1 n).toNatClampNeg) = true ∧ (¬ (nt 2 n) = -1 → sp_nd n (nt 2 n) = true ∧ sp_Ex (nt 0 (nt 2 n).toNatClampNeg) = true) := by
  have := sp_k31 h hT e
  have ha := @sp_E_Ex (nt 0 (nt 1 n).toNatClampNeg)
  have hb := @sp_E_Ex (nt 0 (nt 2 n).toNatClampNeg)
  have h6 : sp_Ex 6 = true := rfl
  have h8 : sp_Ex 8 = true := rfl
  have h33 : sp_Ex 33 = true := rfl
  have h48 : sp_Ex 48 = true := rfl
  have h49 : sp_Ex 49 = true := rfl
  grind
theorem sp_x32 {nt : sp_NT} {M n : Nat} {res par : Nat → Int32} (h : sp_OK nt M res par n) (hT : sp_TY nt n) (e : nt 0 n = 32) : sp_nd n (nt 1 n) = true ∧ sp_Ex (nt 0 (nt 1 n).toNatClampNeg) = true ∧ (¬ (nt 2 n) = -1 → sp_nd n (nt 2 n) = true ∧ sp_Ex (nt 0 (nt 2 n).toNatClampNeg) = true) := by
  have := sp_k32 h hT e
  have ha := @sp_E_Ex (nt 0 (nt 1 n).toNatClampNeg)
  have hb := @sp_E_Ex (nt 0 (nt 2 n).toNatClampNeg)
  have h6 : sp_Ex 6 = true := rfl
  have h8 : sp_Ex 8 = true := rfl
  have h33 : sp_Ex 33 = true := rfl
  have h48 : sp_Ex 48 = true := rfl
  have h49 : sp_Ex 49 = true := rfl
  grind
theorem sp_x33 {nt : sp_NT} {M n : Nat} {res par : Nat → Int32} (h : sp_OK nt M res par n) (hT : sp_TY nt n) (e : nt 0 n = 33) : sp_nd n (nt 1 n) = true ∧ sp_Ex (nt 0 (nt 1 n).toNatClampNeg) = true ∧ (¬ (nt 2 n) = -1 → sp_nd n (nt 2 n) = true ∧ sp_Ex (nt 0 (nt 2 n).toNatClampNeg) = true) := by
  have := sp_k33 h hT e
  have ha := @sp_E_Ex (nt 0 (nt 1 n).toNatClampNeg)
  have hb := @sp_E_Ex (nt 0 (nt 2 n).toNatClampNeg)
  have h6 : sp_Ex 6 = true := rfl
  have h8 : sp_Ex 8 = true := rfl
  have h33 : sp_Ex 33 = true := rfl
  have h48 : sp_Ex 48 = true := rfl
  have h49 : sp_Ex 49 = true := rfl
  grind
theorem sp_x34 {nt : sp_NT} {M n : Nat} {res par : Nat → Int32} (h : sp_OK nt M res par n) (hT : sp_TY nt n) (e : nt 0 n = 34) : sp_nd n (nt 1 n) = true ∧ sp_Ex (nt 0 (nt 1 n).toNatClampNeg) = true := by
  have := sp_k34 h hT e
  have ha := @sp_E_Ex (nt 0 (nt 1 n).toNatClampNeg)
  have hb := @sp_E_Ex (nt 0 (nt 2 n).toNatClampNeg)
  have h6 : sp_Ex 6 = true := rfl
  have h8 : sp_Ex 8 = true := rfl
  have h33 : sp_Ex 33 = true := rfl
  have h48 : sp_Ex 48 = true := rfl
  have h49 : sp_Ex 49 = true := rfl
  grind
theorem sp_x35 {nt : sp_NT} {M n : Nat} {res par : Nat → Int32} (h : sp_OK nt M res par n) (hT : sp_TY nt n) (e : nt 0 n = 35) : sp_nd n (nt 1 n) = true ∧ sp_Ex (nt 0 (nt 1 n).toNatClampNeg) = true ∧ (¬ (nt 2 n) = -1 → sp_nd n (nt 2 n) = true ∧ sp_Ex (nt 0 (nt 2 n).toNatClampNeg) = true) := by
  have := sp_k35 h hT e
  have ha := @sp_E_Ex (nt 0 (nt 1 n).toNatClampNeg)
  have hb := @sp_E_Ex (nt 0 (nt 2 n).toNatClampNeg)
  have h6 : sp_Ex 6 = true := rfl
  have h8 : sp_Ex 8 = true := rfl
  have h33 : sp_Ex 33 = true := rfl
  have h48 : sp_Ex 48 = true := rfl
  have h49 : sp_Ex 49 = true := rfl
  grind
theorem sp_x36 {nt : sp_NT} {M n : Nat} {res par : Nat → Int32} (h : sp_OK nt M res par n) (hT : sp_TY nt n) (e : nt 0 n = 36) : sp_nd n (nt 1 n) = true ∧ sp_Ex (nt 0 (nt 1 n).toNatClampNeg) = true ∧ (¬ (nt 2 n) = -1 → sp_nd n (nt 2 n) = true ∧ sp_Ex (nt 0 (nt 2 n).toNatClampNeg) = true) := by
  have := sp_k36 h hT e
  have ha := @sp_E_Ex (nt 0 (nt 1 n).toNatClampNeg)
  have hb := @sp_E_Ex (nt 0 (nt 2 n).toNatClampNeg)
  have h6 : sp_Ex 6 = true := rfl
  have h8 : sp_Ex 8 = true := rfl
  have h33 : sp_Ex 33 = true := rfl
  have h48 : sp_Ex 48 = true := rfl
  have h49 : sp_Ex 49 = true := rfl
  grind
theorem sp_x37 {nt : sp_NT} {M n : Nat} {res par : Nat → Int32} (h : sp_OK nt M res par n) (hT : sp_TY nt n) (e : nt 0 n = 37) : sp_nd n (nt 1 n) = true ∧ sp_Ex (nt 0 (nt 1 n).toNatClampNeg) = true ∧ (¬ (nt 2 n) = -1 → sp_nd n (nt 2 n) = true ∧ sp_Ex (nt 0 (nt 2 n).toNatClampNeg) = true) := by
  have := sp_k37 h hT e
  have ha := @sp_E_Ex (nt 0 (nt 1 n).toNatClampNeg)
  have hb := @sp_E_Ex (nt 0 (nt 2 n).toNatClampNeg)
  have h6 : sp_Ex 6 = true := rfl
  have h8 : sp_Ex 8 = true := rfl
  have h33 : sp_Ex 33 = true := rfl
  have h48 : sp_Ex 48 = true := rfl
  have h49 : sp_Ex 49 = true := rfl
  grind
theorem sp_x38 {nt : sp_NT} {M n : Nat} {res par : Nat → Int32} (h : sp_OK nt M res par n) (hT : sp_TY nt n) (e : nt 0 n = 38) : sp_nd n (nt 1 n) = true ∧ sp_Ex (nt 0 (nt 1 n).toNatClampNeg) = true ∧ (¬ (nt 2 n) = -1 → sp_nd n (nt 2 n) = true ∧ sp_Ex (nt 0 (nt 2 n).toNatClampNeg) = true) := by
  have := sp_k38 h hT e
  have ha := @sp_E_Ex (nt 0 (nt 1 n).toNatClampNeg)
  have hb := @sp_E_Ex (nt 0 (nt 2 n).toNatClampNeg)
  have h6 : sp_Ex 6 = true := rfl
  have h8 : sp_Ex 8 = true := rfl
  have h33 : sp_Ex 33 = true := rfl
  have h48 : sp_Ex 48 = true := rfl
  have h49 : sp_Ex 49 = true := rfl
  grind
theorem sp_x39 {nt : sp_NT} {M n : Nat} {res par : Nat → Int32} (h : sp_OK nt M res par n) (hT : sp_TY nt n) (e : nt 0 n = 39) : sp_nd n (nt 1 n) = true ∧ sp_Ex (nt 0 (nt 1 n).toNatClampNeg) = true ∧ (¬ (nt 2 n) = -1 → sp_nd n (nt 2 n) = true ∧ sp_Ex (nt 0 (nt 2 n).toNatClampNeg) = true) := by
  have := sp_k39 h hT e
  have ha := @sp_E_Ex (nt 0 (nt 1 n).toNatClampNeg)
  have hb := @sp_E_Ex (nt 0 (nt 2 n).toNatClampNeg)
  have h6 : sp_Ex 6 = true := rfl
  have h8 : sp_Ex 8 = true := rfl
  have h33 : sp_Ex 33 = true := rfl
  have h48 : sp_Ex 48 = true := rfl
  have h49 : sp_Ex 49 = true := rfl
  grind
theorem sp_x40 {nt : sp_NT} {M n : Nat} {res par : Nat → Int32} (h : sp_OK nt M res par n) (hT : sp_TY nt n) (e : nt 0 n = 40) : sp_nd n (nt 1 n) = true ∧ sp_Ex (nt 0 (nt 1 n).toNatClampNeg) = true ∧ (¬ (nt 2 n) = -1 → sp_nd n (nt 2 n) = true ∧ sp_Ex (nt 0 (nt 2 n).toNatClampNeg) = true) := by
  have := sp_k40 h hT e
  have ha := @sp_E_Ex (nt 0 (nt 1 n).toNatClampNeg)
  have hb := @sp_E_Ex (nt 0 (nt 2 n).toNatClampNeg)
  have h6 : sp_Ex 6 = true := rfl
  have h8 : sp_Ex 8 = true := rfl
  have h33 : sp_Ex 33 = true := rfl
  have h48 : sp_Ex 48 = true := rfl
  have h49 : sp_Ex 49 = true := rfl
  grind
theorem sp_x41 {nt : sp_NT} {M n : Nat} {res par : Nat → Int32} (h : sp_OK nt M res par n) (hT : sp_TY nt n) (e : nt 0 n = 41) : sp_nd n (nt 1 n) = true ∧ sp_Ex (nt 0 (nt 1 n).toNatClampNeg) = true ∧ (¬ (nt 2 n) = -1 → sp_nd n (nt 2 n) = true ∧ sp_Ex (nt 0 (nt 2 n).toNatClampNeg) = true) := by
  have := sp_k41 h hT e
  have ha := @sp_E_Ex (nt 0 (nt 1 n).toNatClampNeg)
  have hb := @sp_E_Ex (nt 0 (nt 2 n).toNatClampNeg)
  have h6 : sp_Ex 6 = true := rfl
  have h8 : sp_Ex 8 = true := rfl
  have h33 : sp_Ex 33 = true := rfl
  have h48 : sp_Ex 48 = true := rfl
  have h49 : sp_Ex 49 = true := rfl
  grind
theorem sp_x42 {nt : sp_NT} {M n : Nat} {res par : Nat → Int32} (h : sp_OK nt M res par n) (hT : sp_TY nt n) (e : nt 0 n = 42) : sp_nd n (nt 1 n) = true ∧ sp_Ex (nt 0 (nt 1 n).toNatClampNeg) = true ∧ (¬ (nt 2 n) = -1 → sp_nd n (nt 2 n) = true ∧ sp_Ex (nt 0 (nt 2 n).toNatClampNeg) = true) := by
  have := sp_k42 h hT e
  have ha := @sp_E_Ex (nt 0 (nt 1 n).toNatClampNeg)
  have hb := @sp_E_Ex (nt 0 (nt 2 n).toNatClampNeg)
  have h6 : sp_Ex 6 = true := rfl
  have h8 : sp_Ex 8 = true := rfl
  have h33 : sp_Ex 33 = true := rfl
  have h48 : sp_Ex 48 = true := rfl
  have h49 : sp_Ex 49 = true := rfl
  grind
theorem sp_x43 {nt : sp_NT} {M n : Nat} {res par : Nat → Int32} (h : sp_OK nt M res par n) (hT : sp_TY nt n) (e : nt 0 n = 43) : sp_nd n (nt 1 n) = true ∧ sp_Ex (nt 0 (nt 1 n).toNatClampNeg) = true ∧ (¬ (nt 2 n) = -1 → sp_nd n (nt 2 n) = true ∧ sp_Ex (nt 0 (nt 2 n).toNatClampNeg) = true) := by
  have := sp_k43 h hT e
  have ha := @sp_E_Ex (nt 0 (nt 1 n).toNatClampNeg)
  have hb := @sp_E_Ex (nt 0 (nt 2 n).toNatClampNeg)
  have h6 : sp_Ex 6 = true := rfl
  have h8 : sp_Ex 8 = true := rfl
  have h33 : sp_Ex 33 = true := rfl
  have h48 : sp_Ex 48 = true := rfl
  have h49 : sp_Ex 49 = true := rfl
  grind
theorem sp_x44 {nt : sp_NT} {M n : Nat} {res par : Nat → Int32} (h : sp_OK nt M res par n) (hT : sp_TY nt n) (e : nt 0 n = 44) : sp_nd n (nt 1 n) = true ∧ sp_Ex (nt 0 (nt 1 n).toNatClampNeg) = true ∧ (¬ (nt 2 n) = -1 → sp_nd n (nt 2 n) = true ∧ sp_Ex (nt 0 (nt 2 n).toNatClampNeg) = true) := by
  have := sp_k44 h hT e
  have ha := @sp_E_Ex (nt 0 (nt 1 n).toNatClampNeg)
  have hb := @sp_E_Ex (nt 0 (nt 2 n).toNatClampNeg)
  have h6 : sp_Ex 6 = true := rfl
  have h8 : sp_Ex 8 = true := rfl
  have h33 : sp_Ex 33 = true := rfl
  have h48 : sp_Ex 48 = true := rfl
  have h49 : sp_Ex 49 = true := rfl
  grind
theorem sp_x45 {nt : sp_NT} {M n : Nat} {res par : Nat → Int32} (h : sp_OK nt M res par n) (hT : sp_TY nt n) (e : nt 0 n = 45) : sp_nd n (nt 1 n) = true ∧ sp_Ex (nt 0 (nt 1 n).toNatClampNeg) = true ∧ (¬ (nt 2 n) = -1 → sp_nd n (nt 2 n) = true ∧ sp_Ex (nt 0 (nt 2 n).toNatClampNeg) = true) := by
  have := sp_k45 h hT e
  have ha := @sp_E_Ex (nt 0 (nt 1 n).toNatClampNeg)
  have hb := @sp_E_Ex (nt 0 (nt 2 n).toNatClampNeg)
  have h6 : sp_Ex 6 = true := rfl
  have h8 : sp_Ex 8 = true := rfl
  have h33 : sp_Ex 33 = true := rfl
  have h48 : sp_Ex 48 = true := rfl
  have h49 : sp_Ex 49 = true := rfl
  grind
theorem sp_x46 {nt : sp_NT} {M n : Nat} {res par : Nat → Int32} (h : sp_OK nt M res par n) (hT : sp_TY nt n) (e : nt 0 n = 46) : sp_nd n (nt 2 n) = true ∧ sp_Ex (nt 0 (nt 2 n).toNatClampNeg) = true := by
  have := sp_k46 h hT e
  have ha := @sp_E_Ex (nt 0 (nt 1 n).toNatClampNeg)
  have hb := @sp_E_Ex (nt 0 (nt 2 n).toNatClampNeg)
  have h6 : sp_Ex 6 = true := rfl
  have h8 : sp_Ex 8 = true := rfl
  have h33 : sp_Ex 33 = true := rfl
  have h48 : sp_Ex 48 = true := rfl
  have h49 : sp_Ex 49 = true := rfl
  grind
theorem sp_x47 {nt : sp_NT} {M n : Nat} {res par : Nat → Int32} (h : sp_OK nt M res par n) (hT : sp_TY nt n) (e : nt 0 n = 47) : sp_nd n (nt 1 n) = true ∧ sp_Ex (nt 0 (nt 1 n).toNatClampNeg) = true ∧ (¬ (nt 2 n) = -1 → sp_nd n (nt 2 n) = true ∧ sp_Ex (nt 0 (nt 2 n).toNatClampNeg) = true) := by
  have := sp_k47 h hT e
  have ha := @sp_E_Ex (nt 0 (nt 1 n).toNatClampNeg)
  have hb := @sp_E_Ex (nt 0 (nt 2 n).toNatClampNeg)
  have h6 : sp_Ex 6 = true := rfl
  have h8 : sp_Ex 8 = true := rfl
  have h33 : sp_Ex 33 = true := rfl
  have h48 : sp_Ex 48 = true := rfl
  have h49 : sp_Ex 49 = true := rfl
  grind
theorem sp_x48 {nt : sp_NT} {M n : Nat} {res par : Nat → Int32} (h : sp_OK nt M res par n) (hT : sp_TY nt n) (e : nt 0 n = 48) : (¬ (nt 2 n) = -1 → sp_nd n (nt 2 n) = true ∧ sp_Ex (nt 0 (nt 2 n).toNatClampNeg) = true) := by
  have := sp_k48 h hT e
  have ha := @sp_E_Ex (nt 0 (nt 1 n).toNatClampNeg)
  have hb := @sp_E_Ex (nt 0 (nt 2 n).toNatClampNeg)
  have h6 : sp_Ex 6 = true := rfl
  have h8 : sp_Ex 8 = true := rfl
  have h33 : sp_Ex 33 = true := rfl
  have h48 : sp_Ex 48 = true := rfl
  have h49 : sp_Ex 49 = true := rfl
  grind
theorem sp_x49 {nt : sp_NT} {M n : Nat} {res par : Nat → Int32} (h : sp_OK nt M res par n) (hT : sp_TY nt n) (e : nt 0 n = 49) : sp_nd n (nt 1 n) = true ∧ sp_Ex (nt 0 (nt 1 n).toNatClampNeg) = true ∧ (¬ (nt 2 n) = -1 → sp_nd n (nt 2 n) = true ∧ sp_Ex (nt 0 (nt 2 n).toNatClampNeg) = true) := by
  have := sp_k49 h hT e
  have ha := @sp_E_Ex (nt 0 (nt 1 n).toNatClampNeg)
  have hb := @sp_E_Ex (nt 0 (nt 2 n).toNatClampNeg)
  have h6 : sp_Ex 6 = true := rfl
  have h8 : sp_Ex 8 = true := rfl
  have h33 : sp_Ex 33 = true := rfl
  have h48 : sp_Ex 48 = true := rfl
  have h49 : sp_Ex 49 = true := rfl
  grind
theorem sp_th_s {r : Bool × sp_SS} {s : sp_SS} (h : r.2 = s) (g : sp_SS → Bool × sp_SS) (hg : (g s).2 = s) : sp_th r g = (r.1 && (g s).1, s) := by
  obtain ⟨r1, r2⟩ := r
  subst h
  unfold sp_th
  cases r1
  · rfl
  · simp only [cond_true, Bool.true_and]; exact Prod.ext rfl hg
theorem sX1_isScoped {y : mj_X} {nt : sp_NT} {N M : Nat} {res par : Nat → Int32} (hy : md_T y nt N) (hF : sp_WF nt N M res par) (hM : M ≤ 40) : ∀ (f : Nat) (n : Int32), sp_nd N n = true → sp_Ex (nt 0 n.toNatClampNeg) = true → (nt 4 n.toNatClampNeg).toInt ≤ f → ∀ d, f + 1 ≤ d → ∀ s, kX1 d 28 [.ref 0, .int n] (md_sc y s) = sp_o (md_sc y) (sp_sc nt f n s) ∧ (sp_sc nt f n s).2 = s := by
  have hN := hy.2.1
  intro f
  induction f with
  | zero =>
    intro n hn _ h4
    have := (hF.dp hN N (Nat.le_refl _) n hn).1
    simp only [Int32.le_iff_toInt_le] at this
    have e1 : (1 : Int32).toInt = 1 := by decide
    omega
  | succ f ih =>
    intro n hn hE h4 d hd s
    obtain ⟨d, rfl⟩ : ∃ c, d = c + 1 := ⟨d - 1, by omega⟩
    have hi : n.toNatClampNeg < N := sp_nd_lt hN hn
    have hO := hF.1 _ hi
    have hT := hF.ty hM hN n.toNatClampNeg (Nat.le_of_lt hi)
    have hda := hF.da hN hi
    have hg := fun r => mj_g_k (sp_nd_in hN hn (Nat.le_refl _)) r
    have hTT := md_sc_T hy s
    have hA : sp_hA (nt 0 n.toNatClampNeg) = true → sp_nd n.toNatClampNeg (nt 1 n.toNatClampNeg) = true → sp_Ex (nt 0 (nt 1 n.toNatClampNeg).toNatClampNeg) = true → kX1 d 28 [.ref 0, .int (nt 1 n.toNatClampNeg)] (md_sc y s) = sp_o (md_sc y) (sp_sc nt f (nt 1 n.toNatClampNeg) s) ∧ (sp_sc nt f (nt 1 n.toNatClampNeg) s).2 = s := by
      intro q1 q2 q3
      have q4 : sp_pa (nt 0 n.toNatClampNeg) (nt 1 n.toNatClampNeg) = true := by unfold sp_pa; rw [q1]; simp [sp_nd_n1 q2]
      exact ih _ (sp_nd_mono (Nat.le_of_lt hi) hN q2) q3 (by have := hda.1 q4; omega) d (by omega) s
    have hB : sp_hB (nt 0 n.toNatClampNeg) = true → sp_nd n.toNatClampNeg (nt 2 n.toNatClampNeg) = true → sp_Ex (nt 0 (nt 2 n.toNatClampNeg).toNatClampNeg) = true → kX1 d 28 [.ref 0, .int (nt 2 n.toNatClampNeg)] (md_sc y s) = sp_o (md_sc y) (sp_sc nt f (nt 2 n.toNatClampNeg) s) ∧ (sp_sc nt f (nt 2 n.toNatClampNeg) s).2 = s := by
      intro q1 q2 q3
      have q4 : sp_pb (nt 0 n.toNatClampNeg) (nt 2 n.toNatClampNeg) = true := by unfold sp_pb; rw [q1]; simp [sp_nd_n1 q2]
      exact ih _ (sp_nd_mono (Nat.le_of_lt hi) hN q2) q3 (by have := hda.2 q4; omega) d (by omega) s
    have hin := sp_Ex_in _ hE
    simp only [List.mem_cons, List.not_mem_nil, or_false] at hin
    rcases hin with e | e | e | e | e | e | e | e | e | e | e | e | e | e | e | e | e | e | e | e | e | e | e | e | e | e | e | e | e | e | e | e | e | e | e | e | e | e | e | e | e | e | e | e | e | e | e | e | e
    · have u := md_eU (f := f) hy hn (show 1 ≤ d by omega) s (by rw [e]; decide) (by rw [e]; decide) (fun q _ => absurd q (by rw [e]; decide)) (fun q q2 _ => absurd q (by rw [e] at q2 ⊢; revert q2; decide))
      have eg : sp_sc nt (f + 1) n s = (sp_ue nt f s (nt 0 n.toNatClampNeg) (nt 1 n.toNatClampNeg) (nt 2 n.toNatClampNeg), s) := by
        rw [sp_sc_s nt f n s, e]
        show (true, s) = _
        rfl
      rw [eg]; exact ⟨u, rfl⟩
    · have u := md_eU (f := f) hy hn (show 1 ≤ d by omega) s (by rw [e]; decide) (by rw [e]; decide) (fun q _ => absurd q (by rw [e]; decide)) (fun q q2 _ => absurd q (by rw [e] at q2 ⊢; revert q2; decide))
      have eg : sp_sc nt (f + 1) n s = (sp_ue nt f s (nt 0 n.toNatClampNeg) (nt 1 n.toNatClampNeg) (nt 2 n.toNatClampNeg), s) := by
        rw [sp_sc_s nt f n s, e]
        show (true, s) = _
        rfl
      rw [eg]; exact ⟨u, rfl⟩
    · have u := md_eU (f := f) hy hn (show 1 ≤ d by omega) s (by rw [e]; decide) (by rw [e]; decide) (fun q _ => absurd q (by rw [e]; decide)) (fun q q2 _ => absurd q (by rw [e] at q2 ⊢; revert q2; decide))
      have eg : sp_sc nt (f + 1) n s = (sp_ue nt f s (nt 0 n.toNatClampNeg) (nt 1 n.toNatClampNeg) (nt 2 n.toNatClampNeg), s) := by
        rw [sp_sc_s nt f n s, e]
        show (true, s) = _
        rfl
      rw [eg]; exact ⟨u, rfl⟩
    · have u := md_eU (f := f) hy hn (show 1 ≤ d by omega) s (by rw [e]; decide) (by rw [e]; decide) (fun q _ => absurd q (by rw [e]; decide)) (fun q q2 _ => absurd q (by rw [e] at q2 ⊢; revert q2; decide))
      have eg : sp_sc nt (f + 1) n s = (sp_ue nt f s (nt 0 n.toNatClampNeg) (nt 1 n.toNatClampNeg) (nt 2 n.toNatClampNeg), s) := by
        rw [sp_sc_s nt f n s, e]
        show (true, s) = _
        rfl
      rw [eg]; exact ⟨u, rfl⟩
    · have a1 := sp_x6 hO hT e
      rw [eX1_isScoped, hg, hg, hTT.2.2.1, if_pos e, hTT.2.2.2.1, mj_g_k (sp_nd_in hN (sp_nd_mono (Nat.le_of_lt hi) hN a1) (Nat.le_refl _)), md_sc_I, mj_gb_b]
      have eg : sp_sc nt (f + 1) n s = (s.2.1 (nt 1 n.toNatClampNeg).toNatClampNeg, s) := by rw [sp_sc_s nt f n s, e]; rfl
      rw [eg]; exact ⟨rfl, rfl⟩
    · obtain ⟨a1, b1, b2⟩ := sp_x7 hO hT e
      have eg : sp_sc nt (f + 1) n s = sp_th (s.2.1 (nt 1 n.toNatClampNeg).toNatClampNeg, s) (sp_sc nt f (nt 2 n.toNatClampNeg)) := by rw [sp_sc_s nt f n s, e]; rfl
      have hb := hB (by rw [e]; rfl) b1 b2
      rw [eX1_isScoped, hg, hg, hTT.2.2.1, if_neg (by rw [e]; decide), if_pos e, hg, hTT.2.2.2.1, mj_g_k (sp_nd_in hN (sp_nd_mono (Nat.le_of_lt hi) hN a1) (Nat.le_refl _)), md_sc_I, sp_ib, hTT.2.2.2.2.1, hb.1, eg, sp_ret]
      unfold sp_th
      cases q : s.2.1 (nt 1 n.toNatClampNeg).toNatClampNeg
      · exact ⟨rfl, rfl⟩
      · rw [if_neg (by decide), hg]; exact ⟨rfl, hb.2⟩
    · obtain ⟨a1, a2, b3⟩ := sp_x8 hO hT e
      have u := md_eU (f := f) hy hn (show 1 ≤ d by omega) s (by rw [e]; decide) (by rw [e]; decide) (fun _ _ => (hA (by rw [e]; rfl) a1 a2).1.trans (by rw [show (sp_sc nt f (nt 1 n.toNatClampNeg) s) = ((sp_sc nt f (nt 1 n.toNatClampNeg) s).1, s) from Prod.ext rfl (hA (by rw [e]; rfl) a1 a2).2])) (fun _ _ q => (hB (by rw [e]; rfl) (b3 q).1 (b3 q).2).1.trans (by rw [show (sp_sc nt f (nt 2 n.toNatClampNeg) s) = ((sp_sc nt f (nt 2 n.toNatClampNeg) s).1, s) from Prod.ext rfl (hB (by rw [e]; rfl) (b3 q).1 (b3 q).2).2]))
      have eg : sp_sc nt (f + 1) n s = (sp_ue nt f s (nt 0 n.toNatClampNeg) (nt 1 n.toNatClampNeg) (nt 2 n.toNatClampNeg), s) := by
        rw [sp_sc_s nt f n s, e]
        show sp_th (sp_sc nt f (nt 1 n.toNatClampNeg) s) (fun s => if (nt 2 n.toNatClampNeg) = -1 then (true, s) else sp_sc nt f (nt 2 n.toNatClampNeg) s) = _
        by_cases q : (nt 2 n.toNatClampNeg) = -1
        · simp only [if_pos q]
          rw [sp_th_s (hA (by rw [e]; rfl) a1 a2).2 _ rfl]
          simp [sp_ue, sp_hA, sp_hB, sp_i, q, sp_nd_n1 a1]
        · simp only [if_neg q]
          rw [sp_th_s (hA (by rw [e]; rfl) a1 a2).2 _ (hB (by rw [e]; rfl) (b3 q).1 (b3 q).2).2]
          simp [sp_ue, sp_hA, sp_hB, sp_i, q, sp_nd_n1 a1]
      rw [eg]; exact ⟨u, rfl⟩
    · obtain ⟨a1, a2, b3⟩ := sp_x9 hO hT e
      have u := md_eU (f := f) hy hn (show 1 ≤ d by omega) s (by rw [e]; decide) (by rw [e]; decide) (fun _ _ => (hA (by rw [e]; rfl) a1 a2).1.trans (by rw [show (sp_sc nt f (nt 1 n.toNatClampNeg) s) = ((sp_sc nt f (nt 1 n.toNatClampNeg) s).1, s) from Prod.ext rfl (hA (by rw [e]; rfl) a1 a2).2])) (fun _ _ q => (hB (by rw [e]; rfl) (b3 q).1 (b3 q).2).1.trans (by rw [show (sp_sc nt f (nt 2 n.toNatClampNeg) s) = ((sp_sc nt f (nt 2 n.toNatClampNeg) s).1, s) from Prod.ext rfl (hB (by rw [e]; rfl) (b3 q).1 (b3 q).2).2]))
      have eg : sp_sc nt (f + 1) n s = (sp_ue nt f s (nt 0 n.toNatClampNeg) (nt 1 n.toNatClampNeg) (nt 2 n.toNatClampNeg), s) := by
        rw [sp_sc_s nt f n s, e]
        show sp_th (sp_sc nt f (nt 1 n.toNatClampNeg) s) (fun s => if (nt 2 n.toNatClampNeg) = -1 then (true, s) else sp_sc nt f (nt 2 n.toNatClampNeg) s) = _
        by_cases q : (nt 2 n.toNatClampNeg) = -1
        · simp only [if_pos q]
          rw [sp_th_s (hA (by rw [e]; rfl) a1 a2).2 _ rfl]
          simp [sp_ue, sp_hA, sp_hB, sp_i, q, sp_nd_n1 a1]
        · simp only [if_neg q]
          rw [sp_th_s (hA (by rw [e]; rfl) a1 a2).2 _ (hB (by rw [e]; rfl) (b3 q).1 (b3 q).2).2]
          simp [sp_ue, sp_hA, sp_hB, sp_i, q, sp_nd_n1 a1]
      rw [eg]; exact ⟨u, rfl⟩
    · obtain ⟨a1, a2, b3⟩ := sp_x10 hO hT e
      have u := md_eU (f := f) hy hn (show 1 ≤ d by omega) s (by rw [e]; decide) (by rw [e]; decide) (fun _ _ => (hA (by rw [e]; rfl) a1 a2).1.trans (by rw [show (sp_sc nt f (nt 1 n.toNatClampNeg) s) = ((sp_sc nt f (nt 1 n.toNatClampNeg) s).1, s) from Prod.ext rfl (hA (by rw [e]; rfl) a1 a2).2])) (fun _ _ q => (hB (by rw [e]; rfl) (b3 q).1 (b3 q).2).1.trans (by rw [show (sp_sc nt f (nt 2 n.toNatClampNeg) s) = ((sp_sc nt f (nt 2 n.toNatClampNeg) s).1, s) from Prod.ext rfl (hB (by rw [e]; rfl) (b3 q).1 (b3 q).2).2]))
      have eg : sp_sc nt (f + 1) n s = (sp_ue nt f s (nt 0 n.toNatClampNeg) (nt 1 n.toNatClampNeg) (nt 2 n.toNatClampNeg), s) := by
        rw [sp_sc_s nt f n s, e]
        show sp_th (sp_sc nt f (nt 1 n.toNatClampNeg) s) (fun s => if (nt 2 n.toNatClampNeg) = -1 then (true, s) else sp_sc nt f (nt 2 n.toNatClampNeg) s) = _
        by_cases q : (nt 2 n.toNatClampNeg) = -1
        · simp only [if_pos q]
          rw [sp_th_s (hA (by rw [e]; rfl) a1 a2).2 _ rfl]
          simp [sp_ue, sp_hA, sp_hB, sp_i, q, sp_nd_n1 a1]
        · simp only [if_neg q]
          rw [sp_th_s (hA (by rw [e]; rfl) a1 a2).2 _ (hB (by rw [e]; rfl) (b3 q).1 (b3 q).2).2]
          simp [sp_ue, sp_hA, sp_hB, sp_i, q, sp_nd_n1 a1]
      rw [eg]; exact ⟨u, rfl⟩
    · obtain ⟨a1, a2, b3⟩ := sp_x11 hO hT e
      have u := md_eU (f := f) hy hn (show 1 ≤ d by omega) s (by rw [e]; decide) (by rw [e]; decide) (fun _ _ => (hA (by rw [e]; rfl) a1 a2).1.trans (by rw [show (sp_sc nt f (nt 1 n.toNatClampNeg) s) = ((sp_sc nt f (nt 1 n.toNatClampNeg) s).1, s) from Prod.ext rfl (hA (by rw [e]; rfl) a1 a2).2])) (fun _ _ q => (hB (by rw [e]; rfl) (b3 q).1 (b3 q).2).1.trans (by rw [show (sp_sc nt f (nt 2 n.toNatClampNeg) s) = ((sp_sc nt f (nt 2 n.toNatClampNeg) s).1, s) from Prod.ext rfl (hB (by rw [e]; rfl) (b3 q).1 (b3 q).2).2]))
      have eg : sp_sc nt (f + 1) n s = (sp_ue nt f s (nt 0 n.toNatClampNeg) (nt 1 n.toNatClampNeg) (nt 2 n.toNatClampNeg), s) := by
        rw [sp_sc_s nt f n s, e]
        show sp_th (sp_sc nt f (nt 1 n.toNatClampNeg) s) (fun s => if (nt 2 n.toNatClampNeg) = -1 then (true, s) else sp_sc nt f (nt 2 n.toNatClampNeg) s) = _
        by_cases q : (nt 2 n.toNatClampNeg) = -1
        · simp only [if_pos q]
          rw [sp_th_s (hA (by rw [e]; rfl) a1 a2).2 _ rfl]
          simp [sp_ue, sp_hA, sp_hB, sp_i, q, sp_nd_n1 a1]
        · simp only [if_neg q]
          rw [sp_th_s (hA (by rw [e]; rfl) a1 a2).2 _ (hB (by rw [e]; rfl) (b3 q).1 (b3 q).2).2]
          simp [sp_ue, sp_hA, sp_hB, sp_i, q, sp_nd_n1 a1]
      rw [eg]; exact ⟨u, rfl⟩
    · obtain ⟨a1, a2, b3⟩ := sp_x12 hO hT e
      have u := md_eU (f := f) hy hn (show 1 ≤ d by omega) s (by rw [e]; decide) (by rw [e]; decide) (fun _ _ => (hA (by rw [e]; rfl) a1 a2).1.trans (by rw [show (sp_sc nt f (nt 1 n.toNatClampNeg) s) = ((sp_sc nt f (nt 1 n.toNatClampNeg) s).1, s) from Prod.ext rfl (hA (by rw [e]; rfl) a1 a2).2])) (fun _ _ q => (hB (by rw [e]; rfl) (b3 q).1 (b3 q).2).1.trans (by rw [show (sp_sc nt f (nt 2 n.toNatClampNeg) s) = ((sp_sc nt f (nt 2 n.toNatClampNeg) s).1, s) from Prod.ext rfl (hB (by rw [e]; rfl) (b3 q).1 (b3 q).2).2]))
      have eg : sp_sc nt (f + 1) n s = (sp_ue nt f s (nt 0 n.toNatClampNeg) (nt 1 n.toNatClampNeg) (nt 2 n.toNatClampNeg), s) := by
        rw [sp_sc_s nt f n s, e]
        show sp_th (sp_sc nt f (nt 1 n.toNatClampNeg) s) (fun s => if (nt 2 n.toNatClampNeg) = -1 then (true, s) else sp_sc nt f (nt 2 n.toNatClampNeg) s) = _
        by_cases q : (nt 2 n.toNatClampNeg) = -1
        · simp only [if_pos q]
          rw [sp_th_s (hA (by rw [e]; rfl) a1 a2).2 _ rfl]
          simp [sp_ue, sp_hA, sp_hB, sp_i, q, sp_nd_n1 a1]
        · simp only [if_neg q]
          rw [sp_th_s (hA (by rw [e]; rfl) a1 a2).2 _ (hB (by rw [e]; rfl) (b3 q).1 (b3 q).2).2]
          simp [sp_ue, sp_hA, sp_hB, sp_i, q, sp_nd_n1 a1]
      rw [eg]; exact ⟨u, rfl⟩
    · obtain ⟨a1, a2, b3⟩ := sp_x13 hO hT e
      have u := md_eU (f := f) hy hn (show 1 ≤ d by omega) s (by rw [e]; decide) (by rw [e]; decide) (fun _ _ => (hA (by rw [e]; rfl) a1 a2).1.trans (by rw [show (sp_sc nt f (nt 1 n.toNatClampNeg) s) = ((sp_sc nt f (nt 1 n.toNatClampNeg) s).1, s) from Prod.ext rfl (hA (by rw [e]; rfl) a1 a2).2])) (fun _ _ q => (hB (by rw [e]; rfl) (b3 q).1 (b3 q).2).1.trans (by rw [show (sp_sc nt f (nt 2 n.toNatClampNeg) s) = ((sp_sc nt f (nt 2 n.toNatClampNeg) s).1, s) from Prod.ext rfl (hB (by rw [e]; rfl) (b3 q).1 (b3 q).2).2]))
      have eg : sp_sc nt (f + 1) n s = (sp_ue nt f s (nt 0 n.toNatClampNeg) (nt 1 n.toNatClampNeg) (nt 2 n.toNatClampNeg), s) := by
        rw [sp_sc_s nt f n s, e]
        show sp_th (sp_sc nt f (nt 1 n.toNatClampNeg) s) (fun s => if (nt 2 n.toNatClampNeg) = -1 then (true, s) else sp_sc nt f (nt 2 n.toNatClampNeg) s) = _
        by_cases q : (nt 2 n.toNatClampNeg) = -1
        · simp only [if_pos q]
          rw [sp_th_s (hA (by rw [e]; rfl) a1 a2).2 _ rfl]
          simp [sp_ue, sp_hA, sp_hB, sp_i, q, sp_nd_n1 a1]
        · simp only [if_neg q]
          rw [sp_th_s (hA (by rw [e]; rfl) a1 a2).2 _ (hB (by rw [e]; rfl) (b3 q).1 (b3 q).2).2]
          simp [sp_ue, sp_hA, sp_hB, sp_i, q, sp_nd_n1 a1]
      rw [eg]; exact ⟨u, rfl⟩
    · obtain ⟨a1, a2, b3⟩ := sp_x14 hO hT e
      have u := md_eU (f := f) hy hn (show 1 ≤ d by omega) s (by rw [e]; decide) (by rw [e]; decide) (fun _ _ => (hA (by rw [e]; rfl) a1 a2).1.trans (by rw [show (sp_sc nt f (nt 1 n.toNatClampNeg) s) = ((sp_sc nt f (nt 1 n.toNatClampNeg) s).1, s) from Prod.ext rfl (hA (by rw [e]; rfl) a1 a2).2])) (fun _ _ q => (hB (by rw [e]; rfl) (b3 q).1 (b3 q).2).1.trans (by rw [show (sp_sc nt f (nt 2 n.toNatClampNeg) s) = ((sp_sc nt f (nt 2 n.toNatClampNeg) s).1, s) from Prod.ext rfl (hB (by rw [e]; rfl) (b3 q).1 (b3 q).2).2]))
      have eg : sp_sc nt (f + 1) n s = (sp_ue nt f s (nt 0 n.toNatClampNeg) (nt 1 n.toNatClampNeg) (nt 2 n.toNatClampNeg), s) := by
        rw [sp_sc_s nt f n s, e]
        show sp_th (sp_sc nt f (nt 1 n.toNatClampNeg) s) (fun s => if (nt 2 n.toNatClampNeg) = -1 then (true, s) else sp_sc nt f (nt 2 n.toNatClampNeg) s) = _
        by_cases q : (nt 2 n.toNatClampNeg) = -1
        · simp only [if_pos q]
          rw [sp_th_s (hA (by rw [e]; rfl) a1 a2).2 _ rfl]
          simp [sp_ue, sp_hA, sp_hB, sp_i, q, sp_nd_n1 a1]
        · simp only [if_neg q]
          rw [sp_th_s (hA (by rw [e]; rfl) a1 a2).2 _ (hB (by rw [e]; rfl) (b3 q).1 (b3 q).2).2]
          simp [sp_ue, sp_hA, sp_hB, sp_i, q, sp_nd_n1 a1]
      rw [eg]; exact ⟨u, rfl⟩
    · obtain ⟨a1, a2, b3⟩ := sp_x15 hO hT e
      have u := md_eU (f := f) hy hn (show 1 ≤ d by omega) s (by rw [e]; decide) (by rw [e]; decide) (fun _ _ => (hA (by rw [e]; rfl) a1 a2).1.trans (by rw [show (sp_sc nt f (nt 1 n.toNatClampNeg) s) = ((sp_sc nt f (nt 1 n.toNatClampNeg) s).1, s) from Prod.ext rfl (hA (by rw [e]; rfl) a1 a2).2])) (fun _ _ q => (hB (by rw [e]; rfl) (b3 q).1 (b3 q).2).1.trans (by rw [show (sp_sc nt f (nt 2 n.toNatClampNeg) s) = ((sp_sc nt f (nt 2 n.toNatClampNeg) s).1, s) from Prod.ext rfl (hB (by rw [e]; rfl) (b3 q).1 (b3 q).2).2]))
      have eg : sp_sc nt (f + 1) n s = (sp_ue nt f s (nt 0 n.toNatClampNeg) (nt 1 n.toNatClampNeg) (nt 2 n.toNatClampNeg), s) := by
        rw [sp_sc_s nt f n s, e]
        show sp_th (sp_sc nt f (nt 1 n.toNatClampNeg) s) (fun s => if (nt 2 n.toNatClampNeg) = -1 then (true, s) else sp_sc nt f (nt 2 n.toNatClampNeg) s) = _
        by_cases q : (nt 2 n.toNatClampNeg) = -1
        · simp only [if_pos q]
          rw [sp_th_s (hA (by rw [e]; rfl) a1 a2).2 _ rfl]
          simp [sp_ue, sp_hA, sp_hB, sp_i, q, sp_nd_n1 a1]
        · simp only [if_neg q]
          rw [sp_th_s (hA (by rw [e]; rfl) a1 a2).2 _ (hB (by rw [e]; rfl) (b3 q).1 (b3 q).2).2]
          simp [sp_ue, sp_hA, sp_hB, sp_i, q, sp_nd_n1 a1]
      rw [eg]; exact ⟨u, rfl⟩
    · obtain ⟨a1, a2, b3⟩ := sp_x16 hO hT e
      have u := md_eU (f := f) hy hn (show 1 ≤ d by omega) s (by rw [e]; decide) (by rw [e]; decide) (fun _ _ => (hA (by rw [e]; rfl) a1 a2).1.trans (by rw [show (sp_sc nt f (nt 1 n.toNatClampNeg) s) = ((sp_sc nt f (nt 1 n.toNatClampNeg) s).1, s) from Prod.ext rfl (hA (by rw [e]; rfl) a1 a2).2])) (fun _ _ q => (hB (by rw [e]; rfl) (b3 q).1 (b3 q).2).1.trans (by rw [show (sp_sc nt f (nt 2 n.toNatClampNeg) s) = ((sp_sc nt f (nt 2 n.toNatClampNeg) s).1, s) from Prod.ext rfl (hB (by rw [e]; rfl) (b3 q).1 (b3 q).2).2]))
      have eg : sp_sc nt (f + 1) n s = (sp_ue nt f s (nt 0 n.toNatClampNeg) (nt 1 n.toNatClampNeg) (nt 2 n.toNatClampNeg), s) := by
        rw [sp_sc_s nt f n s, e]
        show sp_th (sp_sc nt f (nt 1 n.toNatClampNeg) s) (fun s => if (nt 2 n.toNatClampNeg) = -1 then (true, s) else sp_sc nt f (nt 2 n.toNatClampNeg) s) = _
        by_cases q : (nt 2 n.toNatClampNeg) = -1
        · simp only [if_pos q]
          rw [sp_th_s (hA (by rw [e]; rfl) a1 a2).2 _ rfl]
          simp [sp_ue, sp_hA, sp_hB, sp_i, q, sp_nd_n1 a1]
        · simp only [if_neg q]
          rw [sp_th_s (hA (by rw [e]; rfl) a1 a2).2 _ (hB (by rw [e]; rfl) (b3 q).1 (b3 q).2).2]
          simp [sp_ue, sp_hA, sp_hB, sp_i, q, sp_nd_n1 a1]
      rw [eg]; exact ⟨u, rfl⟩
    · obtain ⟨a1, a2, b3⟩ := sp_x17 hO hT e
      have u := md_eU (f := f) hy hn (show 1 ≤ d by omega) s (by rw [e]; decide) (by rw [e]; decide) (fun _ _ => (hA (by rw [e]; rfl) a1 a2).1.trans (by rw [show (sp_sc nt f (nt 1 n.toNatClampNeg) s) = ((sp_sc nt f (nt 1 n.toNatClampNeg) s).1, s) from Prod.ext rfl (hA (by rw [e]; rfl) a1 a2).2])) (fun _ _ q => (hB (by rw [e]; rfl) (b3 q).1 (b3 q).2).1.trans (by rw [show (sp_sc nt f (nt 2 n.toNatClampNeg) s) = ((sp_sc nt f (nt 2 n.toNatClampNeg) s).1, s) from Prod.ext rfl (hB (by rw [e]; rfl) (b3 q).1 (b3 q).2).2]))
      have eg : sp_sc nt (f + 1) n s = (sp_ue nt f s (nt 0 n.toNatClampNeg) (nt 1 n.toNatClampNeg) (nt 2 n.toNatClampNeg), s) := by
        rw [sp_sc_s nt f n s, e]
        show sp_th (sp_sc nt f (nt 1 n.toNatClampNeg) s) (fun s => if (nt 2 n.toNatClampNeg) = -1 then (true, s) else sp_sc nt f (nt 2 n.toNatClampNeg) s) = _
        by_cases q : (nt 2 n.toNatClampNeg) = -1
        · simp only [if_pos q]
          rw [sp_th_s (hA (by rw [e]; rfl) a1 a2).2 _ rfl]
          simp [sp_ue, sp_hA, sp_hB, sp_i, q, sp_nd_n1 a1]
        · simp only [if_neg q]
          rw [sp_th_s (hA (by rw [e]; rfl) a1 a2).2 _ (hB (by rw [e]; rfl) (b3 q).1 (b3 q).2).2]
          simp [sp_ue, sp_hA, sp_hB, sp_i, q, sp_nd_n1 a1]
      rw [eg]; exact ⟨u, rfl⟩
    · obtain ⟨a1, a2, b3⟩ := sp_x18 hO hT e
      have u := md_eU (f := f) hy hn (show 1 ≤ d by omega) s (by rw [e]; decide) (by rw [e]; decide) (fun _ _ => (hA (by rw [e]; rfl) a1 a2).1.trans (by rw [show (sp_sc nt f (nt 1 n.toNatClampNeg) s) = ((sp_sc nt f (nt 1 n.toNatClampNeg) s).1, s) from Prod.ext rfl (hA (by rw [e]; rfl) a1 a2).2])) (fun _ _ q => (hB (by rw [e]; rfl) (b3 q).1 (b3 q).2).1.trans (by rw [show (sp_sc nt f (nt 2 n.toNatClampNeg) s) = ((sp_sc nt f (nt 2 n.toNatClampNeg) s).1, s) from Prod.ext rfl (hB (by rw [e]; rfl) (b3 q).1 (b3 q).2).2]))
      have eg : sp_sc nt (f + 1) n s = (sp_ue nt f s (nt 0 n.toNatClampNeg) (nt 1 n.toNatClampNeg) (nt 2 n.toNatClampNeg), s) := by
        rw [sp_sc_s nt f n s, e]
        show sp_th (sp_sc nt f (nt 1 n.toNatClampNeg) s) (fun s => if (nt 2 n.toNatClampNeg) = -1 then (true, s) else sp_sc nt f (nt 2 n.toNatClampNeg) s) = _
        by_cases q : (nt 2 n.toNatClampNeg) = -1
        · simp only [if_pos q]
          rw [sp_th_s (hA (by rw [e]; rfl) a1 a2).2 _ rfl]
          simp [sp_ue, sp_hA, sp_hB, sp_i, q, sp_nd_n1 a1]
        · simp only [if_neg q]
          rw [sp_th_s (hA (by rw [e]; rfl) a1 a2).2 _ (hB (by rw [e]; rfl) (b3 q).1 (b3 q).2).2]
          simp [sp_ue, sp_hA, sp_hB, sp_i, q, sp_nd_n1 a1]
      rw [eg]; exact ⟨u, rfl⟩
    · obtain ⟨a1, a2, b3⟩ := sp_x19 hO hT e
      have u := md_eU (f := f) hy hn (show 1 ≤ d by omega) s (by rw [e]; decide) (by rw [e]; decide) (fun _ _ => (hA (by rw [e]; rfl) a1 a2).1.trans (by rw [show (sp_sc nt f (nt 1 n.toNatClampNeg) s) = ((sp_sc nt f (nt 1 n.toNatClampNeg) s).1, s) from Prod.ext rfl (hA (by rw [e]; rfl) a1 a2).2])) (fun _ _ q => (hB (by rw [e]; rfl) (b3 q).1 (b3 q).2).1.trans (by rw [show (sp_sc nt f (nt 2 n.toNatClampNeg) s) = ((sp_sc nt f (nt 2 n.toNatClampNeg) s).1, s) from Prod.ext rfl (hB (by rw [e]; rfl) (b3 q).1 (b3 q).2).2]))
      have eg : sp_sc nt (f + 1) n s = (sp_ue nt f s (nt 0 n.toNatClampNeg) (nt 1 n.toNatClampNeg) (nt 2 n.toNatClampNeg), s) := by
        rw [sp_sc_s nt f n s, e]
        show sp_th (sp_sc nt f (nt 1 n.toNatClampNeg) s) (fun s => if (nt 2 n.toNatClampNeg) = -1 then (true, s) else sp_sc nt f (nt 2 n.toNatClampNeg) s) = _
        by_cases q : (nt 2 n.toNatClampNeg) = -1
        · simp only [if_pos q]
          rw [sp_th_s (hA (by rw [e]; rfl) a1 a2).2 _ rfl]
          simp [sp_ue, sp_hA, sp_hB, sp_i, q, sp_nd_n1 a1]
        · simp only [if_neg q]
          rw [sp_th_s (hA (by rw [e]; rfl) a1 a2).2 _ (hB (by rw [e]; rfl) (b3 q).1 (b3 q).2).2]
          simp [sp_ue, sp_hA, sp_hB, sp_i, q, sp_nd_n1 a1]
      rw [eg]; exact ⟨u, rfl⟩
    · obtain ⟨a1, a2, b3⟩ := sp_x20 hO hT e
      have u := md_eU (f := f) hy hn (show 1 ≤ d by omega) s (by rw [e]; decide) (by rw [e]; decide) (fun _ _ => (hA (by rw [e]; rfl) a1 a2).1.trans (by rw [show (sp_sc nt f (nt 1 n.toNatClampNeg) s) = ((sp_sc nt f (nt 1 n.toNatClampNeg) s).1, s) from Prod.ext rfl (hA (by rw [e]; rfl) a1 a2).2])) (fun _ _ q => (hB (by rw [e]; rfl) (b3 q).1 (b3 q).2).1.trans (by rw [show (sp_sc nt f (nt 2 n.toNatClampNeg) s) = ((sp_sc nt f (nt 2 n.toNatClampNeg) s).1, s) from Prod.ext rfl (hB (by rw [e]; rfl) (b3 q).1 (b3 q).2).2]))
      have eg : sp_sc nt (f + 1) n s = (sp_ue nt f s (nt 0 n.toNatClampNeg) (nt 1 n.toNatClampNeg) (nt 2 n.toNatClampNeg), s) := by
        rw [sp_sc_s nt f n s, e]
        show sp_th (sp_sc nt f (nt 1 n.toNatClampNeg) s) (fun s => if (nt 2 n.toNatClampNeg) = -1 then (true, s) else sp_sc nt f (nt 2 n.toNatClampNeg) s) = _
        by_cases q : (nt 2 n.toNatClampNeg) = -1
        · simp only [if_pos q]
          rw [sp_th_s (hA (by rw [e]; rfl) a1 a2).2 _ rfl]
          simp [sp_ue, sp_hA, sp_hB, sp_i, q, sp_nd_n1 a1]
        · simp only [if_neg q]
          rw [sp_th_s (hA (by rw [e]; rfl) a1 a2).2 _ (hB (by rw [e]; rfl) (b3 q).1 (b3 q).2).2]
          simp [sp_ue, sp_hA, sp_hB, sp_i, q, sp_nd_n1 a1]
      rw [eg]; exact ⟨u, rfl⟩
    · obtain ⟨a1, a2, b3⟩ := sp_x21 hO hT e
      have u := md_eU (f := f) hy hn (show 1 ≤ d by omega) s (by rw [e]; decide) (by rw [e]; decide) (fun _ _ => (hA (by rw [e]; rfl) a1 a2).1.trans (by rw [show (sp_sc nt f (nt 1 n.toNatClampNeg) s) = ((sp_sc nt f (nt 1 n.toNatClampNeg) s).1, s) from Prod.ext rfl (hA (by rw [e]; rfl) a1 a2).2])) (fun _ _ q => (hB (by rw [e]; rfl) (b3 q).1 (b3 q).2).1.trans (by rw [show (sp_sc nt f (nt 2 n.toNatClampNeg) s) = ((sp_sc nt f (nt 2 n.toNatClampNeg) s).1, s) from Prod.ext rfl (hB (by rw [e]; rfl) (b3 q).1 (b3 q).2).2]))
      have eg : sp_sc nt (f + 1) n s = (sp_ue nt f s (nt 0 n.toNatClampNeg) (nt 1 n.toNatClampNeg) (nt 2 n.toNatClampNeg), s) := by
        rw [sp_sc_s nt f n s, e]
        show sp_th (sp_sc nt f (nt 1 n.toNatClampNeg) s) (fun s => if (nt 2 n.toNatClampNeg) = -1 then (true, s) else sp_sc nt f (nt 2 n.toNatClampNeg) s) = _
        by_cases q : (nt 2 n.toNatClampNeg) = -1
        · simp only [if_pos q]
          rw [sp_th_s (hA (by rw [e]; rfl) a1 a2).2 _ rfl]
          simp [sp_ue, sp_hA, sp_hB, sp_i, q, sp_nd_n1 a1]
        · simp only [if_neg q]
          rw [sp_th_s (hA (by rw [e]; rfl) a1 a2).2 _ (hB (by rw [e]; rfl) (b3 q).1 (b3 q).2).2]
          simp [sp_ue, sp_hA, sp_hB, sp_i, q, sp_nd_n1 a1]
      rw [eg]; exact ⟨u, rfl⟩
    · obtain ⟨b1, b2⟩ := sp_x22 hO hT e
      have u := md_eU (f := f) hy hn (show 1 ≤ d by omega) s (by rw [e]; decide) (by rw [e]; decide) (fun q _ => absurd q (by rw [e]; decide)) (fun _ _ _ => (hB (by rw [e]; rfl) b1 b2).1.trans (by rw [show (sp_sc nt f (nt 2 n.toNatClampNeg) s) = ((sp_sc nt f (nt 2 n.toNatClampNeg) s).1, s) from Prod.ext rfl (hB (by rw [e]; rfl) b1 b2).2]))
      have eg : sp_sc nt (f + 1) n s = (sp_ue nt f s (nt 0 n.toNatClampNeg) (nt 1 n.toNatClampNeg) (nt 2 n.toNatClampNeg), s) := by
        rw [sp_sc_s nt f n s, e]
        show sp_sc nt f (nt 2 n.toNatClampNeg) s = _
        refine Prod.ext ?_ (hB (by rw [e]; rfl) b1 b2).2
        simp [sp_ue, sp_hA, sp_hB, sp_i, sp_nd_n1 b1]
      rw [eg]; exact ⟨u, rfl⟩
    · obtain ⟨a1, a2, b3⟩ := sp_x23 hO hT e
      have u := md_eU (f := f) hy hn (show 1 ≤ d by omega) s (by rw [e]; decide) (by rw [e]; decide) (fun _ _ => (hA (by rw [e]; rfl) a1 a2).1.trans (by rw [show (sp_sc nt f (nt 1 n.toNatClampNeg) s) = ((sp_sc nt f (nt 1 n.toNatClampNeg) s).1, s) from Prod.ext rfl (hA (by rw [e]; rfl) a1 a2).2])) (fun _ _ q => (hB (by rw [e]; rfl) (b3 q).1 (b3 q).2).1.trans (by rw [show (sp_sc nt f (nt 2 n.toNatClampNeg) s) = ((sp_sc nt f (nt 2 n.toNatClampNeg) s).1, s) from Prod.ext rfl (hB (by rw [e]; rfl) (b3 q).1 (b3 q).2).2]))
      have eg : sp_sc nt (f + 1) n s = (sp_ue nt f s (nt 0 n.toNatClampNeg) (nt 1 n.toNatClampNeg) (nt 2 n.toNatClampNeg), s) := by
        rw [sp_sc_s nt f n s, e]
        show sp_th (sp_sc nt f (nt 1 n.toNatClampNeg) s) (fun s => if (nt 2 n.toNatClampNeg) = -1 then (true, s) else sp_sc nt f (nt 2 n.toNatClampNeg) s) = _
        by_cases q : (nt 2 n.toNatClampNeg) = -1
        · simp only [if_pos q]
          rw [sp_th_s (hA (by rw [e]; rfl) a1 a2).2 _ rfl]
          simp [sp_ue, sp_hA, sp_hB, sp_i, q, sp_nd_n1 a1]
        · simp only [if_neg q]
          rw [sp_th_s (hA (by rw [e]; rfl) a1 a2).2 _ (hB (by rw [e]; rfl) (b3 q).1 (b3 q).2).2]
          simp [sp_ue, sp_hA, sp_hB, sp_i, q, sp_nd_n1 a1]
      rw [eg]; exact ⟨u, rfl⟩
    · obtain ⟨a1, a2, b3⟩ := sp_x24 hO hT e
      have u := md_eU (f := f) hy hn (show 1 ≤ d by omega) s (by rw [e]; decide) (by rw [e]; decide) (fun _ _ => (hA (by rw [e]; rfl) a1 a2).1.trans (by rw [show (sp_sc nt f (nt 1 n.toNatClampNeg) s) = ((sp_sc nt f (nt 1 n.toNatClampNeg) s).1, s) from Prod.ext rfl (hA (by rw [e]; rfl) a1 a2).2])) (fun _ _ q => (hB (by rw [e]; rfl) (b3 q).1 (b3 q).2).1.trans (by rw [show (sp_sc nt f (nt 2 n.toNatClampNeg) s) = ((sp_sc nt f (nt 2 n.toNatClampNeg) s).1, s) from Prod.ext rfl (hB (by rw [e]; rfl) (b3 q).1 (b3 q).2).2]))
      have eg : sp_sc nt (f + 1) n s = (sp_ue nt f s (nt 0 n.toNatClampNeg) (nt 1 n.toNatClampNeg) (nt 2 n.toNatClampNeg), s) := by
        rw [sp_sc_s nt f n s, e]
        show sp_th (sp_sc nt f (nt 1 n.toNatClampNeg) s) (fun s => if (nt 2 n.toNatClampNeg) = -1 then (true, s) else sp_sc nt f (nt 2 n.toNatClampNeg) s) = _
        by_cases q : (nt 2 n.toNatClampNeg) = -1
        · simp only [if_pos q]
          rw [sp_th_s (hA (by rw [e]; rfl) a1 a2).2 _ rfl]
          simp [sp_ue, sp_hA, sp_hB, sp_i, q, sp_nd_n1 a1]
        · simp only [if_neg q]
          rw [sp_th_s (hA (by rw [e]; rfl) a1 a2).2 _ (hB (by rw [e]; rfl) (b3 q).1 (b3 q).2).2]
          simp [sp_ue, sp_hA, sp_hB, sp_i, q, sp_nd_n1 a1]
      rw [eg]; exact ⟨u, rfl⟩
    · obtain ⟨a1, a2, b3⟩ := sp_x25 hO hT e
      have u := md_eU (f := f) hy hn (show 1 ≤ d by omega) s (by rw [e]; decide) (by rw [e]; decide) (fun _ _ => (hA (by rw [e]; rfl) a1 a2).1.trans (by rw [show (sp_sc nt f (nt 1 n.toNatClampNeg) s) = ((sp_sc nt f (nt 1 n.toNatClampNeg) s).1, s) from Prod.ext rfl (hA (by rw [e]; rfl) a1 a2).2])) (fun _ _ q => (hB (by rw [e]; rfl) (b3 q).1 (b3 q).2).1.trans (by rw [show (sp_sc nt f (nt 2 n.toNatClampNeg) s) = ((sp_sc nt f (nt 2 n.toNatClampNeg) s).1, s) from Prod.ext rfl (hB (by rw [e]; rfl) (b3 q).1 (b3 q).2).2]))
      have eg : sp_sc nt (f + 1) n s = (sp_ue nt f s (nt 0 n.toNatClampNeg) (nt 1 n.toNatClampNeg) (nt 2 n.toNatClampNeg), s) := by
        rw [sp_sc_s nt f n s, e]
        show sp_th (sp_sc nt f (nt 1 n.toNatClampNeg) s) (fun s => if (nt 2 n.toNatClampNeg) = -1 then (true, s) else sp_sc nt f (nt 2 n.toNatClampNeg) s) = _
        by_cases q : (nt 2 n.toNatClampNeg) = -1
        · simp only [if_pos q]
          rw [sp_th_s (hA (by rw [e]; rfl) a1 a2).2 _ rfl]
          simp [sp_ue, sp_hA, sp_hB, sp_i, q, sp_nd_n1 a1]
        · simp only [if_neg q]
          rw [sp_th_s (hA (by rw [e]; rfl) a1 a2).2 _ (hB (by rw [e]; rfl) (b3 q).1 (b3 q).2).2]
          simp [sp_ue, sp_hA, sp_hB, sp_i, q, sp_nd_n1 a1]
      rw [eg]; exact ⟨u, rfl⟩
    · obtain ⟨a1, a2, b3⟩ := sp_x26 hO hT e
      have u := md_eU (f := f) hy hn (show 1 ≤ d by omega) s (by rw [e]; decide) (by rw [e]; decide) (fun _ _ => (hA (by rw [e]; rfl) a1 a2).1.trans (by rw [show (sp_sc nt f (nt 1 n.toNatClampNeg) s) = ((sp_sc nt f (nt 1 n.toNatClampNeg) s).1, s) from Prod.ext rfl (hA (by rw [e]; rfl) a1 a2).2])) (fun _ _ q => (hB (by rw [e]; rfl) (b3 q).1 (b3 q).2).1.trans (by rw [show (sp_sc nt f (nt 2 n.toNatClampNeg) s) = ((sp_sc nt f (nt 2 n.toNatClampNeg) s).1, s) from Prod.ext rfl (hB (by rw [e]; rfl) (b3 q).1 (b3 q).2).2]))
      have eg : sp_sc nt (f + 1) n s = (sp_ue nt f s (nt 0 n.toNatClampNeg) (nt 1 n.toNatClampNeg) (nt 2 n.toNatClampNeg), s) := by
        rw [sp_sc_s nt f n s, e]
        show sp_th (sp_sc nt f (nt 1 n.toNatClampNeg) s) (fun s => if (nt 2 n.toNatClampNeg) = -1 then (true, s) else sp_sc nt f (nt 2 n.toNatClampNeg) s) = _
        by_cases q : (nt 2 n.toNatClampNeg) = -1
        · simp only [if_pos q]
          rw [sp_th_s (hA (by rw [e]; rfl) a1 a2).2 _ rfl]
          simp [sp_ue, sp_hA, sp_hB, sp_i, q, sp_nd_n1 a1]
        · simp only [if_neg q]
          rw [sp_th_s (hA (by rw [e]; rfl) a1 a2).2 _ (hB (by rw [e]; rfl) (b3 q).1 (b3 q).2).2]
          simp [sp_ue, sp_hA, sp_hB, sp_i, q, sp_nd_n1 a1]
      rw [eg]; exact ⟨u, rfl⟩
    · obtain ⟨a1, a2, b3⟩ := sp_x27 hO hT e
      have u := md_eU (f := f) hy hn (show 1 ≤ d by omega) s (by rw [e]; decide) (by rw [e]; decide) (fun _ _ => (hA (by rw [e]; rfl) a1 a2).1.trans (by rw [show (sp_sc nt f (nt 1 n.toNatClampNeg) s) = ((sp_sc nt f (nt 1 n.toNatClampNeg) s).1, s) from Prod.ext rfl (hA (by rw [e]; rfl) a1 a2).2])) (fun _ _ q => (hB (by rw [e]; rfl) (b3 q).1 (b3 q).2).1.trans (by rw [show (sp_sc nt f (nt 2 n.toNatClampNeg) s) = ((sp_sc nt f (nt 2 n.toNatClampNeg) s).1, s) from Prod.ext rfl (hB (by rw [e]; rfl) (b3 q).1 (b3 q).2).2]))
      have eg : sp_sc nt (f + 1) n s = (sp_ue nt f s (nt 0 n.toNatClampNeg) (nt 1 n.toNatClampNeg) (nt 2 n.toNatClampNeg), s) := by
        rw [sp_sc_s nt f n s, e]
        show sp_th (sp_sc nt f (nt 1 n.toNatClampNeg) s) (fun s => if (nt 2 n.toNatClampNeg) = -1 then (true, s) else sp_sc nt f (nt 2 n.toNatClampNeg) s) = _
        by_cases q : (nt 2 n.toNatClampNeg) = -1
        · simp only [if_pos q]
          rw [sp_th_s (hA (by rw [e]; rfl) a1 a2).2 _ rfl]
          simp [sp_ue, sp_hA, sp_hB, sp_i, q, sp_nd_n1 a1]
        · simp only [if_neg q]
          rw [sp_th_s (hA (by rw [e]; rfl) a1 a2).2 _ (hB (by rw [e]; rfl) (b3 q).1 (b3 q).2).2]
          simp [sp_ue, sp_hA, sp_hB, sp_i, q, sp_nd_n1 a1]
      rw [eg]; exact ⟨u, rfl⟩
    · obtain ⟨a1, a2, b3⟩ := sp_x28 hO hT e
      have u := md_eU (f := f) hy hn (show 1 ≤ d by omega) s (by rw [e]; decide) (by rw [e]; decide) (fun _ _ => (hA (by rw [e]; rfl) a1 a2).1.trans (by rw [show (sp_sc nt f (nt 1 n.toNatClampNeg) s) = ((sp_sc nt f (nt 1 n.toNatClampNeg) s).1, s) from Prod.ext rfl (hA (by rw [e]; rfl) a1 a2).2])) (fun _ _ q => (hB (by rw [e]; rfl) (b3 q).1 (b3 q).2).1.trans (by rw [show (sp_sc nt f (nt 2 n.toNatClampNeg) s) = ((sp_sc nt f (nt 2 n.toNatClampNeg) s).1, s) from Prod.ext rfl (hB (by rw [e]; rfl) (b3 q).1 (b3 q).2).2]))
      have eg : sp_sc nt (f + 1) n s = (sp_ue nt f s (nt 0 n.toNatClampNeg) (nt 1 n.toNatClampNeg) (nt 2 n.toNatClampNeg), s) := by
        rw [sp_sc_s nt f n s, e]
        show sp_th (sp_sc nt f (nt 1 n.toNatClampNeg) s) (fun s => if (nt 2 n.toNatClampNeg) = -1 then (true, s) else sp_sc nt f (nt 2 n.toNatClampNeg) s) = _
        by_cases q : (nt 2 n.toNatClampNeg) = -1
        · simp only [if_pos q]
          rw [sp_th_s (hA (by rw [e]; rfl) a1 a2).2 _ rfl]
          simp [sp_ue, sp_hA, sp_hB, sp_i, q, sp_nd_n1 a1]
        · simp only [if_neg q]
          rw [sp_th_s (hA (by rw [e]; rfl) a1 a2).2 _ (hB (by rw [e]; rfl) (b3 q).1 (b3 q).2).2]
          simp [sp_ue, sp_hA, sp_hB, sp_i, q, sp_nd_n1 a1]
      rw [eg]; exact ⟨u, rfl⟩
    · obtain ⟨a1, a2, b3⟩ := sp_x29 hO hT e
      have u := md_eU (f := f) hy hn (show 1 ≤ d by omega) s (by rw [e]; decide) (by rw [e]; decide) (fun _ _ => (hA (by rw [e]; rfl) a1 a2).1.trans (by rw [show (sp_sc nt f (nt 1 n.toNatClampNeg) s) = ((sp_sc nt f (nt 1 n.toNatClampNeg) s).1, s) from Prod.ext rfl (hA (by rw [e]; rfl) a1 a2).2])) (fun _ _ q => (hB (by rw [e]; rfl) (b3 q).1 (b3 q).2).1.trans (by rw [show (sp_sc nt f (nt 2 n.toNatClampNeg) s) = ((sp_sc nt f (nt 2 n.toNatClampNeg) s).1, s) from Prod.ext rfl (hB (by rw [e]; rfl) (b3 q).1 (b3 q).2).2]))
      have eg : sp_sc nt (f + 1) n s = (sp_ue nt f s (nt 0 n.toNatClampNeg) (nt 1 n.toNatClampNeg) (nt 2 n.toNatClampNeg), s) := by
        rw [sp_sc_s nt f n s, e]
        show sp_th (sp_sc nt f (nt 1 n.toNatClampNeg) s) (fun s => if (nt 2 n.toNatClampNeg) = -1 then (true, s) else sp_sc nt f (nt 2 n.toNatClampNeg) s) = _
        by_cases q : (nt 2 n.toNatClampNeg) = -1
        · simp only [if_pos q]
          rw [sp_th_s (hA (by rw [e]; rfl) a1 a2).2 _ rfl]
          simp [sp_ue, sp_hA, sp_hB, sp_i, q, sp_nd_n1 a1]
        · simp only [if_neg q]
          rw [sp_th_s (hA (by rw [e]; rfl) a1 a2).2 _ (hB (by rw [e]; rfl) (b3 q).1 (b3 q).2).2]
          simp [sp_ue, sp_hA, sp_hB, sp_i, q, sp_nd_n1 a1]
      rw [eg]; exact ⟨u, rfl⟩
    · obtain ⟨a1, a2, b3⟩ := sp_x30 hO hT e
      have u := md_eU (f := f) hy hn (show 1 ≤ d by omega) s (by rw [e]; decide) (by rw [e]; decide) (fun _ _ => (hA (by rw [e]; rfl) a1 a2).1.trans (by rw [show (sp_sc nt f (nt 1 n.toNatClampNeg) s) = ((sp_sc nt f (nt 1 n.toNatClampNeg) s).1, s) from Prod.ext rfl (hA (by rw [e]; rfl) a1 a2).2])) (fun _ _ q => (hB (by rw [e]; rfl) (b3 q).1 (b3 q).2).1.trans (by rw [show (sp_sc nt f (nt 2 n.toNatClampNeg) s) = ((sp_sc nt f (nt 2 n.toNatClampNeg) s).1, s) from Prod.ext rfl (hB (by rw [e]; rfl) (b3 q).1 (b3 q).2).2]))
      have eg : sp_sc nt (f + 1) n s = (sp_ue nt f s (nt 0 n.toNatClampNeg) (nt 1 n.toNatClampNeg) (nt 2 n.toNatClampNeg), s) := by
        rw [sp_sc_s nt f n s, e]
        show sp_th (sp_sc nt f (nt 1 n.toNatClampNeg) s) (fun s => if (nt 2 n.toNatClampNeg) = -1 then (true, s) else sp_sc nt f (nt 2 n.toNatClampNeg) s) = _
        by_cases q : (nt 2 n.toNatClampNeg) = -1
        · simp only [if_pos q]
          rw [sp_th_s (hA (by rw [e]; rfl) a1 a2).2 _ rfl]
          simp [sp_ue, sp_hA, sp_hB, sp_i, q, sp_nd_n1 a1]
        · simp only [if_neg q]
          rw [sp_th_s (hA (by rw [e]; rfl) a1 a2).2 _ (hB (by rw [e]; rfl) (b3 q).1 (b3 q).2).2]
          simp [sp_ue, sp_hA, sp_hB, sp_i, q, sp_nd_n1 a1]
      rw [eg]; exact ⟨u, rfl⟩
    · obtain ⟨a1, a2, b3⟩ := sp_x31 hO hT e
      have u := md_eU (f := f) hy hn (show 1 ≤ d by omega) s (by rw [e]; decide) (by rw [e]; decide) (fun _ _ => (hA (by rw [e]; rfl) a1 a2).1.trans (by rw [show (sp_sc nt f (nt 1 n.toNatClampNeg) s) = ((sp_sc nt f (nt 1 n.toNatClampNeg) s).1, s) from Prod.ext rfl (hA (by rw [e]; rfl) a1 a2).2])) (fun _ _ q => (hB (by rw [e]; rfl) (b3 q).1 (b3 q).2).1.trans (by rw [show (sp_sc nt f (nt 2 n.toNatClampNeg) s) = ((sp_sc nt f (nt 2 n.toNatClampNeg) s).1, s) from Prod.ext rfl (hB (by rw [e]; rfl) (b3 q).1 (b3 q).2).2]))
      have eg : sp_sc nt (f + 1) n s = (sp_ue nt f s (nt 0 n.toNatClampNeg) (nt 1 n.toNatClampNeg) (nt 2 n.toNatClampNeg), s) := by
        rw [sp_sc_s nt f n s, e]
        show sp_th (sp_sc nt f (nt 1 n.toNatClampNeg) s) (fun s => if (nt 2 n.toNatClampNeg) = -1 then (true, s) else sp_sc nt f (nt 2 n.toNatClampNeg) s) = _
        by_cases q : (nt 2 n.toNatClampNeg) = -1
        · simp only [if_pos q]
          rw [sp_th_s (hA (by rw [e]; rfl) a1 a2).2 _ rfl]
          simp [sp_ue, sp_hA, sp_hB, sp_i, q, sp_nd_n1 a1]
        · simp only [if_neg q]
          rw [sp_th_s (hA (by rw [e]; rfl) a1 a2).2 _ (hB (by rw [e]; rfl) (b3 q).1 (b3 q).2).2]
          simp [sp_ue, sp_hA, sp_hB, sp_i, q, sp_nd_n1 a1]
      rw [eg]; exact ⟨u, rfl⟩
    · obtain ⟨a1, a2, b3⟩ := sp_x32 hO hT e
      have u := md_eU (f := f) hy hn (show 1 ≤ d by omega) s (by rw [e]; decide) (by rw [e]; decide) (fun _ _ => (hA (by rw [e]; rfl) a1 a2).1.trans (by rw [show (sp_sc nt f (nt 1 n.toNatClampNeg) s) = ((sp_sc nt f (nt 1 n.toNatClampNeg) s).1, s) from Prod.ext rfl (hA (by rw [e]; rfl) a1 a2).2])) (fun _ _ q => (hB (by rw [e]; rfl) (b3 q).1 (b3 q).2).1.trans (by rw [show (sp_sc nt f (nt 2 n.toNatClampNeg) s) = ((sp_sc nt f (nt 2 n.toNatClampNeg) s).1, s) from Prod.ext rfl (hB (by rw [e]; rfl) (b3 q).1 (b3 q).2).2]))
      have eg : sp_sc nt (f + 1) n s = (sp_ue nt f s (nt 0 n.toNatClampNeg) (nt 1 n.toNatClampNeg) (nt 2 n.toNatClampNeg), s) := by
        rw [sp_sc_s nt f n s, e]
        show sp_th (sp_sc nt f (nt 1 n.toNatClampNeg) s) (fun s => if (nt 2 n.toNatClampNeg) = -1 then (true, s) else sp_sc nt f (nt 2 n.toNatClampNeg) s) = _
        by_cases q : (nt 2 n.toNatClampNeg) = -1
        · simp only [if_pos q]
          rw [sp_th_s (hA (by rw [e]; rfl) a1 a2).2 _ rfl]
          simp [sp_ue, sp_hA, sp_hB, sp_i, q, sp_nd_n1 a1]
        · simp only [if_neg q]
          rw [sp_th_s (hA (by rw [e]; rfl) a1 a2).2 _ (hB (by rw [e]; rfl) (b3 q).1 (b3 q).2).2]
          simp [sp_ue, sp_hA, sp_hB, sp_i, q, sp_nd_n1 a1]
      rw [eg]; exact ⟨u, rfl⟩
    · obtain ⟨a1, a2, b3⟩ := sp_x33 hO hT e
      have u := md_eU (f := f) hy hn (show 1 ≤ d by omega) s (by rw [e]; decide) (by rw [e]; decide) (fun _ _ => (hA (by rw [e]; rfl) a1 a2).1.trans (by rw [show (sp_sc nt f (nt 1 n.toNatClampNeg) s) = ((sp_sc nt f (nt 1 n.toNatClampNeg) s).1, s) from Prod.ext rfl (hA (by rw [e]; rfl) a1 a2).2])) (fun _ _ q => (hB (by rw [e]; rfl) (b3 q).1 (b3 q).2).1.trans (by rw [show (sp_sc nt f (nt 2 n.toNatClampNeg) s) = ((sp_sc nt f (nt 2 n.toNatClampNeg) s).1, s) from Prod.ext rfl (hB (by rw [e]; rfl) (b3 q).1 (b3 q).2).2]))
      have eg : sp_sc nt (f + 1) n s = (sp_ue nt f s (nt 0 n.toNatClampNeg) (nt 1 n.toNatClampNeg) (nt 2 n.toNatClampNeg), s) := by
        rw [sp_sc_s nt f n s, e]
        show sp_th (sp_sc nt f (nt 1 n.toNatClampNeg) s) (fun s => if (nt 2 n.toNatClampNeg) = -1 then (true, s) else sp_sc nt f (nt 2 n.toNatClampNeg) s) = _
        by_cases q : (nt 2 n.toNatClampNeg) = -1
        · simp only [if_pos q]
          rw [sp_th_s (hA (by rw [e]; rfl) a1 a2).2 _ rfl]
          simp [sp_ue, sp_hA, sp_hB, sp_i, q, sp_nd_n1 a1]
        · simp only [if_neg q]
          rw [sp_th_s (hA (by rw [e]; rfl) a1 a2).2 _ (hB (by rw [e]; rfl) (b3 q).1 (b3 q).2).2]
          simp [sp_ue, sp_hA, sp_hB, sp_i, q, sp_nd_n1 a1]
      rw [eg]; exact ⟨u, rfl⟩
    · obtain ⟨a1, a2⟩ := sp_x34 hO hT e
      have u := md_eU (f := f) hy hn (show 1 ≤ d by omega) s (by rw [e]; decide) (by rw [e]; decide) (fun _ _ => (hA (by rw [e]; rfl) a1 a2).1.trans (by rw [show (sp_sc nt f (nt 1 n.toNatClampNeg) s) = ((sp_sc nt f (nt 1 n.toNatClampNeg) s).1, s) from Prod.ext rfl (hA (by rw [e]; rfl) a1 a2).2])) (fun q q2 _ => absurd q (by rw [e] at q2 ⊢; revert q2; decide))
      have eg : sp_sc nt (f + 1) n s = (sp_ue nt f s (nt 0 n.toNatClampNeg) (nt 1 n.toNatClampNeg) (nt 2 n.toNatClampNeg), s) := by
        rw [sp_sc_s nt f n s, e]
        show sp_sc nt f (nt 1 n.toNatClampNeg) s = _
        refine Prod.ext ?_ (hA (by rw [e]; rfl) a1 a2).2
        simp [sp_ue, sp_hA, sp_hB, sp_i, sp_nd_n1 a1]
      rw [eg]; exact ⟨u, rfl⟩
    · obtain ⟨a1, a2, b3⟩ := sp_x35 hO hT e
      have u := md_eU (f := f) hy hn (show 1 ≤ d by omega) s (by rw [e]; decide) (by rw [e]; decide) (fun _ _ => (hA (by rw [e]; rfl) a1 a2).1.trans (by rw [show (sp_sc nt f (nt 1 n.toNatClampNeg) s) = ((sp_sc nt f (nt 1 n.toNatClampNeg) s).1, s) from Prod.ext rfl (hA (by rw [e]; rfl) a1 a2).2])) (fun _ _ q => (hB (by rw [e]; rfl) (b3 q).1 (b3 q).2).1.trans (by rw [show (sp_sc nt f (nt 2 n.toNatClampNeg) s) = ((sp_sc nt f (nt 2 n.toNatClampNeg) s).1, s) from Prod.ext rfl (hB (by rw [e]; rfl) (b3 q).1 (b3 q).2).2]))
      have eg : sp_sc nt (f + 1) n s = (sp_ue nt f s (nt 0 n.toNatClampNeg) (nt 1 n.toNatClampNeg) (nt 2 n.toNatClampNeg), s) := by
        rw [sp_sc_s nt f n s, e]
        show sp_th (sp_sc nt f (nt 1 n.toNatClampNeg) s) (fun s => if (nt 2 n.toNatClampNeg) = -1 then (true, s) else sp_sc nt f (nt 2 n.toNatClampNeg) s) = _
        by_cases q : (nt 2 n.toNatClampNeg) = -1
        · simp only [if_pos q]
          rw [sp_th_s (hA (by rw [e]; rfl) a1 a2).2 _ rfl]
          simp [sp_ue, sp_hA, sp_hB, sp_i, q, sp_nd_n1 a1]
        · simp only [if_neg q]
          rw [sp_th_s (hA (by rw [e]; rfl) a1 a2).2 _ (hB (by rw [e]; rfl) (b3 q).1 (b3 q).2).2]
          simp [sp_ue, sp_hA, sp_hB, sp_i, q, sp_nd_n1 a1]
      rw [eg]; exact ⟨u, rfl⟩
    · obtain ⟨a1, a2, b3⟩ := sp_x36 hO hT e
      have u := md_eU (f := f) hy hn (show 1 ≤ d by omega) s (by rw [e]; decide) (by rw [e]; decide) (fun _ _ => (hA (by rw [e]; rfl) a1 a2).1.trans (by rw [show (sp_sc nt f (nt 1 n.toNatClampNeg) s) = ((sp_sc nt f (nt 1 n.toNatClampNeg) s).1, s) from Prod.ext rfl (hA (by rw [e]; rfl) a1 a2).2])) (fun _ _ q => (hB (by rw [e]; rfl) (b3 q).1 (b3 q).2).1.trans (by rw [show (sp_sc nt f (nt 2 n.toNatClampNeg) s) = ((sp_sc nt f (nt 2 n.toNatClampNeg) s).1, s) from Prod.ext rfl (hB (by rw [e]; rfl) (b3 q).1 (b3 q).2).2]))
      have eg : sp_sc nt (f + 1) n s = (sp_ue nt f s (nt 0 n.toNatClampNeg) (nt 1 n.toNatClampNeg) (nt 2 n.toNatClampNeg), s) := by
        rw [sp_sc_s nt f n s, e]
        show sp_th (sp_sc nt f (nt 1 n.toNatClampNeg) s) (fun s => if (nt 2 n.toNatClampNeg) = -1 then (true, s) else sp_sc nt f (nt 2 n.toNatClampNeg) s) = _
        by_cases q : (nt 2 n.toNatClampNeg) = -1
        · simp only [if_pos q]
          rw [sp_th_s (hA (by rw [e]; rfl) a1 a2).2 _ rfl]
          simp [sp_ue, sp_hA, sp_hB, sp_i, q, sp_nd_n1 a1]
        · simp only [if_neg q]
          rw [sp_th_s (hA (by rw [e]; rfl) a1 a2).2 _ (hB (by rw [e]; rfl) (b3 q).1 (b3 q).2).2]
          simp [sp_ue, sp_hA, sp_hB, sp_i, q, sp_nd_n1 a1]
      rw [eg]; exact ⟨u, rfl⟩
    · obtain ⟨a1, a2, b3⟩ := sp_x37 hO hT e
      have u := md_eU (f := f) hy hn (show 1 ≤ d by omega) s (by rw [e]; decide) (by rw [e]; decide) (fun _ _ => (hA (by rw [e]; rfl) a1 a2).1.trans (by rw [show (sp_sc nt f (nt 1 n.toNatClampNeg) s) = ((sp_sc nt f (nt 1 n.toNatClampNeg) s).1, s) from Prod.ext rfl (hA (by rw [e]; rfl) a1 a2).2])) (fun _ _ q => (hB (by rw [e]; rfl) (b3 q).1 (b3 q).2).1.trans (by rw [show (sp_sc nt f (nt 2 n.toNatClampNeg) s) = ((sp_sc nt f (nt 2 n.toNatClampNeg) s).1, s) from Prod.ext rfl (hB (by rw [e]; rfl) (b3 q).1 (b3 q).2).2]))
      have eg : sp_sc nt (f + 1) n s = (sp_ue nt f s (nt 0 n.toNatClampNeg) (nt 1 n.toNatClampNeg) (nt 2 n.toNatClampNeg), s) := by
        rw [sp_sc_s nt f n s, e]
        show sp_th (sp_sc nt f (nt 1 n.toNatClampNeg) s) (fun s => if (nt 2 n.toNatClampNeg) = -1 then (true, s) else sp_sc nt f (nt 2 n.toNatClampNeg) s) = _
        by_cases q : (nt 2 n.toNatClampNeg) = -1
        · simp only [if_pos q]
          rw [sp_th_s (hA (by rw [e]; rfl) a1 a2).2 _ rfl]
          simp [sp_ue, sp_hA, sp_hB, sp_i, q, sp_nd_n1 a1]
        · simp only [if_neg q]
          rw [sp_th_s (hA (by rw [e]; rfl) a1 a2).2 _ (hB (by rw [e]; rfl) (b3 q).1 (b3 q).2).2]
          simp [sp_ue, sp_hA, sp_hB, sp_i, q, sp_nd_n1 a1]
      rw [eg]; exact ⟨u, rfl⟩
    · obtain ⟨a1, a2, b3⟩ := sp_x38 hO hT e
      have u := md_eU (f := f) hy hn (show 1 ≤ d by omega) s (by rw [e]; decide) (by rw [e]; decide) (fun _ _ => (hA (by rw [e]; rfl) a1 a2).1.trans (by rw [show (sp_sc nt f (nt 1 n.toNatClampNeg) s) = ((sp_sc nt f (nt 1 n.toNatClampNeg) s).1, s) from Prod.ext rfl (hA (by rw [e]; rfl) a1 a2).2])) (fun _ _ q => (hB (by rw [e]; rfl) (b3 q).1 (b3 q).2).1.trans (by rw [show (sp_sc nt f (nt 2 n.toNatClampNeg) s) = ((sp_sc nt f (nt 2 n.toNatClampNeg) s).1, s) from Prod.ext rfl (hB (by rw [e]; rfl) (b3 q).1 (b3 q).2).2]))
      have eg : sp_sc nt (f + 1) n s = (sp_ue nt f s (nt 0 n.toNatClampNeg) (nt 1 n.toNatClampNeg) (nt 2 n.toNatClampNeg), s) := by
        rw [sp_sc_s nt f n s, e]
        show sp_th (sp_sc nt f (nt 1 n.toNatClampNeg) s) (fun s => if (nt 2 n.toNatClampNeg) = -1 then (true, s) else sp_sc nt f (nt 2 n.toNatClampNeg) s) = _
        by_cases q : (nt 2 n.toNatClampNeg) = -1
        · simp only [if_pos q]
          rw [sp_th_s (hA (by rw [e]; rfl) a1 a2).2 _ rfl]
          simp [sp_ue, sp_hA, sp_hB, sp_i, q, sp_nd_n1 a1]
        · simp only [if_neg q]
          rw [sp_th_s (hA (by rw [e]; rfl) a1 a2).2 _ (hB (by rw [e]; rfl) (b3 q).1 (b3 q).2).2]
          simp [sp_ue, sp_hA, sp_hB, sp_i, q, sp_nd_n1 a1]
      rw [eg]; exact ⟨u, rfl⟩
    · obtain ⟨a1, a2, b3⟩ := sp_x39 hO hT e
      have u := md_eU (f := f) hy hn (show 1 ≤ d by omega) s (by rw [e]; decide) (by rw [e]; decide) (fun _ _ => (hA (by rw [e]; rfl) a1 a2).1.trans (by rw [show (sp_sc nt f (nt 1 n.toNatClampNeg) s) = ((sp_sc nt f (nt 1 n.toNatClampNeg) s).1, s) from Prod.ext rfl (hA (by rw [e]; rfl) a1 a2).2])) (fun _ _ q => (hB (by rw [e]; rfl) (b3 q).1 (b3 q).2).1.trans (by rw [show (sp_sc nt f (nt 2 n.toNatClampNeg) s) = ((sp_sc nt f (nt 2 n.toNatClampNeg) s).1, s) from Prod.ext rfl (hB (by rw [e]; rfl) (b3 q).1 (b3 q).2).2]))
      have eg : sp_sc nt (f + 1) n s = (sp_ue nt f s (nt 0 n.toNatClampNeg) (nt 1 n.toNatClampNeg) (nt 2 n.toNatClampNeg), s) := by
        rw [sp_sc_s nt f n s, e]
        show sp_th (sp_sc nt f (nt 1 n.toNatClampNeg) s) (fun s => if (nt 2 n.toNatClampNeg) = -1 then (true, s) else sp_sc nt f (nt 2 n.toNatClampNeg) s) = _
        by_cases q : (nt 2 n.toNatClampNeg) = -1
        · simp only [if_pos q]
          rw [sp_th_s (hA (by rw [e]; rfl) a1 a2).2 _ rfl]
          simp [sp_ue, sp_hA, sp_hB, sp_i, q, sp_nd_n1 a1]
        · simp only [if_neg q]
          rw [sp_th_s (hA (by rw [e]; rfl) a1 a2).2 _ (hB (by rw [e]; rfl) (b3 q).1 (b3 q).2).2]
          simp [sp_ue, sp_hA, sp_hB, sp_i, q, sp_nd_n1 a1]
      rw [eg]; exact ⟨u, rfl⟩
    · obtain ⟨a1, a2, b3⟩ := sp_x40 hO hT e
      have u := md_eU (f := f) hy hn (show 1 ≤ d by omega) s (by rw [e]; decide) (by rw [e]; decide) (fun _ _ => (hA (by rw [e]; rfl) a1 a2).1.trans (by rw [show (sp_sc nt f (nt 1 n.toNatClampNeg) s) = ((sp_sc nt f (nt 1 n.toNatClampNeg) s).1, s) from Prod.ext rfl (hA (by rw [e]; rfl) a1 a2).2])) (fun _ _ q => (hB (by rw [e]; rfl) (b3 q).1 (b3 q).2).1.trans (by rw [show (sp_sc nt f (nt 2 n.toNatClampNeg) s) = ((sp_sc nt f (nt 2 n.toNatClampNeg) s).1, s) from Prod.ext rfl (hB (by rw [e]; rfl) (b3 q).1 (b3 q).2).2]))
      have eg : sp_sc nt (f + 1) n s = (sp_ue nt f s (nt 0 n.toNatClampNeg) (nt 1 n.toNatClampNeg) (nt 2 n.toNatClampNeg), s) := by
        rw [sp_sc_s nt f n s, e]
        show sp_th (sp_sc nt f (nt 1 n.toNatClampNeg) s) (fun s => if (nt 2 n.toNatClampNeg) = -1 then (true, s) else sp_sc nt f (nt 2 n.toNatClampNeg) s) = _
        by_cases q : (nt 2 n.toNatClampNeg) = -1
        · simp only [if_pos q]
          rw [sp_th_s (hA (by rw [e]; rfl) a1 a2).2 _ rfl]
          simp [sp_ue, sp_hA, sp_hB, sp_i, q, sp_nd_n1 a1]
        · simp only [if_neg q]
          rw [sp_th_s (hA (by rw [e]; rfl) a1 a2).2 _ (hB (by rw [e]; rfl) (b3 q).1 (b3 q).2).2]
          simp [sp_ue, sp_hA, sp_hB, sp_i, q, sp_nd_n1 a1]
      rw [eg]; exact ⟨u, rfl⟩
    · obtain ⟨a1, a2, b3⟩ := sp_x41 hO hT e
      have u := md_eU (f := f) hy hn (show 1 ≤ d by omega) s (by rw [e]; decide) (by rw [e]; decide) (fun _ _ => (hA (by rw [e]; rfl) a1 a2).1.trans (by rw [show (sp_sc nt f (nt 1 n.toNatClampNeg) s) = ((sp_sc nt f (nt 1 n.toNatClampNeg) s).1, s) from Prod.ext rfl (hA (by rw [e]; rfl) a1 a2).2])) (fun _ _ q => (hB (by rw [e]; rfl) (b3 q).1 (b3 q).2).1.trans (by rw [show (sp_sc nt f (nt 2 n.toNatClampNeg) s) = ((sp_sc nt f (nt 2 n.toNatClampNeg) s).1, s) from Prod.ext rfl (hB (by rw [e]; rfl) (b3 q).1 (b3 q).2).2]))
      have eg : sp_sc nt (f + 1) n s = (sp_ue nt f s (nt 0 n.toNatClampNeg) (nt 1 n.toNatClampNeg) (nt 2 n.toNatClampNeg), s) := by
        rw [sp_sc_s nt f n s, e]
        show sp_th (sp_sc nt f (nt 1 n.toNatClampNeg) s) (fun s => if (nt 2 n.toNatClampNeg) = -1 then (true, s) else sp_sc nt f (nt 2 n.toNatClampNeg) s) = _
        by_cases q : (nt 2 n.toNatClampNeg) = -1
        · simp only [if_pos q]
          rw [sp_th_s (hA (by rw [e]; rfl) a1 a2).2 _ rfl]
          simp [sp_ue, sp_hA, sp_hB, sp_i, q, sp_nd_n1 a1]
        · simp only [if_neg q]
          rw [sp_th_s (hA (by rw [e]; rfl) a1 a2).2 _ (hB (by rw [e]; rfl) (b3 q).1 (b3 q).2).2]
          simp [sp_ue, sp_hA, sp_hB, sp_i, q, sp_nd_n1 a1]
      rw [eg]; exact ⟨u, rfl⟩
    · obtain ⟨a1, a2, b3⟩ := sp_x42 hO hT e
      have u := md_eU (f := f) hy hn (show 1 ≤ d by omega) s (by rw [e]; decide) (by rw [e]; decide) (fun _ _ => (hA (by rw [e]; rfl) a1 a2).1.trans (by rw [show (sp_sc nt f (nt 1 n.toNatClampNeg) s) = ((sp_sc nt f (nt 1 n.toNatClampNeg) s).1, s) from Prod.ext rfl (hA (by rw [e]; rfl) a1 a2).2])) (fun _ _ q => (hB (by rw [e]; rfl) (b3 q).1 (b3 q).2).1.trans (by rw [show (sp_sc nt f (nt 2 n.toNatClampNeg) s) = ((sp_sc nt f (nt 2 n.toNatClampNeg) s).1, s) from Prod.ext rfl (hB (by rw [e]; rfl) (b3 q).1 (b3 q).2).2]))
      have eg : sp_sc nt (f + 1) n s = (sp_ue nt f s (nt 0 n.toNatClampNeg) (nt 1 n.toNatClampNeg) (nt 2 n.toNatClampNeg), s) := by
        rw [sp_sc_s nt f n s, e]
        show sp_th (sp_sc nt f (nt 1 n.toNatClampNeg) s) (fun s => if (nt 2 n.toNatClampNeg) = -1 then (true, s) else sp_sc nt f (nt 2 n.toNatClampNeg) s) = _
        by_cases q : (nt 2 n.toNatClampNeg) = -1
        · simp only [if_pos q]
          rw [sp_th_s (hA (by rw [e]; rfl) a1 a2).2 _ rfl]
          simp [sp_ue, sp_hA, sp_hB, sp_i, q, sp_nd_n1 a1]
        · simp only [if_neg q]
          rw [sp_th_s (hA (by rw [e]; rfl) a1 a2).2 _ (hB (by rw [e]; rfl) (b3 q).1 (b3 q).2).2]
          simp [sp_ue, sp_hA, sp_hB, sp_i, q, sp_nd_n1 a1]
      rw [eg]; exact ⟨u, rfl⟩
    · obtain ⟨a1, a2, b3⟩ := sp_x43 hO hT e
      have u := md_eU (f := f) hy hn (show 1 ≤ d by omega) s (by rw [e]; decide) (by rw [e]; decide) (fun _ _ => (hA (by rw [e]; rfl) a1 a2).1.trans (by rw [show (sp_sc nt f (nt 1 n.toNatClampNeg) s) = ((sp_sc nt f (nt 1 n.toNatClampNeg) s).1, s) from Prod.ext rfl (hA (by rw [e]; rfl) a1 a2).2])) (fun _ _ q => (hB (by rw [e]; rfl) (b3 q).1 (b3 q).2).1.trans (by rw [show (sp_sc nt f (nt 2 n.toNatClampNeg) s) = ((sp_sc nt f (nt 2 n.toNatClampNeg) s).1, s) from Prod.ext rfl (hB (by rw [e]; rfl) (b3 q).1 (b3 q).2).2]))
      have eg : sp_sc nt (f + 1) n s = (sp_ue nt f s (nt 0 n.toNatClampNeg) (nt 1 n.toNatClampNeg) (nt 2 n.toNatClampNeg), s) := by
        rw [sp_sc_s nt f n s, e]
        show sp_th (sp_sc nt f (nt 1 n.toNatClampNeg) s) (fun s => if (nt 2 n.toNatClampNeg) = -1 then (true, s) else sp_sc nt f (nt 2 n.toNatClampNeg) s) = _
        by_cases q : (nt 2 n.toNatClampNeg) = -1
        · simp only [if_pos q]
          rw [sp_th_s (hA (by rw [e]; rfl) a1 a2).2 _ rfl]
          simp [sp_ue, sp_hA, sp_hB, sp_i, q, sp_nd_n1 a1]
        · simp only [if_neg q]
          rw [sp_th_s (hA (by rw [e]; rfl) a1 a2).2 _ (hB (by rw [e]; rfl) (b3 q).1 (b3 q).2).2]
          simp [sp_ue, sp_hA, sp_hB, sp_i, q, sp_nd_n1 a1]
      rw [eg]; exact ⟨u, rfl⟩
    · obtain ⟨a1, a2, b3⟩ := sp_x44 hO hT e
      have u := md_eU (f := f) hy hn (show 1 ≤ d by omega) s (by rw [e]; decide) (by rw [e]; decide) (fun _ _ => (hA (by rw [e]; rfl) a1 a2).1.trans (by rw [show (sp_sc nt f (nt 1 n.toNatClampNeg) s) = ((sp_sc nt f (nt 1 n.toNatClampNeg) s).1, s) from Prod.ext rfl (hA (by rw [e]; rfl) a1 a2).2])) (fun _ _ q => (hB (by rw [e]; rfl) (b3 q).1 (b3 q).2).1.trans (by rw [show (sp_sc nt f (nt 2 n.toNatClampNeg) s) = ((sp_sc nt f (nt 2 n.toNatClampNeg) s).1, s) from Prod.ext rfl (hB (by rw [e]; rfl) (b3 q).1 (b3 q).2).2]))
      have eg : sp_sc nt (f + 1) n s = (sp_ue nt f s (nt 0 n.toNatClampNeg) (nt 1 n.toNatClampNeg) (nt 2 n.toNatClampNeg), s) := by
        rw [sp_sc_s nt f n s, e]
        show sp_th (sp_sc nt f (nt 1 n.toNatClampNeg) s) (fun s => if (nt 2 n.toNatClampNeg) = -1 then (true, s) else sp_sc nt f (nt 2 n.toNatClampNeg) s) = _
        by_cases q : (nt 2 n.toNatClampNeg) = -1
        · simp only [if_pos q]
          rw [sp_th_s (hA (by rw [e]; rfl) a1 a2).2 _ rfl]
          simp [sp_ue, sp_hA, sp_hB, sp_i, q, sp_nd_n1 a1]
        · simp only [if_neg q]
          rw [sp_th_s (hA (by rw [e]; rfl) a1 a2).2 _ (hB (by rw [e]; rfl) (b3 q).1 (b3 q).2).2]
          simp [sp_ue, sp_hA, sp_hB, sp_i, q, sp_nd_n1 a1]
      rw [eg]; exact ⟨u, rfl⟩
    · obtain ⟨a1, a2, b3⟩ := sp_x45 hO hT e
      have u := md_eU (f := f) hy hn (show 1 ≤ d by omega) s (by rw [e]; decide) (by rw [e]; decide) (fun _ _ => (hA (by rw [e]; rfl) a1 a2).1.trans (by rw [show (sp_sc nt f (nt 1 n.toNatClampNeg) s) = ((sp_sc nt f (nt 1 n.toNatClampNeg) s).1, s) from Prod.ext rfl (hA (by rw [e]; rfl) a1 a2).2])) (fun _ _ q => (hB (by rw [e]; rfl) (b3 q).1 (b3 q).2).1.trans (by rw [show (sp_sc nt f (nt 2 n.toNatClampNeg) s) = ((sp_sc nt f (nt 2 n.toNatClampNeg) s).1, s) from Prod.ext rfl (hB (by rw [e]; rfl) (b3 q).1 (b3 q).2).2]))
      have eg : sp_sc nt (f + 1) n s = (sp_ue nt f s (nt 0 n.toNatClampNeg) (nt 1 n.toNatClampNeg) (nt 2 n.toNatClampNeg), s) := by
        rw [sp_sc_s nt f n s, e]
        show sp_th (sp_sc nt f (nt 1 n.toNatClampNeg) s) (fun s => if (nt 2 n.toNatClampNeg) = -1 then (true, s) else sp_sc nt f (nt 2 n.toNatClampNeg) s) = _
        by_cases q : (nt 2 n.toNatClampNeg) = -1
        · simp only [if_pos q]
          rw [sp_th_s (hA (by rw [e]; rfl) a1 a2).2 _ rfl]
          simp [sp_ue, sp_hA, sp_hB, sp_i, q, sp_nd_n1 a1]
        · simp only [if_neg q]
          rw [sp_th_s (hA (by rw [e]; rfl) a1 a2).2 _ (hB (by rw [e]; rfl) (b3 q).1 (b3 q).2).2]
          simp [sp_ue, sp_hA, sp_hB, sp_i, q, sp_nd_n1 a1]
      rw [eg]; exact ⟨u, rfl⟩
    · obtain ⟨b1, b2⟩ := sp_x46 hO hT e
      have u := md_eU (f := f) hy hn (show 1 ≤ d by omega) s (by rw [e]; decide) (by rw [e]; decide) (fun q _ => absurd q (by rw [e]; decide)) (fun _ _ _ => (hB (by rw [e]; rfl) b1 b2).1.trans (by rw [show (sp_sc nt f (nt 2 n.toNatClampNeg) s) = ((sp_sc nt f (nt 2 n.toNatClampNeg) s).1, s) from Prod.ext rfl (hB (by rw [e]; rfl) b1 b2).2]))
      have eg : sp_sc nt (f + 1) n s = (sp_ue nt f s (nt 0 n.toNatClampNeg) (nt 1 n.toNatClampNeg) (nt 2 n.toNatClampNeg), s) := by
        rw [sp_sc_s nt f n s, e]
        show sp_sc nt f (nt 2 n.toNatClampNeg) s = _
        refine Prod.ext ?_ (hB (by rw [e]; rfl) b1 b2).2
        simp [sp_ue, sp_hA, sp_hB, sp_i, sp_nd_n1 b1]
      rw [eg]; exact ⟨u, rfl⟩
    · obtain ⟨a1, a2, b3⟩ := sp_x47 hO hT e
      have u := md_eU (f := f) hy hn (show 1 ≤ d by omega) s (by rw [e]; decide) (by rw [e]; decide) (fun _ _ => (hA (by rw [e]; rfl) a1 a2).1.trans (by rw [show (sp_sc nt f (nt 1 n.toNatClampNeg) s) = ((sp_sc nt f (nt 1 n.toNatClampNeg) s).1, s) from Prod.ext rfl (hA (by rw [e]; rfl) a1 a2).2])) (fun _ _ q => (hB (by rw [e]; rfl) (b3 q).1 (b3 q).2).1.trans (by rw [show (sp_sc nt f (nt 2 n.toNatClampNeg) s) = ((sp_sc nt f (nt 2 n.toNatClampNeg) s).1, s) from Prod.ext rfl (hB (by rw [e]; rfl) (b3 q).1 (b3 q).2).2]))
      have eg : sp_sc nt (f + 1) n s = (sp_ue nt f s (nt 0 n.toNatClampNeg) (nt 1 n.toNatClampNeg) (nt 2 n.toNatClampNeg), s) := by
        rw [sp_sc_s nt f n s, e]
        show sp_th (sp_sc nt f (nt 1 n.toNatClampNeg) s) (fun s => if (nt 2 n.toNatClampNeg) = -1 then (true, s) else sp_sc nt f (nt 2 n.toNatClampNeg) s) = _
        by_cases q : (nt 2 n.toNatClampNeg) = -1
        · simp only [if_pos q]
          rw [sp_th_s (hA (by rw [e]; rfl) a1 a2).2 _ rfl]
          simp [sp_ue, sp_hA, sp_hB, sp_i, q, sp_nd_n1 a1]
        · simp only [if_neg q]
          rw [sp_th_s (hA (by rw [e]; rfl) a1 a2).2 _ (hB (by rw [e]; rfl) (b3 q).1 (b3 q).2).2]
          simp [sp_ue, sp_hA, sp_hB, sp_i, q, sp_nd_n1 a1]
      rw [eg]; exact ⟨u, rfl⟩
    · have b3 := sp_x48 hO hT e
      have u := md_eU (f := f) hy hn (show 1 ≤ d by omega) s (by rw [e]; decide) (by rw [e]; decide) (fun q _ => absurd q (by rw [e]; decide)) (fun _ _ q => (hB (by rw [e]; rfl) (b3 q).1 (b3 q).2).1.trans (by rw [show (sp_sc nt f (nt 2 n.toNatClampNeg) s) = ((sp_sc nt f (nt 2 n.toNatClampNeg) s).1, s) from Prod.ext rfl (hB (by rw [e]; rfl) (b3 q).1 (b3 q).2).2]))
      have eg : sp_sc nt (f + 1) n s = (sp_ue nt f s (nt 0 n.toNatClampNeg) (nt 1 n.toNatClampNeg) (nt 2 n.toNatClampNeg), s) := by
        rw [sp_sc_s nt f n s, e]
        show (if (nt 2 n.toNatClampNeg) = -1 then (true, s) else sp_sc nt f (nt 2 n.toNatClampNeg) s) = _
        by_cases q : (nt 2 n.toNatClampNeg) = -1
        · rw [if_pos q]; simp [sp_ue, sp_hA, sp_hB, sp_i, q]
        · rw [if_neg q]
          refine Prod.ext ?_ (hB (by rw [e]; rfl) (b3 q).1 (b3 q).2).2
          simp [sp_ue, sp_hA, sp_hB, sp_i, q]
      rw [eg]; exact ⟨u, rfl⟩
    · obtain ⟨a1, a2, b3⟩ := sp_x49 hO hT e
      have u := md_eU (f := f) hy hn (show 1 ≤ d by omega) s (by rw [e]; decide) (by rw [e]; decide) (fun _ _ => (hA (by rw [e]; rfl) a1 a2).1.trans (by rw [show (sp_sc nt f (nt 1 n.toNatClampNeg) s) = ((sp_sc nt f (nt 1 n.toNatClampNeg) s).1, s) from Prod.ext rfl (hA (by rw [e]; rfl) a1 a2).2])) (fun _ _ q => (hB (by rw [e]; rfl) (b3 q).1 (b3 q).2).1.trans (by rw [show (sp_sc nt f (nt 2 n.toNatClampNeg) s) = ((sp_sc nt f (nt 2 n.toNatClampNeg) s).1, s) from Prod.ext rfl (hB (by rw [e]; rfl) (b3 q).1 (b3 q).2).2]))
      have eg : sp_sc nt (f + 1) n s = (sp_ue nt f s (nt 0 n.toNatClampNeg) (nt 1 n.toNatClampNeg) (nt 2 n.toNatClampNeg), s) := by
        rw [sp_sc_s nt f n s, e]
        show sp_th (sp_sc nt f (nt 1 n.toNatClampNeg) s) (fun s => if (nt 2 n.toNatClampNeg) = -1 then (true, s) else sp_sc nt f (nt 2 n.toNatClampNeg) s) = _
        by_cases q : (nt 2 n.toNatClampNeg) = -1
        · simp only [if_pos q]
          rw [sp_th_s (hA (by rw [e]; rfl) a1 a2).2 _ rfl]
          simp [sp_ue, sp_hA, sp_hB, sp_i, q, sp_nd_n1 a1]
        · simp only [if_neg q]
          rw [sp_th_s (hA (by rw [e]; rfl) a1 a2).2 _ (hB (by rw [e]; rfl) (b3 q).1 (b3 q).2).2]
          simp [sp_ue, sp_hA, sp_hB, sp_i, q, sp_nd_n1 a1]
      rw [eg]; exact ⟨u, rfl⟩
    · have u := md_eU (f := f) hy hn (show 1 ≤ d by omega) s (by rw [e]; decide) (by rw [e]; decide) (fun q _ => absurd q (by rw [e]; decide)) (fun q q2 _ => absurd q (by rw [e] at q2 ⊢; revert q2; decide))
      have eg : sp_sc nt (f + 1) n s = (sp_ue nt f s (nt 0 n.toNatClampNeg) (nt 1 n.toNatClampNeg) (nt 2 n.toNatClampNeg), s) := by
        rw [sp_sc_s nt f n s, e]
        show (true, s) = _
        rfl
      rw [eg]; exact ⟨u, rfl⟩
