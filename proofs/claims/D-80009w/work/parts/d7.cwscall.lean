/-! CodeWriter.isScoped, all kinds -/
theorem sp_nd_n1 {n : Nat} {k : Int32} (h : sp_nd n k = true) : ¬ k = -1 := by
  intro e; subst e; unfold sp_nd at h; simp at h
theorem sp_E_n {k : Int32} (h : sp_E k = true) : ¬ k = 5 ∧ ¬ k = 86 := by
  constructor <;> intro e <;> subst e <;> revert h <;> decide
theorem sp_Sk_n {k : Int32} (h : sp_Sk k = true) : ¬ k = 5 ∧ ¬ k = 86 := by
  constructor <;> intro e <;> subst e <;> revert h <;> decide
theorem sp_p6 {nt : sp_NT} {M n : Nat} {res par : Nat → Int32} (h : sp_OK nt M res par n) (hT : sp_TY nt n) (e : nt 0 n = 6) : sp_nd n (nt 1 n) = true := by
  have := sp_k6 h hT e
  have ha := @sp_E_n (nt 0 (nt 1 n).toNatClampNeg)
  have hb := @sp_E_n (nt 0 (nt 2 n).toNatClampNeg)
  have hc := @sp_Sk_n (nt 0 (nt 1 n).toNatClampNeg)
  have hd := @sp_Sk_n (nt 0 (nt 2 n).toNatClampNeg)
  grind
theorem sp_p7 {nt : sp_NT} {M n : Nat} {res par : Nat → Int32} (h : sp_OK nt M res par n) (hT : sp_TY nt n) (e : nt 0 n = 7) : sp_nd n (nt 1 n) = true ∧ sp_nd n (nt 2 n) = true ∧ (¬ nt 0 (nt 2 n).toNatClampNeg = 5 ∧ ¬ nt 0 (nt 2 n).toNatClampNeg = 86) := by
  have := sp_k7 h hT e
  have ha := @sp_E_n (nt 0 (nt 1 n).toNatClampNeg)
  have hb := @sp_E_n (nt 0 (nt 2 n).toNatClampNeg)
  have hc := @sp_Sk_n (nt 0 (nt 1 n).toNatClampNeg)
  have hd := @sp_Sk_n (nt 0 (nt 2 n).toNatClampNeg)
  grind
theorem sp_p8 {nt : sp_NT} {M n : Nat} {res par : Nat → Int32} (h : sp_OK nt M res par n) (hT : sp_TY nt n) (e : nt 0 n = 8) : sp_nd n (nt 1 n) = true ∧ (¬ nt 0 (nt 1 n).toNatClampNeg = 5 ∧ ¬ nt 0 (nt 1 n).toNatClampNeg = 86) ∧ (¬ (nt 2 n) = -1 → sp_nd n (nt 2 n) = true ∧ (¬ nt 0 (nt 2 n).toNatClampNeg = 5 ∧ ¬ nt 0 (nt 2 n).toNatClampNeg = 86)) := by
  have := sp_k8 h hT e
  have ha := @sp_E_n (nt 0 (nt 1 n).toNatClampNeg)
  have hb := @sp_E_n (nt 0 (nt 2 n).toNatClampNeg)
  have hc := @sp_Sk_n (nt 0 (nt 1 n).toNatClampNeg)
  have hd := @sp_Sk_n (nt 0 (nt 2 n).toNatClampNeg)
  grind
theorem sp_p9 {nt : sp_NT} {M n : Nat} {res par : Nat → Int32} (h : sp_OK nt M res par n) (hT : sp_TY nt n) (e : nt 0 n = 9) : sp_nd n (nt 1 n) = true ∧ (¬ nt 0 (nt 1 n).toNatClampNeg = 5 ∧ ¬ nt 0 (nt 1 n).toNatClampNeg = 86) ∧ (¬ (nt 2 n) = -1 → sp_nd n (nt 2 n) = true ∧ (¬ nt 0 (nt 2 n).toNatClampNeg = 5 ∧ ¬ nt 0 (nt 2 n).toNatClampNeg = 86)) := by
  have := sp_k9 h hT e
  have ha := @sp_E_n (nt 0 (nt 1 n).toNatClampNeg)
  have hb := @sp_E_n (nt 0 (nt 2 n).toNatClampNeg)
  have hc := @sp_Sk_n (nt 0 (nt 1 n).toNatClampNeg)
  have hd := @sp_Sk_n (nt 0 (nt 2 n).toNatClampNeg)
  grind
theorem sp_p10 {nt : sp_NT} {M n : Nat} {res par : Nat → Int32} (h : sp_OK nt M res par n) (hT : sp_TY nt n) (e : nt 0 n = 10) : sp_nd n (nt 1 n) = true ∧ (¬ nt 0 (nt 1 n).toNatClampNeg = 5 ∧ ¬ nt 0 (nt 1 n).toNatClampNeg = 86) ∧ (¬ (nt 2 n) = -1 → sp_nd n (nt 2 n) = true ∧ (¬ nt 0 (nt 2 n).toNatClampNeg = 5 ∧ ¬ nt 0 (nt 2 n).toNatClampNeg = 86)) := by
  have := sp_k10 h hT e
  have ha := @sp_E_n (nt 0 (nt 1 n).toNatClampNeg)
  have hb := @sp_E_n (nt 0 (nt 2 n).toNatClampNeg)
  have hc := @sp_Sk_n (nt 0 (nt 1 n).toNatClampNeg)
  have hd := @sp_Sk_n (nt 0 (nt 2 n).toNatClampNeg)
  grind
theorem sp_p11 {nt : sp_NT} {M n : Nat} {res par : Nat → Int32} (h : sp_OK nt M res par n) (hT : sp_TY nt n) (e : nt 0 n = 11) : sp_nd n (nt 1 n) = true ∧ (¬ nt 0 (nt 1 n).toNatClampNeg = 5 ∧ ¬ nt 0 (nt 1 n).toNatClampNeg = 86) ∧ (¬ (nt 2 n) = -1 → sp_nd n (nt 2 n) = true ∧ (¬ nt 0 (nt 2 n).toNatClampNeg = 5 ∧ ¬ nt 0 (nt 2 n).toNatClampNeg = 86)) := by
  have := sp_k11 h hT e
  have ha := @sp_E_n (nt 0 (nt 1 n).toNatClampNeg)
  have hb := @sp_E_n (nt 0 (nt 2 n).toNatClampNeg)
  have hc := @sp_Sk_n (nt 0 (nt 1 n).toNatClampNeg)
  have hd := @sp_Sk_n (nt 0 (nt 2 n).toNatClampNeg)
  grind
theorem sp_p12 {nt : sp_NT} {M n : Nat} {res par : Nat → Int32} (h : sp_OK nt M res par n) (hT : sp_TY nt n) (e : nt 0 n = 12) : sp_nd n (nt 1 n) = true ∧ (¬ nt 0 (nt 1 n).toNatClampNeg = 5 ∧ ¬ nt 0 (nt 1 n).toNatClampNeg = 86) ∧ (¬ (nt 2 n) = -1 → sp_nd n (nt 2 n) = true ∧ (¬ nt 0 (nt 2 n).toNatClampNeg = 5 ∧ ¬ nt 0 (nt 2 n).toNatClampNeg = 86)) := by
  have := sp_k12 h hT e
  have ha := @sp_E_n (nt 0 (nt 1 n).toNatClampNeg)
  have hb := @sp_E_n (nt 0 (nt 2 n).toNatClampNeg)
  have hc := @sp_Sk_n (nt 0 (nt 1 n).toNatClampNeg)
  have hd := @sp_Sk_n (nt 0 (nt 2 n).toNatClampNeg)
  grind
theorem sp_p13 {nt : sp_NT} {M n : Nat} {res par : Nat → Int32} (h : sp_OK nt M res par n) (hT : sp_TY nt n) (e : nt 0 n = 13) : sp_nd n (nt 1 n) = true ∧ (¬ nt 0 (nt 1 n).toNatClampNeg = 5 ∧ ¬ nt 0 (nt 1 n).toNatClampNeg = 86) ∧ (¬ (nt 2 n) = -1 → sp_nd n (nt 2 n) = true ∧ (¬ nt 0 (nt 2 n).toNatClampNeg = 5 ∧ ¬ nt 0 (nt 2 n).toNatClampNeg = 86)) := by
  have := sp_k13 h hT e
  have ha := @sp_E_n (nt 0 (nt 1 n).toNatClampNeg)
  have hb := @sp_E_n (nt 0 (nt 2 n).toNatClampNeg)
  have hc := @sp_Sk_n (nt 0 (nt 1 n).toNatClampNeg)
  have hd := @sp_Sk_n (nt 0 (nt 2 n).toNatClampNeg)
  grind
theorem sp_p14 {nt : sp_NT} {M n : Nat} {res par : Nat → Int32} (h : sp_OK nt M res par n) (hT : sp_TY nt n) (e : nt 0 n = 14) : sp_nd n (nt 1 n) = true ∧ (¬ nt 0 (nt 1 n).toNatClampNeg = 5 ∧ ¬ nt 0 (nt 1 n).toNatClampNeg = 86) ∧ (¬ (nt 2 n) = -1 → sp_nd n (nt 2 n) = true ∧ (¬ nt 0 (nt 2 n).toNatClampNeg = 5 ∧ ¬ nt 0 (nt 2 n).toNatClampNeg = 86)) := by
  have := sp_k14 h hT e
  have ha := @sp_E_n (nt 0 (nt 1 n).toNatClampNeg)
  have hb := @sp_E_n (nt 0 (nt 2 n).toNatClampNeg)
  have hc := @sp_Sk_n (nt 0 (nt 1 n).toNatClampNeg)
  have hd := @sp_Sk_n (nt 0 (nt 2 n).toNatClampNeg)
  grind
theorem sp_p15 {nt : sp_NT} {M n : Nat} {res par : Nat → Int32} (h : sp_OK nt M res par n) (hT : sp_TY nt n) (e : nt 0 n = 15) : sp_nd n (nt 1 n) = true ∧ (¬ nt 0 (nt 1 n).toNatClampNeg = 5 ∧ ¬ nt 0 (nt 1 n).toNatClampNeg = 86) ∧ (¬ (nt 2 n) = -1 → sp_nd n (nt 2 n) = true ∧ (¬ nt 0 (nt 2 n).toNatClampNeg = 5 ∧ ¬ nt 0 (nt 2 n).toNatClampNeg = 86)) := by
  have := sp_k15 h hT e
  have ha := @sp_E_n (nt 0 (nt 1 n).toNatClampNeg)
  have hb := @sp_E_n (nt 0 (nt 2 n).toNatClampNeg)
  have hc := @sp_Sk_n (nt 0 (nt 1 n).toNatClampNeg)
  have hd := @sp_Sk_n (nt 0 (nt 2 n).toNatClampNeg)
  grind
theorem sp_p16 {nt : sp_NT} {M n : Nat} {res par : Nat → Int32} (h : sp_OK nt M res par n) (hT : sp_TY nt n) (e : nt 0 n = 16) : sp_nd n (nt 1 n) = true ∧ (¬ nt 0 (nt 1 n).toNatClampNeg = 5 ∧ ¬ nt 0 (nt 1 n).toNatClampNeg = 86) ∧ (¬ (nt 2 n) = -1 → sp_nd n (nt 2 n) = true ∧ (¬ nt 0 (nt 2 n).toNatClampNeg = 5 ∧ ¬ nt 0 (nt 2 n).toNatClampNeg = 86)) := by
  have := sp_k16 h hT e
  have ha := @sp_E_n (nt 0 (nt 1 n).toNatClampNeg)
  have hb := @sp_E_n (nt 0 (nt 2 n).toNatClampNeg)
  have hc := @sp_Sk_n (nt 0 (nt 1 n).toNatClampNeg)
  have hd := @sp_Sk_n (nt 0 (nt 2 n).toNatClampNeg)
  grind
theorem sp_p17 {nt : sp_NT} {M n : Nat} {res par : Nat → Int32} (h : sp_OK nt M res par n) (hT : sp_TY nt n) (e : nt 0 n = 17) : sp_nd n (nt 1 n) = true ∧ (¬ nt 0 (nt 1 n).toNatClampNeg = 5 ∧ ¬ nt 0 (nt 1 n).toNatClampNeg = 86) ∧ (¬ (nt 2 n) = -1 → sp_nd n (nt 2 n) = true ∧ (¬ nt 0 (nt 2 n).toNatClampNeg = 5 ∧ ¬ nt 0 (nt 2 n).toNatClampNeg = 86)) := by
  have := sp_k17 h hT e
  have ha := @sp_E_n (nt 0 (nt 1 n).toNatClampNeg)
  have hb := @sp_E_n (nt 0 (nt 2 n).toNatClampNeg)
  have hc := @sp_Sk_n (nt 0 (nt 1 n).toNatClampNeg)
  have hd := @sp_Sk_n (nt 0 (nt 2 n).toNatClampNeg)
  grind
theorem sp_p18 {nt : sp_NT} {M n : Nat} {res par : Nat → Int32} (h : sp_OK nt M res par n) (hT : sp_TY nt n) (e : nt 0 n = 18) : sp_nd n (nt 1 n) = true ∧ (¬ nt 0 (nt 1 n).toNatClampNeg = 5 ∧ ¬ nt 0 (nt 1 n).toNatClampNeg = 86) ∧ (¬ (nt 2 n) = -1 → sp_nd n (nt 2 n) = true ∧ (¬ nt 0 (nt 2 n).toNatClampNeg = 5 ∧ ¬ nt 0 (nt 2 n).toNatClampNeg = 86)) := by
  have := sp_k18 h hT e
  have ha := @sp_E_n (nt 0 (nt 1 n).toNatClampNeg)
  have hb := @sp_E_n (nt 0 (nt 2 n).toNatClampNeg)
  have hc := @sp_Sk_n (nt 0 (nt 1 n).toNatClampNeg)
  have hd := @sp_Sk_n (nt 0 (nt 2 n).toNatClampNeg)
  grind
theorem sp_p19 {nt : sp_NT} {M n : Nat} {res par : Nat → Int32} (h : sp_OK nt M res par n) (hT : sp_TY nt n) (e : nt 0 n = 19) : sp_nd n (nt 1 n) = true ∧ (¬ nt 0 (nt 1 n).toNatClampNeg = 5 ∧ ¬ nt 0 (nt 1 n).toNatClampNeg = 86) ∧ (¬ (nt 2 n) = -1 → sp_nd n (nt 2 n) = true ∧ (¬ nt 0 (nt 2 n).toNatClampNeg = 5 ∧ ¬ nt 0 (nt 2 n).toNatClampNeg = 86)) := by
  have := sp_k19 h hT e
  have ha := @sp_E_n (nt 0 (nt 1 n).toNatClampNeg)
  have hb := @sp_E_n (nt 0 (nt 2 n).toNatClampNeg)
  have hc := @sp_Sk_n (nt 0 (nt 1 n).toNatClampNeg)
  have hd := @sp_Sk_n (nt 0 (nt 2 n).toNatClampNeg)
  grind
theorem sp_p20 {nt : sp_NT} {M n : Nat} {res par : Nat → Int32} (h : sp_OK nt M res par n) (hT : sp_TY nt n) (e : nt 0 n = 20) : sp_nd n (nt 1 n) = true ∧ (¬ nt 0 (nt 1 n).toNatClampNeg = 5 ∧ ¬ nt 0 (nt 1 n).toNatClampNeg = 86) ∧ (¬ (nt 2 n) = -1 → sp_nd n (nt 2 n) = true ∧ (¬ nt 0 (nt 2 n).toNatClampNeg = 5 ∧ ¬ nt 0 (nt 2 n).toNatClampNeg = 86)) := by
  have := sp_k20 h hT e
  have ha := @sp_E_n (nt 0 (nt 1 n).toNatClampNeg)
  have hb := @sp_E_n (nt 0 (nt 2 n).toNatClampNeg)
  have hc := @sp_Sk_n (nt 0 (nt 1 n).toNatClampNeg)
  have hd := @sp_Sk_n (nt 0 (nt 2 n).toNatClampNeg)
  grind
theorem sp_p21 {nt : sp_NT} {M n : Nat} {res par : Nat → Int32} (h : sp_OK nt M res par n) (hT : sp_TY nt n) (e : nt 0 n = 21) : sp_nd n (nt 1 n) = true ∧ (¬ nt 0 (nt 1 n).toNatClampNeg = 5 ∧ ¬ nt 0 (nt 1 n).toNatClampNeg = 86) ∧ (¬ (nt 2 n) = -1 → sp_nd n (nt 2 n) = true ∧ (¬ nt 0 (nt 2 n).toNatClampNeg = 5 ∧ ¬ nt 0 (nt 2 n).toNatClampNeg = 86)) := by
  have := sp_k21 h hT e
  have ha := @sp_E_n (nt 0 (nt 1 n).toNatClampNeg)
  have hb := @sp_E_n (nt 0 (nt 2 n).toNatClampNeg)
  have hc := @sp_Sk_n (nt 0 (nt 1 n).toNatClampNeg)
  have hd := @sp_Sk_n (nt 0 (nt 2 n).toNatClampNeg)
  grind
theorem sp_p22 {nt : sp_NT} {M n : Nat} {res par : Nat → Int32} (h : sp_OK nt M res par n) (hT : sp_TY nt n) (e : nt 0 n = 22) : sp_nd n (nt 2 n) = true ∧ (¬ nt 0 (nt 2 n).toNatClampNeg = 5 ∧ ¬ nt 0 (nt 2 n).toNatClampNeg = 86) := by
  have := sp_k22 h hT e
  have ha := @sp_E_n (nt 0 (nt 1 n).toNatClampNeg)
  have hb := @sp_E_n (nt 0 (nt 2 n).toNatClampNeg)
  have hc := @sp_Sk_n (nt 0 (nt 1 n).toNatClampNeg)
  have hd := @sp_Sk_n (nt 0 (nt 2 n).toNatClampNeg)
  grind
theorem sp_p23 {nt : sp_NT} {M n : Nat} {res par : Nat → Int32} (h : sp_OK nt M res par n) (hT : sp_TY nt n) (e : nt 0 n = 23) : sp_nd n (nt 1 n) = true ∧ (¬ nt 0 (nt 1 n).toNatClampNeg = 5 ∧ ¬ nt 0 (nt 1 n).toNatClampNeg = 86) ∧ (¬ (nt 2 n) = -1 → sp_nd n (nt 2 n) = true ∧ (¬ nt 0 (nt 2 n).toNatClampNeg = 5 ∧ ¬ nt 0 (nt 2 n).toNatClampNeg = 86)) := by
  have := sp_k23 h hT e
  have ha := @sp_E_n (nt 0 (nt 1 n).toNatClampNeg)
  have hb := @sp_E_n (nt 0 (nt 2 n).toNatClampNeg)
  have hc := @sp_Sk_n (nt 0 (nt 1 n).toNatClampNeg)
  have hd := @sp_Sk_n (nt 0 (nt 2 n).toNatClampNeg)
  grind
theorem sp_p24 {nt : sp_NT} {M n : Nat} {res par : Nat → Int32} (h : sp_OK nt M res par n) (hT : sp_TY nt n) (e : nt 0 n = 24) : sp_nd n (nt 1 n) = true ∧ (¬ nt 0 (nt 1 n).toNatClampNeg = 5 ∧ ¬ nt 0 (nt 1 n).toNatClampNeg = 86) ∧ (¬ (nt 2 n) = -1 → sp_nd n (nt 2 n) = true ∧ (¬ nt 0 (nt 2 n).toNatClampNeg = 5 ∧ ¬ nt 0 (nt 2 n).toNatClampNeg = 86)) := by
  have := sp_k24 h hT e
  have ha := @sp_E_n (nt 0 (nt 1 n).toNatClampNeg)
  have hb := @sp_E_n (nt 0 (nt 2 n).toNatClampNeg)
  have hc := @sp_Sk_n (nt 0 (nt 1 n).toNatClampNeg)
  have hd := @sp_Sk_n (nt 0 (nt 2 n).toNatClampNeg)
  grind
theorem sp_p25 {nt : sp_NT} {M n : Nat} {res par : Nat → Int32} (h : sp_OK nt M res par n) (hT : sp_TY nt n) (e : nt 0 n = 25) : sp_nd n (nt 1 n) = true ∧ (¬ nt 0 (nt 1 n).toNatClampNeg = 5 ∧ ¬ nt 0 (nt 1 n).toNatClampNeg = 86) ∧ (¬ (nt 2 n) = -1 → sp_nd n (nt 2 n) = true ∧ (¬ nt 0 (nt 2 n).toNatClampNeg = 5 ∧ ¬ nt 0 (nt 2 n).toNatClampNeg = 86)) := by
  have := sp_k25 h hT e
  have ha := @sp_E_n (nt 0 (nt 1 n).toNatClampNeg)
  have hb := @sp_E_n (nt 0 (nt 2 n).toNatClampNeg)
  have hc := @sp_Sk_n (nt 0 (nt 1 n).toNatClampNeg)
  have hd := @sp_Sk_n (nt 0 (nt 2 n).toNatClampNeg)
  grind
theorem sp_p26 {nt : sp_NT} {M n : Nat} {res par : Nat → Int32} (h : sp_OK nt M res par n) (hT : sp_TY nt n) (e : nt 0 n = 26) : sp_nd n (nt 1 n) = true ∧ (¬ nt 0 (nt 1 n).toNatClampNeg = 5 ∧ ¬ nt 0 (nt 1 n).toNatClampNeg = 86) ∧ (¬ (nt 2 n) = -1 → sp_nd n (nt 2 n) = true ∧ (¬ nt 0 (nt 2 n).toNatClampNeg = 5 ∧ ¬ nt 0 (nt 2 n).toNatClampNeg = 86)) := by
  have := sp_k26 h hT e
  have ha := @sp_E_n (nt 0 (nt 1 n).toNatClampNeg)
  have hb := @sp_E_n (nt 0 (nt 2 n).toNatClampNeg)
  have hc := @sp_Sk_n (nt 0 (nt 1 n).toNatClampNeg)
  have hd := @sp_Sk_n (nt 0 (nt 2 n).toNatClampNeg)
  grind
theorem sp_p27 {nt : sp_NT} {M n : Nat} {res par : Nat → Int32} (h : sp_OK nt M res par n) (hT : sp_TY nt n) (e : nt 0 n = 27) : sp_nd n (nt 1 n) = true ∧ (¬ nt 0 (nt 1 n).toNatClampNeg = 5 ∧ ¬ nt 0 (nt 1 n).toNatClampNeg = 86) ∧ (¬ (nt 2 n) = -1 → sp_nd n (nt 2 n) = true ∧ (¬ nt 0 (nt 2 n).toNatClampNeg = 5 ∧ ¬ nt 0 (nt 2 n).toNatClampNeg = 86)) := by
  have := sp_k27 h hT e
  have ha := @sp_E_n (nt 0 (nt 1 n).toNatClampNeg)
  have hb := @sp_E_n (nt 0 (nt 2 n).toNatClampNeg)
  have hc := @sp_Sk_n (nt 0 (nt 1 n).toNatClampNeg)
  have hd := @sp_Sk_n (nt 0 (nt 2 n).toNatClampNeg)
  grind
theorem sp_p28 {nt : sp_NT} {M n : Nat} {res par : Nat → Int32} (h : sp_OK nt M res par n) (hT : sp_TY nt n) (e : nt 0 n = 28) : sp_nd n (nt 1 n) = true ∧ (¬ nt 0 (nt 1 n).toNatClampNeg = 5 ∧ ¬ nt 0 (nt 1 n).toNatClampNeg = 86) ∧ (¬ (nt 2 n) = -1 → sp_nd n (nt 2 n) = true ∧ (¬ nt 0 (nt 2 n).toNatClampNeg = 5 ∧ ¬ nt 0 (nt 2 n).toNatClampNeg = 86)) := by
  have := sp_k28 h hT e
  have ha := @sp_E_n (nt 0 (nt 1 n).toNatClampNeg)
  have hb := @sp_E_n (nt 0 (nt 2 n).toNatClampNeg)
  have hc := @sp_Sk_n (nt 0 (nt 1 n).toNatClampNeg)
  have hd := @sp_Sk_n (nt 0 (nt 2 n).toNatClampNeg)
  grind
theorem sp_p29 {nt : sp_NT} {M n : Nat} {res par : Nat → Int32} (h : sp_OK nt M res par n) (hT : sp_TY nt n) (e : nt 0 n = 29) : sp_nd n (nt 1 n) = true ∧ (¬ nt 0 (nt 1 n).toNatClampNeg = 5 ∧ ¬ nt 0 (nt 1 n).toNatClampNeg = 86) ∧ (¬ (nt 2 n) = -1 → sp_nd n (nt 2 n) = true ∧ (¬ nt 0 (nt 2 n).toNatClampNeg = 5 ∧ ¬ nt 0 (nt 2 n).toNatClampNeg = 86)) := by
  have := sp_k29 h hT e
  have ha := @sp_E_n (nt 0 (nt 1 n).toNatClampNeg)
  have hb := @sp_E_n (nt 0 (nt 2 n).toNatClampNeg)
  have hc := @sp_Sk_n (nt 0 (nt 1 n).toNatClampNeg)
  have hd := @sp_Sk_n (nt 0 (nt 2 n).toNatClampNeg)
  grind
theorem sp_p30 {nt : sp_NT} {M n : Nat} {res par : Nat → Int32} (h : sp_OK nt M res par n) (hT : sp_TY nt n) (e : nt 0 n = 30) : sp_nd n (nt 1 n) = true ∧ (¬ nt 0 (nt 1 n).toNatClampNeg = 5 ∧ ¬ nt 0 (nt 1 n).toNatClampNeg = 86) ∧ (¬ (nt 2 n) = -1 → sp_nd n (nt 2 n) = true ∧ (¬ nt 0 (nt 2 n).toNatClampNeg = 5 ∧ ¬ nt 0 (nt 2 n).toNatClampNeg = 86)) := by
  have := sp_k30 h hT e
  have ha := @sp_E_n (nt 0 (nt 1 n).toNatClampNeg)
  have hb := @sp_E_n (nt 0 (nt 2 n).toNatClampNeg)
  have hc := @sp_Sk_n (nt 0 (nt 1 n).toNatClampNeg)
  have hd := @sp_Sk_n (nt 0 (nt 2 n).toNatClampNeg)
  grind
theorem sp_p31 {nt : sp_NT} {M n : Nat} {res par : Nat → Int32} (h : sp_OK nt M res par n) (hT : sp_TY nt n) (e : nt 0 n = 31) : sp_nd n (nt 1 n) = true ∧ (¬ nt 0 (nt 1 n).toNatClampNeg = 5 ∧ ¬ nt 0 (nt 1 n).toNatClampNeg = 86) ∧ (¬ (nt 2 n) = -1 → sp_nd n (nt 2 n) = true ∧ (¬ nt 0 (nt 2 n).toNatClampNeg = 5 ∧ ¬ nt 0 (nt 2 n).toNatClampNeg = 86)) := by
  have := sp_k31 h hT e
  have ha := @sp_E_n (nt 0 (nt 1 n).toNatClampNeg)
  have hb := @sp_E_n (nt 0 (nt 2 n).toNatClampNeg)
  have hc := @sp_Sk_n (nt 0 (nt 1 n).toNatClampNeg)
  have hd := @sp_Sk_n (nt 0 (nt 2 n).toNatClampNeg)
  grind
theorem sp_p32 {nt : sp_NT} {M n : Nat} {res par : Nat → Int32} (h : sp_OK nt M res par n) (hT : sp_TY nt n) (e : nt 0 n = 32) : sp_nd n (nt 1 n) = true ∧ (¬ nt 0 (nt 1 n).toNatClampNeg = 5 ∧ ¬ nt 0 (nt 1 n).toNatClampNeg = 86) ∧ (¬ (nt 2 n) = -1 → sp_nd n (nt 2 n) = true ∧ (¬ nt 0 (nt 2 n).toNatClampNeg = 5 ∧ ¬ nt 0 (nt 2 n).toNatClampNeg = 86)) := by
  have := sp_k32 h hT e
  have ha := @sp_E_n (nt 0 (nt 1 n).toNatClampNeg)
  have hb := @sp_E_n (nt 0 (nt 2 n).toNatClampNeg)
  have hc := @sp_Sk_n (nt 0 (nt 1 n).toNatClampNeg)
  have hd := @sp_Sk_n (nt 0 (nt 2 n).toNatClampNeg)
  grind
theorem sp_p33 {nt : sp_NT} {M n : Nat} {res par : Nat → Int32} (h : sp_OK nt M res par n) (hT : sp_TY nt n) (e : nt 0 n = 33) : sp_nd n (nt 1 n) = true ∧ (¬ nt 0 (nt 1 n).toNatClampNeg = 5 ∧ ¬ nt 0 (nt 1 n).toNatClampNeg = 86) ∧ (¬ (nt 2 n) = -1 → sp_nd n (nt 2 n) = true ∧ (¬ nt 0 (nt 2 n).toNatClampNeg = 5 ∧ ¬ nt 0 (nt 2 n).toNatClampNeg = 86)) := by
  have := sp_k33 h hT e
  have ha := @sp_E_n (nt 0 (nt 1 n).toNatClampNeg)
  have hb := @sp_E_n (nt 0 (nt 2 n).toNatClampNeg)
  have hc := @sp_Sk_n (nt 0 (nt 1 n).toNatClampNeg)
  have hd := @sp_Sk_n (nt 0 (nt 2 n).toNatClampNeg)
  grind
theorem sp_p34 {nt : sp_NT} {M n : Nat} {res par : Nat → Int32} (h : sp_OK nt M res par n) (hT : sp_TY nt n) (e : nt 0 n = 34) : sp_nd n (nt 1 n) = true ∧ (¬ nt 0 (nt 1 n).toNatClampNeg = 5 ∧ ¬ nt 0 (nt 1 n).toNatClampNeg = 86) := by
  have := sp_k34 h hT e
  have ha := @sp_E_n (nt 0 (nt 1 n).toNatClampNeg)
  have hb := @sp_E_n (nt 0 (nt 2 n).toNatClampNeg)
  have hc := @sp_Sk_n (nt 0 (nt 1 n).toNatClampNeg)
  have hd := @sp_Sk_n (nt 0 (nt 2 n).toNatClampNeg)
  grind
theorem sp_p35 {nt : sp_NT} {M n : Nat} {res par : Nat → Int32} (h : sp_OK nt M res par n) (hT : sp_TY nt n) (e : nt 0 n = 35) : sp_nd n (nt 1 n) = true ∧ (¬ nt 0 (nt 1 n).toNatClampNeg = 5 ∧ ¬ nt 0 (nt 1 n).toNatClampNeg = 86) ∧ (¬ (nt 2 n) = -1 → sp_nd n (nt 2 n) = true ∧ (¬ nt 0 (nt 2 n).toNatClampNeg = 5 ∧ ¬ nt 0 (nt 2 n).toNatClampNeg = 86)) := by
  have := sp_k35 h hT e
  have ha := @sp_E_n (nt 0 (nt 1 n).toNatClampNeg)
  have hb := @sp_E_n (nt 0 (nt 2 n).toNatClampNeg)
  have hc := @sp_Sk_n (nt 0 (nt 1 n).toNatClampNeg)
  have hd := @sp_Sk_n (nt 0 (nt 2 n).toNatClampNeg)
  grind
theorem sp_p36 {nt : sp_NT} {M n : Nat} {res par : Nat → Int32} (h : sp_OK nt M res par n) (hT : sp_TY nt n) (e : nt 0 n = 36) : sp_nd n (nt 1 n) = true ∧ (¬ nt 0 (nt 1 n).toNatClampNeg = 5 ∧ ¬ nt 0 (nt 1 n).toNatClampNeg = 86) ∧ (¬ (nt 2 n) = -1 → sp_nd n (nt 2 n) = true ∧ (¬ nt 0 (nt 2 n).toNatClampNeg = 5 ∧ ¬ nt 0 (nt 2 n).toNatClampNeg = 86)) := by
  have := sp_k36 h hT e
  have ha := @sp_E_n (nt 0 (nt 1 n).toNatClampNeg)
  have hb := @sp_E_n (nt 0 (nt 2 n).toNatClampNeg)
  have hc := @sp_Sk_n (nt 0 (nt 1 n).toNatClampNeg)
  have hd := @sp_Sk_n (nt 0 (nt 2 n).toNatClampNeg)
  grind
theorem sp_p37 {nt : sp_NT} {M n : Nat} {res par : Nat → Int32} (h : sp_OK nt M res par n) (hT : sp_TY nt n) (e : nt 0 n = 37) : sp_nd n (nt 1 n) = true ∧ (¬ nt 0 (nt 1 n).toNatClampNeg = 5 ∧ ¬ nt 0 (nt 1 n).toNatClampNeg = 86) ∧ (¬ (nt 2 n) = -1 → sp_nd n (nt 2 n) = true ∧ (¬ nt 0 (nt 2 n).toNatClampNeg = 5 ∧ ¬ nt 0 (nt 2 n).toNatClampNeg = 86)) := by
  have := sp_k37 h hT e
  have ha := @sp_E_n (nt 0 (nt 1 n).toNatClampNeg)
  have hb := @sp_E_n (nt 0 (nt 2 n).toNatClampNeg)
  have hc := @sp_Sk_n (nt 0 (nt 1 n).toNatClampNeg)
  have hd := @sp_Sk_n (nt 0 (nt 2 n).toNatClampNeg)
  grind
theorem sp_p38 {nt : sp_NT} {M n : Nat} {res par : Nat → Int32} (h : sp_OK nt M res par n) (hT : sp_TY nt n) (e : nt 0 n = 38) : sp_nd n (nt 1 n) = true ∧ (¬ nt 0 (nt 1 n).toNatClampNeg = 5 ∧ ¬ nt 0 (nt 1 n).toNatClampNeg = 86) ∧ (¬ (nt 2 n) = -1 → sp_nd n (nt 2 n) = true ∧ (¬ nt 0 (nt 2 n).toNatClampNeg = 5 ∧ ¬ nt 0 (nt 2 n).toNatClampNeg = 86)) := by
  have := sp_k38 h hT e
  have ha := @sp_E_n (nt 0 (nt 1 n).toNatClampNeg)
  have hb := @sp_E_n (nt 0 (nt 2 n).toNatClampNeg)
  have hc := @sp_Sk_n (nt 0 (nt 1 n).toNatClampNeg)
  have hd := @sp_Sk_n (nt 0 (nt 2 n).toNatClampNeg)
  grind
theorem sp_p39 {nt : sp_NT} {M n : Nat} {res par : Nat → Int32} (h : sp_OK nt M res par n) (hT : sp_TY nt n) (e : nt 0 n = 39) : sp_nd n (nt 1 n) = true ∧ (¬ nt 0 (nt 1 n).toNatClampNeg = 5 ∧ ¬ nt 0 (nt 1 n).toNatClampNeg = 86) ∧ (¬ (nt 2 n) = -1 → sp_nd n (nt 2 n) = true ∧ (¬ nt 0 (nt 2 n).toNatClampNeg = 5 ∧ ¬ nt 0 (nt 2 n).toNatClampNeg = 86)) := by
  have := sp_k39 h hT e
  have ha := @sp_E_n (nt 0 (nt 1 n).toNatClampNeg)
  have hb := @sp_E_n (nt 0 (nt 2 n).toNatClampNeg)
  have hc := @sp_Sk_n (nt 0 (nt 1 n).toNatClampNeg)
  have hd := @sp_Sk_n (nt 0 (nt 2 n).toNatClampNeg)
  grind
theorem sp_p40 {nt : sp_NT} {M n : Nat} {res par : Nat → Int32} (h : sp_OK nt M res par n) (hT : sp_TY nt n) (e : nt 0 n = 40) : sp_nd n (nt 1 n) = true ∧ (¬ nt 0 (nt 1 n).toNatClampNeg = 5 ∧ ¬ nt 0 (nt 1 n).toNatClampNeg = 86) ∧ (¬ (nt 2 n) = -1 → sp_nd n (nt 2 n) = true ∧ (¬ nt 0 (nt 2 n).toNatClampNeg = 5 ∧ ¬ nt 0 (nt 2 n).toNatClampNeg = 86)) := by
  have := sp_k40 h hT e
  have ha := @sp_E_n (nt 0 (nt 1 n).toNatClampNeg)
  have hb := @sp_E_n (nt 0 (nt 2 n).toNatClampNeg)
  have hc := @sp_Sk_n (nt 0 (nt 1 n).toNatClampNeg)
  have hd := @sp_Sk_n (nt 0 (nt 2 n).toNatClampNeg)
  grind
theorem sp_p41 {nt : sp_NT} {M n : Nat} {res par : Nat → Int32} (h : sp_OK nt M res par n) (hT : sp_TY nt n) (e : nt 0 n = 41) : sp_nd n (nt 1 n) = true ∧ (¬ nt 0 (nt 1 n).toNatClampNeg = 5 ∧ ¬ nt 0 (nt 1 n).toNatClampNeg = 86) ∧ (¬ (nt 2 n) = -1 → sp_nd n (nt 2 n) = true ∧ (¬ nt 0 (nt 2 n).toNatClampNeg = 5 ∧ ¬ nt 0 (nt 2 n).toNatClampNeg = 86)) := by
  have := sp_k41 h hT e
  have ha := @sp_E_n (nt 0 (nt 1 n).toNatClampNeg)
  have hb := @sp_E_n (nt 0 (nt 2 n).toNatClampNeg)
  have hc := @sp_Sk_n (nt 0 (nt 1 n).toNatClampNeg)
  have hd := @sp_Sk_n (nt 0 (nt 2 n).toNatClampNeg)
  grind
theorem sp_p42 {nt : sp_NT} {M n : Nat} {res par : Nat → Int32} (h : sp_OK nt M res par n) (hT : sp_TY nt n) (e : nt 0 n = 42) : sp_nd n (nt 1 n) = true ∧ (¬ nt 0 (nt 1 n).toNatClampNeg = 5 ∧ ¬ nt 0 (nt 1 n).toNatClampNeg = 86) ∧ (¬ (nt 2 n) = -1 → sp_nd n (nt 2 n) = true ∧ (¬ nt 0 (nt 2 n).toNatClampNeg = 5 ∧ ¬ nt 0 (nt 2 n).toNatClampNeg = 86)) := by
  have := sp_k42 h hT e
  have ha := @sp_E_n (nt 0 (nt 1 n).toNatClampNeg)
  have hb := @sp_E_n (nt 0 (nt 2 n).toNatClampNeg)
  have hc := @sp_Sk_n (nt 0 (nt 1 n).toNatClampNeg)
  have hd := @sp_Sk_n (nt 0 (nt 2 n).toNatClampNeg)
  grind
theorem sp_p43 {nt : sp_NT} {M n : Nat} {res par : Nat → Int32} (h : sp_OK nt M res par n) (hT : sp_TY nt n) (e : nt 0 n = 43) : sp_nd n (nt 1 n) = true ∧ (¬ nt 0 (nt 1 n).toNatClampNeg = 5 ∧ ¬ nt 0 (nt 1 n).toNatClampNeg = 86) ∧ (¬ (nt 2 n) = -1 → sp_nd n (nt 2 n) = true ∧ (¬ nt 0 (nt 2 n).toNatClampNeg = 5 ∧ ¬ nt 0 (nt 2 n).toNatClampNeg = 86)) := by
  have := sp_k43 h hT e
  have ha := @sp_E_n (nt 0 (nt 1 n).toNatClampNeg)
  have hb := @sp_E_n (nt 0 (nt 2 n).toNatClampNeg)
  have hc := @sp_Sk_n (nt 0 (nt 1 n).toNatClampNeg)
  have hd := @sp_Sk_n (nt 0 (nt 2 n).toNatClampNeg)
  grind
theorem sp_p44 {nt : sp_NT} {M n : Nat} {res par : Nat → Int32} (h : sp_OK nt M res par n) (hT : sp_TY nt n) (e : nt 0 n = 44) : sp_nd n (nt 1 n) = true ∧ (¬ nt 0 (nt 1 n).toNatClampNeg = 5 ∧ ¬ nt 0 (nt 1 n).toNatClampNeg = 86) ∧ (¬ (nt 2 n) = -1 → sp_nd n (nt 2 n) = true ∧ (¬ nt 0 (nt 2 n).toNatClampNeg = 5 ∧ ¬ nt 0 (nt 2 n).toNatClampNeg = 86)) := by
  have := sp_k44 h hT e
  have ha := @sp_E_n (nt 0 (nt 1 n).toNatClampNeg)
  have hb := @sp_E_n (nt 0 (nt 2 n).toNatClampNeg)
  have hc := @sp_Sk_n (nt 0 (nt 1 n).toNatClampNeg)
  have hd := @sp_Sk_n (nt 0 (nt 2 n).toNatClampNeg)
  grind
theorem sp_p45 {nt : sp_NT} {M n : Nat} {res par : Nat → Int32} (h : sp_OK nt M res par n) (hT : sp_TY nt n) (e : nt 0 n = 45) : sp_nd n (nt 1 n) = true ∧ (¬ nt 0 (nt 1 n).toNatClampNeg = 5 ∧ ¬ nt 0 (nt 1 n).toNatClampNeg = 86) ∧ (¬ (nt 2 n) = -1 → sp_nd n (nt 2 n) = true ∧ (¬ nt 0 (nt 2 n).toNatClampNeg = 5 ∧ ¬ nt 0 (nt 2 n).toNatClampNeg = 86)) := by
  have := sp_k45 h hT e
  have ha := @sp_E_n (nt 0 (nt 1 n).toNatClampNeg)
  have hb := @sp_E_n (nt 0 (nt 2 n).toNatClampNeg)
  have hc := @sp_Sk_n (nt 0 (nt 1 n).toNatClampNeg)
  have hd := @sp_Sk_n (nt 0 (nt 2 n).toNatClampNeg)
  grind
theorem sp_p46 {nt : sp_NT} {M n : Nat} {res par : Nat → Int32} (h : sp_OK nt M res par n) (hT : sp_TY nt n) (e : nt 0 n = 46) : sp_nd n (nt 2 n) = true ∧ (¬ nt 0 (nt 2 n).toNatClampNeg = 5 ∧ ¬ nt 0 (nt 2 n).toNatClampNeg = 86) := by
  have := sp_k46 h hT e
  have ha := @sp_E_n (nt 0 (nt 1 n).toNatClampNeg)
  have hb := @sp_E_n (nt 0 (nt 2 n).toNatClampNeg)
  have hc := @sp_Sk_n (nt 0 (nt 1 n).toNatClampNeg)
  have hd := @sp_Sk_n (nt 0 (nt 2 n).toNatClampNeg)
  grind
theorem sp_p47 {nt : sp_NT} {M n : Nat} {res par : Nat → Int32} (h : sp_OK nt M res par n) (hT : sp_TY nt n) (e : nt 0 n = 47) : sp_nd n (nt 1 n) = true ∧ (¬ nt 0 (nt 1 n).toNatClampNeg = 5 ∧ ¬ nt 0 (nt 1 n).toNatClampNeg = 86) ∧ (¬ (nt 2 n) = -1 → sp_nd n (nt 2 n) = true ∧ (¬ nt 0 (nt 2 n).toNatClampNeg = 5 ∧ ¬ nt 0 (nt 2 n).toNatClampNeg = 86)) := by
  have := sp_k47 h hT e
  have ha := @sp_E_n (nt 0 (nt 1 n).toNatClampNeg)
  have hb := @sp_E_n (nt 0 (nt 2 n).toNatClampNeg)
  have hc := @sp_Sk_n (nt 0 (nt 1 n).toNatClampNeg)
  have hd := @sp_Sk_n (nt 0 (nt 2 n).toNatClampNeg)
  grind
theorem sp_p48 {nt : sp_NT} {M n : Nat} {res par : Nat → Int32} (h : sp_OK nt M res par n) (hT : sp_TY nt n) (e : nt 0 n = 48) : (¬ (nt 2 n) = -1 → sp_nd n (nt 2 n) = true ∧ (¬ nt 0 (nt 2 n).toNatClampNeg = 5 ∧ ¬ nt 0 (nt 2 n).toNatClampNeg = 86)) := by
  have := sp_k48 h hT e
  have ha := @sp_E_n (nt 0 (nt 1 n).toNatClampNeg)
  have hb := @sp_E_n (nt 0 (nt 2 n).toNatClampNeg)
  have hc := @sp_Sk_n (nt 0 (nt 1 n).toNatClampNeg)
  have hd := @sp_Sk_n (nt 0 (nt 2 n).toNatClampNeg)
  grind
theorem sp_p49 {nt : sp_NT} {M n : Nat} {res par : Nat → Int32} (h : sp_OK nt M res par n) (hT : sp_TY nt n) (e : nt 0 n = 49) : sp_nd n (nt 1 n) = true ∧ (¬ nt 0 (nt 1 n).toNatClampNeg = 5 ∧ ¬ nt 0 (nt 1 n).toNatClampNeg = 86) ∧ (¬ (nt 2 n) = -1 → sp_nd n (nt 2 n) = true ∧ (¬ nt 0 (nt 2 n).toNatClampNeg = 5 ∧ ¬ nt 0 (nt 2 n).toNatClampNeg = 86)) := by
  have := sp_k49 h hT e
  have ha := @sp_E_n (nt 0 (nt 1 n).toNatClampNeg)
  have hb := @sp_E_n (nt 0 (nt 2 n).toNatClampNeg)
  have hc := @sp_Sk_n (nt 0 (nt 1 n).toNatClampNeg)
  have hd := @sp_Sk_n (nt 0 (nt 2 n).toNatClampNeg)
  grind
theorem sp_p60 {nt : sp_NT} {M n : Nat} {res par : Nat → Int32} (h : sp_OK nt M res par n) (hT : sp_TY nt n) (e : nt 0 n = 60) : sp_nd n (nt 1 n) = true ∧ (¬ nt 0 (nt 1 n).toNatClampNeg = 5 ∧ ¬ nt 0 (nt 1 n).toNatClampNeg = 86) ∧ (¬ (nt 2 n) = -1 → sp_nd n (nt 2 n) = true ∧ (¬ nt 0 (nt 2 n).toNatClampNeg = 5 ∧ ¬ nt 0 (nt 2 n).toNatClampNeg = 86)) := by
  have := sp_k60 h hT e
  have ha := @sp_E_n (nt 0 (nt 1 n).toNatClampNeg)
  have hb := @sp_E_n (nt 0 (nt 2 n).toNatClampNeg)
  have hc := @sp_Sk_n (nt 0 (nt 1 n).toNatClampNeg)
  have hd := @sp_Sk_n (nt 0 (nt 2 n).toNatClampNeg)
  grind
theorem sp_p61 {nt : sp_NT} {M n : Nat} {res par : Nat → Int32} (h : sp_OK nt M res par n) (hT : sp_TY nt n) (e : nt 0 n = 61) : sp_nd n (nt 1 n) = true ∧ sp_nd n (nt 2 n) = true ∧ (¬ nt 0 (nt 2 n).toNatClampNeg = 5 ∧ ¬ nt 0 (nt 2 n).toNatClampNeg = 86) := by
  have := sp_k61 h hT e
  have ha := @sp_E_n (nt 0 (nt 1 n).toNatClampNeg)
  have hb := @sp_E_n (nt 0 (nt 2 n).toNatClampNeg)
  have hc := @sp_Sk_n (nt 0 (nt 1 n).toNatClampNeg)
  have hd := @sp_Sk_n (nt 0 (nt 2 n).toNatClampNeg)
  grind
theorem sp_p62 {nt : sp_NT} {M n : Nat} {res par : Nat → Int32} (h : sp_OK nt M res par n) (hT : sp_TY nt n) (e : nt 0 n = 62) : sp_nd n (nt 1 n) = true ∧ (¬ nt 0 (nt 1 n).toNatClampNeg = 5 ∧ ¬ nt 0 (nt 1 n).toNatClampNeg = 86) ∧ sp_nd n (nt 2 n) = true ∧ (¬ nt 0 (nt 2 n).toNatClampNeg = 5 ∧ ¬ nt 0 (nt 2 n).toNatClampNeg = 86) := by
  have := sp_k62 h hT e
  have ha := @sp_E_n (nt 0 (nt 1 n).toNatClampNeg)
  have hb := @sp_E_n (nt 0 (nt 2 n).toNatClampNeg)
  have hc := @sp_Sk_n (nt 0 (nt 1 n).toNatClampNeg)
  have hd := @sp_Sk_n (nt 0 (nt 2 n).toNatClampNeg)
  grind
theorem sp_p63 {nt : sp_NT} {M n : Nat} {res par : Nat → Int32} (h : sp_OK nt M res par n) (hT : sp_TY nt n) (e : nt 0 n = 63) : sp_nd n (nt 1 n) = true ∧ (¬ nt 0 (nt 1 n).toNatClampNeg = 5 ∧ ¬ nt 0 (nt 1 n).toNatClampNeg = 86) := by
  have := sp_k63 h hT e
  have ha := @sp_E_n (nt 0 (nt 1 n).toNatClampNeg)
  have hb := @sp_E_n (nt 0 (nt 2 n).toNatClampNeg)
  have hc := @sp_Sk_n (nt 0 (nt 1 n).toNatClampNeg)
  have hd := @sp_Sk_n (nt 0 (nt 2 n).toNatClampNeg)
  grind
theorem sp_p64 {nt : sp_NT} {M n : Nat} {res par : Nat → Int32} (h : sp_OK nt M res par n) (hT : sp_TY nt n) (e : nt 0 n = 64) : sp_nd n (nt 1 n) = true ∧ (¬ nt 0 (nt 1 n).toNatClampNeg = 5 ∧ ¬ nt 0 (nt 1 n).toNatClampNeg = 86) ∧ sp_nd n (nt 2 n) = true ∧ (¬ nt 0 (nt 2 n).toNatClampNeg = 5 ∧ ¬ nt 0 (nt 2 n).toNatClampNeg = 86) := by
  have := sp_k64 h hT e
  have ha := @sp_E_n (nt 0 (nt 1 n).toNatClampNeg)
  have hb := @sp_E_n (nt 0 (nt 2 n).toNatClampNeg)
  have hc := @sp_Sk_n (nt 0 (nt 1 n).toNatClampNeg)
  have hd := @sp_Sk_n (nt 0 (nt 2 n).toNatClampNeg)
  grind
theorem sp_p65 {nt : sp_NT} {M n : Nat} {res par : Nat → Int32} (h : sp_OK nt M res par n) (hT : sp_TY nt n) (e : nt 0 n = 65) : sp_nd n (nt 1 n) = true ∧ (¬ nt 0 (nt 1 n).toNatClampNeg = 5 ∧ ¬ nt 0 (nt 1 n).toNatClampNeg = 86) ∧ (¬ (nt 2 n) = -1 → sp_nd n (nt 2 n) = true ∧ (¬ nt 0 (nt 2 n).toNatClampNeg = 5 ∧ ¬ nt 0 (nt 2 n).toNatClampNeg = 86)) := by
  have := sp_k65 h hT e
  have ha := @sp_E_n (nt 0 (nt 1 n).toNatClampNeg)
  have hb := @sp_E_n (nt 0 (nt 2 n).toNatClampNeg)
  have hc := @sp_Sk_n (nt 0 (nt 1 n).toNatClampNeg)
  have hd := @sp_Sk_n (nt 0 (nt 2 n).toNatClampNeg)
  grind
theorem sp_p66 {nt : sp_NT} {M n : Nat} {res par : Nat → Int32} (h : sp_OK nt M res par n) (hT : sp_TY nt n) (e : nt 0 n = 66) : sp_nd n (nt 1 n) = true ∧ (¬ nt 0 (nt 1 n).toNatClampNeg = 5 ∧ ¬ nt 0 (nt 1 n).toNatClampNeg = 86) ∧ sp_nd n (nt 2 n) = true ∧ (¬ nt 0 (nt 2 n).toNatClampNeg = 5 ∧ ¬ nt 0 (nt 2 n).toNatClampNeg = 86) := by
  have := sp_k66 h hT e
  have ha := @sp_E_n (nt 0 (nt 1 n).toNatClampNeg)
  have hb := @sp_E_n (nt 0 (nt 2 n).toNatClampNeg)
  have hc := @sp_Sk_n (nt 0 (nt 1 n).toNatClampNeg)
  have hd := @sp_Sk_n (nt 0 (nt 2 n).toNatClampNeg)
  grind
theorem sp_p67 {nt : sp_NT} {M n : Nat} {res par : Nat → Int32} (h : sp_OK nt M res par n) (hT : sp_TY nt n) (e : nt 0 n = 67) : sp_nd n (nt 1 n) = true ∧ (¬ nt 0 (nt 1 n).toNatClampNeg = 5 ∧ ¬ nt 0 (nt 1 n).toNatClampNeg = 86) ∧ sp_nd n (nt 2 n) = true ∧ (¬ nt 0 (nt 2 n).toNatClampNeg = 5 ∧ ¬ nt 0 (nt 2 n).toNatClampNeg = 86) := by
  have := sp_k67 h hT e
  have ha := @sp_E_n (nt 0 (nt 1 n).toNatClampNeg)
  have hb := @sp_E_n (nt 0 (nt 2 n).toNatClampNeg)
  have hc := @sp_Sk_n (nt 0 (nt 1 n).toNatClampNeg)
  have hd := @sp_Sk_n (nt 0 (nt 2 n).toNatClampNeg)
  grind
theorem sp_p68 {nt : sp_NT} {M n : Nat} {res par : Nat → Int32} (h : sp_OK nt M res par n) (hT : sp_TY nt n) (e : nt 0 n = 68) : sp_nd n (nt 1 n) = true ∧ (¬ nt 0 (nt 1 n).toNatClampNeg = 5 ∧ ¬ nt 0 (nt 1 n).toNatClampNeg = 86) ∧ sp_nd n (nt 2 n) = true ∧ (¬ nt 0 (nt 2 n).toNatClampNeg = 5 ∧ ¬ nt 0 (nt 2 n).toNatClampNeg = 86) := by
  have := sp_k68 h hT e
  have ha := @sp_E_n (nt 0 (nt 1 n).toNatClampNeg)
  have hb := @sp_E_n (nt 0 (nt 2 n).toNatClampNeg)
  have hc := @sp_Sk_n (nt 0 (nt 1 n).toNatClampNeg)
  have hd := @sp_Sk_n (nt 0 (nt 2 n).toNatClampNeg)
  grind
theorem sp_p69 {nt : sp_NT} {M n : Nat} {res par : Nat → Int32} (h : sp_OK nt M res par n) (hT : sp_TY nt n) (e : nt 0 n = 69) : sp_nd n (nt 1 n) = true ∧ (¬ nt 0 (nt 1 n).toNatClampNeg = 5 ∧ ¬ nt 0 (nt 1 n).toNatClampNeg = 86) ∧ sp_nd n (nt 2 n) = true ∧ (¬ nt 0 (nt 2 n).toNatClampNeg = 5 ∧ ¬ nt 0 (nt 2 n).toNatClampNeg = 86) := by
  have := sp_k69 h hT e
  have ha := @sp_E_n (nt 0 (nt 1 n).toNatClampNeg)
  have hb := @sp_E_n (nt 0 (nt 2 n).toNatClampNeg)
  have hc := @sp_Sk_n (nt 0 (nt 1 n).toNatClampNeg)
  have hd := @sp_Sk_n (nt 0 (nt 2 n).toNatClampNeg)
  grind
theorem sp_p70 {nt : sp_NT} {M n : Nat} {res par : Nat → Int32} (h : sp_OK nt M res par n) (hT : sp_TY nt n) (e : nt 0 n = 70) : sp_nd n (nt 1 n) = true ∧ (¬ nt 0 (nt 1 n).toNatClampNeg = 5 ∧ ¬ nt 0 (nt 1 n).toNatClampNeg = 86) ∧ sp_nd n (nt 2 n) = true ∧ (¬ nt 0 (nt 2 n).toNatClampNeg = 5 ∧ ¬ nt 0 (nt 2 n).toNatClampNeg = 86) := by
  have := sp_k70 h hT e
  have ha := @sp_E_n (nt 0 (nt 1 n).toNatClampNeg)
  have hb := @sp_E_n (nt 0 (nt 2 n).toNatClampNeg)
  have hc := @sp_Sk_n (nt 0 (nt 1 n).toNatClampNeg)
  have hd := @sp_Sk_n (nt 0 (nt 2 n).toNatClampNeg)
  grind
theorem sp_p73 {nt : sp_NT} {M n : Nat} {res par : Nat → Int32} (h : sp_OK nt M res par n) (hT : sp_TY nt n) (e : nt 0 n = 73) : (¬ (nt 1 n) = -1 → sp_nd n (nt 1 n) = true ∧ (¬ nt 0 (nt 1 n).toNatClampNeg = 5 ∧ ¬ nt 0 (nt 1 n).toNatClampNeg = 86)) := by
  have := sp_k73 h hT e
  have ha := @sp_E_n (nt 0 (nt 1 n).toNatClampNeg)
  have hb := @sp_E_n (nt 0 (nt 2 n).toNatClampNeg)
  have hc := @sp_Sk_n (nt 0 (nt 1 n).toNatClampNeg)
  have hd := @sp_Sk_n (nt 0 (nt 2 n).toNatClampNeg)
  grind
theorem sp_p74 {nt : sp_NT} {M n : Nat} {res par : Nat → Int32} (h : sp_OK nt M res par n) (hT : sp_TY nt n) (e : nt 0 n = 74) : sp_nd n (nt 1 n) = true ∧ (¬ nt 0 (nt 1 n).toNatClampNeg = 5 ∧ ¬ nt 0 (nt 1 n).toNatClampNeg = 86) ∧ (¬ (nt 2 n) = -1 → sp_nd n (nt 2 n) = true ∧ (¬ nt 0 (nt 2 n).toNatClampNeg = 5 ∧ ¬ nt 0 (nt 2 n).toNatClampNeg = 86)) := by
  have := sp_k74 h hT e
  have ha := @sp_E_n (nt 0 (nt 1 n).toNatClampNeg)
  have hb := @sp_E_n (nt 0 (nt 2 n).toNatClampNeg)
  have hc := @sp_Sk_n (nt 0 (nt 1 n).toNatClampNeg)
  have hd := @sp_Sk_n (nt 0 (nt 2 n).toNatClampNeg)
  grind
theorem sp_p75 {nt : sp_NT} {M n : Nat} {res par : Nat → Int32} (h : sp_OK nt M res par n) (hT : sp_TY nt n) (e : nt 0 n = 75) : sp_nd n (nt 1 n) = true ∧ (¬ nt 0 (nt 1 n).toNatClampNeg = 5 ∧ ¬ nt 0 (nt 1 n).toNatClampNeg = 86) ∧ sp_nd n (nt 2 n) = true ∧ (¬ nt 0 (nt 2 n).toNatClampNeg = 5 ∧ ¬ nt 0 (nt 2 n).toNatClampNeg = 86) := by
  have := sp_k75 h hT e
  have ha := @sp_E_n (nt 0 (nt 1 n).toNatClampNeg)
  have hb := @sp_E_n (nt 0 (nt 2 n).toNatClampNeg)
  have hc := @sp_Sk_n (nt 0 (nt 1 n).toNatClampNeg)
  have hd := @sp_Sk_n (nt 0 (nt 2 n).toNatClampNeg)
  grind
theorem sp_p76 {nt : sp_NT} {M n : Nat} {res par : Nat → Int32} (h : sp_OK nt M res par n) (hT : sp_TY nt n) (e : nt 0 n = 76) : sp_nd n (nt 1 n) = true ∧ (¬ nt 0 (nt 1 n).toNatClampNeg = 5 ∧ ¬ nt 0 (nt 1 n).toNatClampNeg = 86) ∧ (¬ (nt 2 n) = -1 → sp_nd n (nt 2 n) = true ∧ (¬ nt 0 (nt 2 n).toNatClampNeg = 5 ∧ ¬ nt 0 (nt 2 n).toNatClampNeg = 86)) := by
  have := sp_k76 h hT e
  have ha := @sp_E_n (nt 0 (nt 1 n).toNatClampNeg)
  have hb := @sp_E_n (nt 0 (nt 2 n).toNatClampNeg)
  have hc := @sp_Sk_n (nt 0 (nt 1 n).toNatClampNeg)
  have hd := @sp_Sk_n (nt 0 (nt 2 n).toNatClampNeg)
  grind
theorem sp_p77 {nt : sp_NT} {M n : Nat} {res par : Nat → Int32} (h : sp_OK nt M res par n) (hT : sp_TY nt n) (e : nt 0 n = 77) : sp_nd n (nt 2 n) = true ∧ (¬ nt 0 (nt 2 n).toNatClampNeg = 5 ∧ ¬ nt 0 (nt 2 n).toNatClampNeg = 86) := by
  have := sp_k77 h hT e
  have ha := @sp_E_n (nt 0 (nt 1 n).toNatClampNeg)
  have hb := @sp_E_n (nt 0 (nt 2 n).toNatClampNeg)
  have hc := @sp_Sk_n (nt 0 (nt 1 n).toNatClampNeg)
  have hd := @sp_Sk_n (nt 0 (nt 2 n).toNatClampNeg)
  grind
theorem sp_p78 {nt : sp_NT} {M n : Nat} {res par : Nat → Int32} (h : sp_OK nt M res par n) (hT : sp_TY nt n) (e : nt 0 n = 78) : sp_nd n (nt 1 n) = true ∧ sp_nd n (nt 2 n) = true ∧ (¬ nt 0 (nt 2 n).toNatClampNeg = 5 ∧ ¬ nt 0 (nt 2 n).toNatClampNeg = 86) := by
  have := sp_k78 h hT e
  have ha := @sp_E_n (nt 0 (nt 1 n).toNatClampNeg)
  have hb := @sp_E_n (nt 0 (nt 2 n).toNatClampNeg)
  have hc := @sp_Sk_n (nt 0 (nt 1 n).toNatClampNeg)
  have hd := @sp_Sk_n (nt 0 (nt 2 n).toNatClampNeg)
  grind
theorem sp_p79 {nt : sp_NT} {M n : Nat} {res par : Nat → Int32} (h : sp_OK nt M res par n) (hT : sp_TY nt n) (e : nt 0 n = 79) : sp_nd n (nt 1 n) = true ∧ (¬ nt 0 (nt 1 n).toNatClampNeg = 5 ∧ ¬ nt 0 (nt 1 n).toNatClampNeg = 86) ∧ sp_nd n (nt 2 n) = true ∧ (¬ nt 0 (nt 2 n).toNatClampNeg = 5 ∧ ¬ nt 0 (nt 2 n).toNatClampNeg = 86) := by
  have := sp_k79 h hT e
  have ha := @sp_E_n (nt 0 (nt 1 n).toNatClampNeg)
  have hb := @sp_E_n (nt 0 (nt 2 n).toNatClampNeg)
  have hc := @sp_Sk_n (nt 0 (nt 1 n).toNatClampNeg)
  have hd := @sp_Sk_n (nt 0 (nt 2 n).toNatClampNeg)
  grind
theorem sp_p80 {nt : sp_NT} {M n : Nat} {res par : Nat → Int32} (h : sp_OK nt M res par n) (hT : sp_TY nt n) (e : nt 0 n = 80) : sp_nd n (nt 1 n) = true ∧ (¬ nt 0 (nt 1 n).toNatClampNeg = 5 ∧ ¬ nt 0 (nt 1 n).toNatClampNeg = 86) ∧ sp_nd n (nt 2 n) = true ∧ (¬ nt 0 (nt 2 n).toNatClampNeg = 5 ∧ ¬ nt 0 (nt 2 n).toNatClampNeg = 86) := by
  have := sp_k80 h hT e
  have ha := @sp_E_n (nt 0 (nt 1 n).toNatClampNeg)
  have hb := @sp_E_n (nt 0 (nt 2 n).toNatClampNeg)
  have hc := @sp_Sk_n (nt 0 (nt 1 n).toNatClampNeg)
  have hd := @sp_Sk_n (nt 0 (nt 2 n).toNatClampNeg)
  grind
theorem sp_p81 {nt : sp_NT} {M n : Nat} {res par : Nat → Int32} (h : sp_OK nt M res par n) (hT : sp_TY nt n) (e : nt 0 n = 81) : sp_nd n (nt 1 n) = true ∧ (¬ nt 0 (nt 1 n).toNatClampNeg = 5 ∧ ¬ nt 0 (nt 1 n).toNatClampNeg = 86) ∧ (¬ (nt 2 n) = -1 → sp_nd n (nt 2 n) = true ∧ (¬ nt 0 (nt 2 n).toNatClampNeg = 5 ∧ ¬ nt 0 (nt 2 n).toNatClampNeg = 86)) := by
  have := sp_k81 h hT e
  have ha := @sp_E_n (nt 0 (nt 1 n).toNatClampNeg)
  have hb := @sp_E_n (nt 0 (nt 2 n).toNatClampNeg)
  have hc := @sp_Sk_n (nt 0 (nt 1 n).toNatClampNeg)
  have hd := @sp_Sk_n (nt 0 (nt 2 n).toNatClampNeg)
  grind
theorem sp_p82 {nt : sp_NT} {M n : Nat} {res par : Nat → Int32} (h : sp_OK nt M res par n) (hT : sp_TY nt n) (e : nt 0 n = 82) : sp_nd n (nt 1 n) = true ∧ (¬ nt 0 (nt 1 n).toNatClampNeg = 5 ∧ ¬ nt 0 (nt 1 n).toNatClampNeg = 86) ∧ (¬ (nt 2 n) = -1 → sp_nd n (nt 2 n) = true ∧ (¬ nt 0 (nt 2 n).toNatClampNeg = 5 ∧ ¬ nt 0 (nt 2 n).toNatClampNeg = 86)) := by
  have := sp_k82 h hT e
  have ha := @sp_E_n (nt 0 (nt 1 n).toNatClampNeg)
  have hb := @sp_E_n (nt 0 (nt 2 n).toNatClampNeg)
  have hc := @sp_Sk_n (nt 0 (nt 1 n).toNatClampNeg)
  have hd := @sp_Sk_n (nt 0 (nt 2 n).toNatClampNeg)
  grind
theorem sp_p83 {nt : sp_NT} {M n : Nat} {res par : Nat → Int32} (h : sp_OK nt M res par n) (hT : sp_TY nt n) (e : nt 0 n = 83) : sp_nd n (nt 2 n) = true ∧ (¬ nt 0 (nt 2 n).toNatClampNeg = 5 ∧ ¬ nt 0 (nt 2 n).toNatClampNeg = 86) := by
  have := sp_k83 h hT e
  have ha := @sp_E_n (nt 0 (nt 1 n).toNatClampNeg)
  have hb := @sp_E_n (nt 0 (nt 2 n).toNatClampNeg)
  have hc := @sp_Sk_n (nt 0 (nt 1 n).toNatClampNeg)
  have hd := @sp_Sk_n (nt 0 (nt 2 n).toNatClampNeg)
  grind
theorem sp_p84 {nt : sp_NT} {M n : Nat} {res par : Nat → Int32} (h : sp_OK nt M res par n) (hT : sp_TY nt n) (e : nt 0 n = 84) : sp_nd n (nt 2 n) = true ∧ (¬ nt 0 (nt 2 n).toNatClampNeg = 5 ∧ ¬ nt 0 (nt 2 n).toNatClampNeg = 86) := by
  have := sp_k84 h hT e
  have ha := @sp_E_n (nt 0 (nt 1 n).toNatClampNeg)
  have hb := @sp_E_n (nt 0 (nt 2 n).toNatClampNeg)
  have hc := @sp_Sk_n (nt 0 (nt 1 n).toNatClampNeg)
  have hd := @sp_Sk_n (nt 0 (nt 2 n).toNatClampNeg)
  grind
theorem sp_p85 {nt : sp_NT} {M n : Nat} {res par : Nat → Int32} (h : sp_OK nt M res par n) (hT : sp_TY nt n) (e : nt 0 n = 85) : sp_nd n (nt 2 n) = true ∧ (¬ nt 0 (nt 2 n).toNatClampNeg = 5 ∧ ¬ nt 0 (nt 2 n).toNatClampNeg = 86) := by
  have := sp_k85 h hT e
  have ha := @sp_E_n (nt 0 (nt 1 n).toNatClampNeg)
  have hb := @sp_E_n (nt 0 (nt 2 n).toNatClampNeg)
  have hc := @sp_Sk_n (nt 0 (nt 1 n).toNatClampNeg)
  have hd := @sp_Sk_n (nt 0 (nt 2 n).toNatClampNeg)
  grind
def sp_WT (nt : sp_NT) (N : Nat) (w : Nat → Nat) : Prop := ∀ n, n < N → w n = 1 + (bif sp_pa (nt 0 n) (nt 1 n) then w (nt 1 n).toNatClampNeg else 0) + (bif sp_pb (nt 0 n) (nt 2 n) then w (nt 2 n).toNatClampNeg else 0)
theorem mj_max_toInt (a b : Int32) : (mj_max a b).toInt = max a.toInt b.toInt := by
  unfold mj_max
  split <;> rename_i h <;> simp only [Int32.le_iff_toInt_le, Int32.lt_iff_toInt_lt] at h <;> omega
/-- the parts of a node are less deep -/
theorem sp_WF.da {nt : sp_NT} {N M : Nat} {res par : Nat → Int32} (h : sp_WF nt N M res par) (hN : N ≤ 4000) {n : Nat} (hn : n < N) :
    (sp_pa (nt 0 n) (nt 1 n) = true → (nt 4 (nt 1 n).toNatClampNeg).toInt < (nt 4 n).toInt) ∧ (sp_pb (nt 0 n) (nt 2 n) = true → (nt 4 (nt 2 n).toNatClampNeg).toInt < (nt 4 n).toInt) := by
  obtain ⟨-, -, -, h4, h5⟩ := h.1 n hn
  have hd := h.dp hN n (by omega)
  have ha := h.pa hn
  have hb := h.pb hn
  unfold sp_dp at h4
  have key : ∀ c1 c2 : Int32, 0 ≤ c1.toInt → c1.toInt ≤ 40 → 0 ≤ c2.toInt → c2.toInt ≤ 40 → (mj_max c1 c2 + 1).toInt = max c1.toInt c2.toInt + 1 := by
    intro c1 c2 q1 q2 q3 q4
    rw [Int32.toInt_add, mj_max_toInt]
    show Int.bmod (max c1.toInt c2.toInt + 1) _ = _
    rw [Int.bmod_eq_of_le] <;> simp <;> omega
  have rg : ∀ c : Int32, sp_nd n c = true → 0 ≤ (nt 4 c.toNatClampNeg).toInt ∧ (nt 4 c.toNatClampNeg).toInt ≤ 40 := by
    intro c hc
    have := hd c hc
    simp only [Int32.le_iff_toInt_le] at this
    have e1 : (1 : Int32).toInt = 1 := by decide
    have e2 : (40 : Int32).toInt = 40 := by decide
    omega
  have z : (0 : Int32).toInt = 0 := by decide
  rw [h4]
  cases qa : sp_pa (nt 0 n) (nt 1 n) <;> cases qb : sp_pb (nt 0 n) (nt 2 n) <;> simp only [cond_true, cond_false]
  · simp
  · have r2 := rg _ (hb qb)
    rw [key _ _ (by omega) (by omega) r2.1 r2.2]
    refine ⟨fun q => (Bool.noConfusion q), fun _ => by omega⟩
  · have r1 := rg _ (ha qa)
    rw [key _ _ r1.1 r1.2 (by omega) (by omega)]
    refine ⟨fun _ => by omega, fun q => (Bool.noConfusion q)⟩
  · have r1 := rg _ (ha qa)
    have r2 := rg _ (hb qb)
    rw [key _ _ r1.1 r1.2 r2.1 r2.2]
    exact ⟨fun _ => by omega, fun _ => by omega⟩
theorem sX0_isScoped {x : mj_X} {nt : sp_NT} {N M : Nat} {res par : Nat → Int32} (hx : cw_T x nt N) (hF : sp_WF nt N M res par) (hM : M ≤ 40) {w : Nat → Nat} (hw : sp_WT nt N w) : ∀ (f : Nat) (n : Int32), sp_nd N n = true → ¬ nt 0 n.toNatClampNeg = 5 → ¬ nt 0 n.toNatClampNeg = 86 → (nt 4 n.toNatClampNeg).toInt ≤ f → sp_SC kX0 (cw_sc x) N (2 * f + 2) 28 n (w n.toNatClampNeg) (sp_sc nt f n) := by
  have hN := hx.2.1
  intro f
  induction f with
  | zero =>
    intro n hn _ _ h4
    have := (hF.dp hN N (Nat.le_refl _) n hn).1
    simp only [Int32.le_iff_toInt_le] at this
    have e1 : (1 : Int32).toInt = 1 := by decide
    omega
  | succ f ih =>
    intro n hn h5 h86 h4
    have hi : n.toNatClampNeg < N := sp_nd_lt hN hn
    have hO := hF.1 _ hi
    have hT := hF.ty hM hN n.toNatClampNeg (Nat.le_of_lt hi)
    have hda := hF.da hN hi
    have hwn := hw _ hi
    have hA : sp_hA (nt 0 n.toNatClampNeg) = true → sp_nd n.toNatClampNeg (nt 1 n.toNatClampNeg) = true → (¬ nt 0 (nt 1 n.toNatClampNeg).toNatClampNeg = 5 ∧ ¬ nt 0 (nt 1 n.toNatClampNeg).toNatClampNeg = 86) → sp_SC kX0 (cw_sc x) N (2 * f + 2) 28 (nt 1 n.toNatClampNeg) (bif sp_pa (nt 0 n.toNatClampNeg) (nt 1 n.toNatClampNeg) then w (nt 1 n.toNatClampNeg).toNatClampNeg else 0) (sp_sc nt f (nt 1 n.toNatClampNeg)) := by
      intro q1 q2 q3
      have q4 : sp_pa (nt 0 n.toNatClampNeg) (nt 1 n.toNatClampNeg) = true := by unfold sp_pa; rw [q1]; simp [sp_nd_n1 q2]
      rw [q4]
      exact ih _ (sp_nd_mono (Nat.le_of_lt hi) hN q2) q3.1 q3.2 (by have := hda.1 q4; omega)
    have hB : sp_hB (nt 0 n.toNatClampNeg) = true → sp_nd n.toNatClampNeg (nt 2 n.toNatClampNeg) = true → (¬ nt 0 (nt 2 n.toNatClampNeg).toNatClampNeg = 5 ∧ ¬ nt 0 (nt 2 n.toNatClampNeg).toNatClampNeg = 86) → sp_SC kX0 (cw_sc x) N (2 * f + 2) 28 (nt 2 n.toNatClampNeg) (bif sp_pb (nt 0 n.toNatClampNeg) (nt 2 n.toNatClampNeg) then w (nt 2 n.toNatClampNeg).toNatClampNeg else 0) (sp_sc nt f (nt 2 n.toNatClampNeg)) := by
      intro q1 q2 q3
      have q4 : sp_pb (nt 0 n.toNatClampNeg) (nt 2 n.toNatClampNeg) = true := by unfold sp_pb; rw [q1]; simp [sp_nd_n1 q2]
      rw [q4]
      exact ih _ (sp_nd_mono (Nat.le_of_lt hi) hN q2) q3.1 q3.2 (by have := hda.2 q4; omega)
    have hin := sp_isK_in _ hO.1
    simp only [List.mem_cons, List.not_mem_nil, or_false] at hin
    rcases hin with e | e | e | e | e | e | e | e | e | e | e | e | e | e | e | e | e | e | e | e | e | e | e | e | e | e | e | e | e | e | e | e | e | e | e | e | e | e | e | e | e | e | e | e | e | e | e | e | e | e | e | e | e | e | e | e | e | e | e | e | e | e | e | e | e | e | e | e | e | e | e | e | e | e | e | e | e
    · exact cw_s1 hx hn (by omega) e  (by omega)
    · exact cw_s2 hx hn (by omega) e  (by omega)
    · exact cw_s3 hx hn (by omega) e  (by omega)
    · exact cw_s4 hx hn (by omega) e  (by omega)
    · exact absurd e (by assumption)
    · have a1 := sp_p6 hO hT e
      exact cw_s6 hx hn (by omega) e (sp_nd_mono (Nat.le_of_lt hi) hN a1) (by omega)
    · obtain ⟨a1, b1, b2⟩ := sp_p7 hO hT e
      exact cw_s7 hx hn (by omega) e (sp_nd_mono (Nat.le_of_lt hi) hN a1) (hB (by rw [e]; rfl) b1 b2) (by omega)
    · obtain ⟨a1, a2, b3⟩ := sp_p8 hO hT e
      exact cw_s8 hx hn (by omega) e (hA (by rw [e]; rfl) a1 a2) (fun q => hB (by rw [e]; rfl) (b3 q).1 (b3 q).2) (by omega)
    · obtain ⟨a1, a2, b3⟩ := sp_p9 hO hT e
      exact cw_s9 hx hn (by omega) e (hA (by rw [e]; rfl) a1 a2) (fun q => hB (by rw [e]; rfl) (b3 q).1 (b3 q).2) (by omega)
    · obtain ⟨a1, a2, b3⟩ := sp_p10 hO hT e
      exact cw_s10 hx hn (by omega) e (hA (by rw [e]; rfl) a1 a2) (fun q => hB (by rw [e]; rfl) (b3 q).1 (b3 q).2) (by omega)
    · obtain ⟨a1, a2, b3⟩ := sp_p11 hO hT e
      exact cw_s11 hx hn (by omega) e (hA (by rw [e]; rfl) a1 a2) (fun q => hB (by rw [e]; rfl) (b3 q).1 (b3 q).2) (by omega)
    · obtain ⟨a1, a2, b3⟩ := sp_p12 hO hT e
      exact cw_s12 hx hn (by omega) e (hA (by rw [e]; rfl) a1 a2) (fun q => hB (by rw [e]; rfl) (b3 q).1 (b3 q).2) (by omega)
    · obtain ⟨a1, a2, b3⟩ := sp_p13 hO hT e
      exact cw_s13 hx hn (by omega) e (hA (by rw [e]; rfl) a1 a2) (fun q => hB (by rw [e]; rfl) (b3 q).1 (b3 q).2) (by omega)
    · obtain ⟨a1, a2, b3⟩ := sp_p14 hO hT e
      exact cw_s14 hx hn (by omega) e (hA (by rw [e]; rfl) a1 a2) (fun q => hB (by rw [e]; rfl) (b3 q).1 (b3 q).2) (by omega)
    · obtain ⟨a1, a2, b3⟩ := sp_p15 hO hT e
      exact cw_s15 hx hn (by omega) e (hA (by rw [e]; rfl) a1 a2) (fun q => hB (by rw [e]; rfl) (b3 q).1 (b3 q).2) (by omega)
    · obtain ⟨a1, a2, b3⟩ := sp_p16 hO hT e
      exact cw_s16 hx hn (by omega) e (hA (by rw [e]; rfl) a1 a2) (fun q => hB (by rw [e]; rfl) (b3 q).1 (b3 q).2) (by omega)
    · obtain ⟨a1, a2, b3⟩ := sp_p17 hO hT e
      exact cw_s17 hx hn (by omega) e (hA (by rw [e]; rfl) a1 a2) (fun q => hB (by rw [e]; rfl) (b3 q).1 (b3 q).2) (by omega)
    · obtain ⟨a1, a2, b3⟩ := sp_p18 hO hT e
      exact cw_s18 hx hn (by omega) e (hA (by rw [e]; rfl) a1 a2) (fun q => hB (by rw [e]; rfl) (b3 q).1 (b3 q).2) (by omega)
    · obtain ⟨a1, a2, b3⟩ := sp_p19 hO hT e
      exact cw_s19 hx hn (by omega) e (hA (by rw [e]; rfl) a1 a2) (fun q => hB (by rw [e]; rfl) (b3 q).1 (b3 q).2) (by omega)
    · obtain ⟨a1, a2, b3⟩ := sp_p20 hO hT e
      exact cw_s20 hx hn (by omega) e (hA (by rw [e]; rfl) a1 a2) (fun q => hB (by rw [e]; rfl) (b3 q).1 (b3 q).2) (by omega)
    · obtain ⟨a1, a2, b3⟩ := sp_p21 hO hT e
      exact cw_s21 hx hn (by omega) e (hA (by rw [e]; rfl) a1 a2) (fun q => hB (by rw [e]; rfl) (b3 q).1 (b3 q).2) (by omega)
    · obtain ⟨b1, b2⟩ := sp_p22 hO hT e
      exact cw_s22 hx hn (by omega) e (hB (by rw [e]; rfl) b1 b2) (by omega)
    · obtain ⟨a1, a2, b3⟩ := sp_p23 hO hT e
      exact cw_s23 hx hn (by omega) e (hA (by rw [e]; rfl) a1 a2) (fun q => hB (by rw [e]; rfl) (b3 q).1 (b3 q).2) (by omega)
    · obtain ⟨a1, a2, b3⟩ := sp_p24 hO hT e
      exact cw_s24 hx hn (by omega) e (hA (by rw [e]; rfl) a1 a2) (fun q => hB (by rw [e]; rfl) (b3 q).1 (b3 q).2) (by omega)
    · obtain ⟨a1, a2, b3⟩ := sp_p25 hO hT e
      exact cw_s25 hx hn (by omega) e (hA (by rw [e]; rfl) a1 a2) (fun q => hB (by rw [e]; rfl) (b3 q).1 (b3 q).2) (by omega)
    · obtain ⟨a1, a2, b3⟩ := sp_p26 hO hT e
      exact cw_s26 hx hn (by omega) e (hA (by rw [e]; rfl) a1 a2) (fun q => hB (by rw [e]; rfl) (b3 q).1 (b3 q).2) (by omega)
    · obtain ⟨a1, a2, b3⟩ := sp_p27 hO hT e
      exact cw_s27 hx hn (by omega) e (hA (by rw [e]; rfl) a1 a2) (fun q => hB (by rw [e]; rfl) (b3 q).1 (b3 q).2) (by omega)
    · obtain ⟨a1, a2, b3⟩ := sp_p28 hO hT e
      exact cw_s28 hx hn (by omega) e (hA (by rw [e]; rfl) a1 a2) (fun q => hB (by rw [e]; rfl) (b3 q).1 (b3 q).2) (by omega)
    · obtain ⟨a1, a2, b3⟩ := sp_p29 hO hT e
      exact cw_s29 hx hn (by omega) e (hA (by rw [e]; rfl) a1 a2) (fun q => hB (by rw [e]; rfl) (b3 q).1 (b3 q).2) (by omega)
    · obtain ⟨a1, a2, b3⟩ := sp_p30 hO hT e
      exact cw_s30 hx hn (by omega) e (hA (by rw [e]; rfl) a1 a2) (fun q => hB (by rw [e]; rfl) (b3 q).1 (b3 q).2) (by omega)
    · obtain ⟨a1, a2, b3⟩ := sp_p31 hO hT e
      exact cw_s31 hx hn (by omega) e (hA (by rw [e]; rfl) a1 a2) (fun q => hB (by rw [e]; rfl) (b3 q).1 (b3 q).2) (by omega)
    · obtain ⟨a1, a2, b3⟩ := sp_p32 hO hT e
      exact cw_s32 hx hn (by omega) e (hA (by rw [e]; rfl) a1 a2) (fun q => hB (by rw [e]; rfl) (b3 q).1 (b3 q).2) (by omega)
    · obtain ⟨a1, a2, b3⟩ := sp_p33 hO hT e
      exact cw_s33 hx hn (by omega) e (hA (by rw [e]; rfl) a1 a2) (fun q => hB (by rw [e]; rfl) (b3 q).1 (b3 q).2) (by omega)
    · obtain ⟨a1, a2⟩ := sp_p34 hO hT e
      exact cw_s34 hx hn (by omega) e (hA (by rw [e]; rfl) a1 a2) (by omega)
    · obtain ⟨a1, a2, b3⟩ := sp_p35 hO hT e
      exact cw_s35 hx hn (by omega) e (hA (by rw [e]; rfl) a1 a2) (fun q => hB (by rw [e]; rfl) (b3 q).1 (b3 q).2) (by omega)
    · obtain ⟨a1, a2, b3⟩ := sp_p36 hO hT e
      exact cw_s36 hx hn (by omega) e (hA (by rw [e]; rfl) a1 a2) (fun q => hB (by rw [e]; rfl) (b3 q).1 (b3 q).2) (by omega)
    · obtain ⟨a1, a2, b3⟩ := sp_p37 hO hT e
      exact cw_s37 hx hn (by omega) e (hA (by rw [e]; rfl) a1 a2) (fun q => hB (by rw [e]; rfl) (b3 q).1 (b3 q).2) (by omega)
    · obtain ⟨a1, a2, b3⟩ := sp_p38 hO hT e
      exact cw_s38 hx hn (by omega) e (hA (by rw [e]; rfl) a1 a2) (fun q => hB (by rw [e]; rfl) (b3 q).1 (b3 q).2) (by omega)
    · obtain ⟨a1, a2, b3⟩ := sp_p39 hO hT e
      exact cw_s39 hx hn (by omega) e (hA (by rw [e]; rfl) a1 a2) (fun q => hB (by rw [e]; rfl) (b3 q).1 (b3 q).2) (by omega)
    · obtain ⟨a1, a2, b3⟩ := sp_p40 hO hT e
      exact cw_s40 hx hn (by omega) e (hA (by rw [e]; rfl) a1 a2) (fun q => hB (by rw [e]; rfl) (b3 q).1 (b3 q).2) (by omega)
    · obtain ⟨a1, a2, b3⟩ := sp_p41 hO hT e
      exact cw_s41 hx hn (by omega) e (hA (by rw [e]; rfl) a1 a2) (fun q => hB (by rw [e]; rfl) (b3 q).1 (b3 q).2) (by omega)
    · obtain ⟨a1, a2, b3⟩ := sp_p42 hO hT e
      exact cw_s42 hx hn (by omega) e (hA (by rw [e]; rfl) a1 a2) (fun q => hB (by rw [e]; rfl) (b3 q).1 (b3 q).2) (by omega)
    · obtain ⟨a1, a2, b3⟩ := sp_p43 hO hT e
      exact cw_s43 hx hn (by omega) e (hA (by rw [e]; rfl) a1 a2) (fun q => hB (by rw [e]; rfl) (b3 q).1 (b3 q).2) (by omega)
    · obtain ⟨a1, a2, b3⟩ := sp_p44 hO hT e
      exact cw_s44 hx hn (by omega) e (hA (by rw [e]; rfl) a1 a2) (fun q => hB (by rw [e]; rfl) (b3 q).1 (b3 q).2) (by omega)
    · obtain ⟨a1, a2, b3⟩ := sp_p45 hO hT e
      exact cw_s45 hx hn (by omega) e (hA (by rw [e]; rfl) a1 a2) (fun q => hB (by rw [e]; rfl) (b3 q).1 (b3 q).2) (by omega)
    · obtain ⟨b1, b2⟩ := sp_p46 hO hT e
      exact cw_s46 hx hn (by omega) e (hB (by rw [e]; rfl) b1 b2) (by omega)
    · obtain ⟨a1, a2, b3⟩ := sp_p47 hO hT e
      exact cw_s47 hx hn (by omega) e (hA (by rw [e]; rfl) a1 a2) (fun q => hB (by rw [e]; rfl) (b3 q).1 (b3 q).2) (by omega)
    · have b3 := sp_p48 hO hT e
      exact cw_s48 hx hn (by omega) e (fun q => hB (by rw [e]; rfl) (b3 q).1 (b3 q).2) (by omega)
    · obtain ⟨a1, a2, b3⟩ := sp_p49 hO hT e
      exact cw_s49 hx hn (by omega) e (hA (by rw [e]; rfl) a1 a2) (fun q => hB (by rw [e]; rfl) (b3 q).1 (b3 q).2) (by omega)
    · exact cw_s51 hx hn (by omega) e  (by omega)
    · obtain ⟨a1, a2, b3⟩ := sp_p60 hO hT e
      exact cw_s60 hx hn (by omega) e (hA (by rw [e]; rfl) a1 a2) (fun q => hB (by rw [e]; rfl) (b3 q).1 (b3 q).2) (by omega)
    · obtain ⟨a1, b1, b2⟩ := sp_p61 hO hT e
      exact cw_s61 hx hn (by omega) e (sp_nd_mono (Nat.le_of_lt hi) hN a1) (hB (by rw [e]; rfl) b1 b2) (by omega)
    · obtain ⟨a1, a2, b1, b2⟩ := sp_p62 hO hT e
      exact cw_s62 hx hn (by omega) e (hA (by rw [e]; rfl) a1 a2) (hB (by rw [e]; rfl) b1 b2) (by omega)
    · obtain ⟨a1, a2⟩ := sp_p63 hO hT e
      exact cw_s63 hx hn (by omega) e (hA (by rw [e]; rfl) a1 a2) (by omega)
    · obtain ⟨a1, a2, b1, b2⟩ := sp_p64 hO hT e
      exact cw_s64 hx hn (by omega) e (hA (by rw [e]; rfl) a1 a2) (hB (by rw [e]; rfl) b1 b2) (by omega)
    · obtain ⟨a1, a2, b3⟩ := sp_p65 hO hT e
      exact cw_s65 hx hn (by omega) e (hA (by rw [e]; rfl) a1 a2) (fun q => hB (by rw [e]; rfl) (b3 q).1 (b3 q).2) (by omega)
    · obtain ⟨a1, a2, b1, b2⟩ := sp_p66 hO hT e
      exact cw_s66 hx hn (by omega) e (hA (by rw [e]; rfl) a1 a2) (hB (by rw [e]; rfl) b1 b2) (by omega)
    · obtain ⟨a1, a2, b1, b2⟩ := sp_p67 hO hT e
      exact cw_s67 hx hn (by omega) e (hA (by rw [e]; rfl) a1 a2) (hB (by rw [e]; rfl) b1 b2) (by omega)
    · obtain ⟨a1, a2, b1, b2⟩ := sp_p68 hO hT e
      exact cw_s68 hx hn (by omega) e (hA (by rw [e]; rfl) a1 a2) (hB (by rw [e]; rfl) b1 b2) (by omega)
    · obtain ⟨a1, a2, b1, b2⟩ := sp_p69 hO hT e
      exact cw_s69 hx hn (by omega) e (hA (by rw [e]; rfl) a1 a2) (hB (by rw [e]; rfl) b1 b2) (by omega)
    · obtain ⟨a1, a2, b1, b2⟩ := sp_p70 hO hT e
      exact cw_s70 hx hn (by omega) e (hA (by rw [e]; rfl) a1 a2) (hB (by rw [e]; rfl) b1 b2) (by omega)
    · exact cw_s71 hx hn (by omega) e  (by omega)
    · exact cw_s72 hx hn (by omega) e  (by omega)
    · have a3 := sp_p73 hO hT e
      exact cw_s73 hx hn (by omega) e (fun q => hA (by rw [e]; rfl) (a3 q).1 (a3 q).2) (by omega)
    · obtain ⟨a1, a2, b3⟩ := sp_p74 hO hT e
      exact cw_s74 hx hn (by omega) e (hA (by rw [e]; rfl) a1 a2) (fun q => hB (by rw [e]; rfl) (b3 q).1 (b3 q).2) (by omega)
    · obtain ⟨a1, a2, b1, b2⟩ := sp_p75 hO hT e
      exact cw_s75 hx hn (by omega) e (hA (by rw [e]; rfl) a1 a2) (hB (by rw [e]; rfl) b1 b2) (by omega)
    · obtain ⟨a1, a2, b3⟩ := sp_p76 hO hT e
      exact cw_s76 hx hn (by omega) e (hA (by rw [e]; rfl) a1 a2) (fun q => hB (by rw [e]; rfl) (b3 q).1 (b3 q).2) (by omega)
    · obtain ⟨b1, b2⟩ := sp_p77 hO hT e
      exact cw_s77 hx hn (by omega) e (hB (by rw [e]; rfl) b1 b2) (by omega)
    · obtain ⟨a1, b1, b2⟩ := sp_p78 hO hT e
      exact cw_s78 hx hn (by omega) e (sp_nd_mono (Nat.le_of_lt hi) hN a1) (hB (by rw [e]; rfl) b1 b2) (by omega)
    · obtain ⟨a1, a2, b1, b2⟩ := sp_p79 hO hT e
      exact cw_s79 hx hn (by omega) e (hA (by rw [e]; rfl) a1 a2) (hB (by rw [e]; rfl) b1 b2) (by omega)
    · obtain ⟨a1, a2, b1, b2⟩ := sp_p80 hO hT e
      exact cw_s80 hx hn (by omega) e (hA (by rw [e]; rfl) a1 a2) (hB (by rw [e]; rfl) b1 b2) (by omega)
    · obtain ⟨a1, a2, b3⟩ := sp_p81 hO hT e
      exact cw_s81 hx hn (by omega) e (hA (by rw [e]; rfl) a1 a2) (fun q => hB (by rw [e]; rfl) (b3 q).1 (b3 q).2) (by omega)
    · obtain ⟨a1, a2, b3⟩ := sp_p82 hO hT e
      exact cw_s82 hx hn (by omega) e (hA (by rw [e]; rfl) a1 a2) (fun q => hB (by rw [e]; rfl) (b3 q).1 (b3 q).2) (by omega)
    · obtain ⟨b1, b2⟩ := sp_p83 hO hT e
      exact cw_s83 hx hn (by omega) e (hB (by rw [e]; rfl) b1 b2) (by omega)
    · obtain ⟨b1, b2⟩ := sp_p84 hO hT e
      exact cw_s84 hx hn (by omega) e (hB (by rw [e]; rfl) b1 b2) (by omega)
    · obtain ⟨b1, b2⟩ := sp_p85 hO hT e
      exact cw_s85 hx hn (by omega) e (hB (by rw [e]; rfl) b1 b2) (by omega)
    · exact absurd e (by assumption)
