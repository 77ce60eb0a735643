/-! what the parts of a node are -/
theorem sp_f8 {nt : sp_NT} {n : Nat} {k q : Int32} (h : sp_fk nt (sp_nd n) k q = true) : sp_nd n k = true ∧ nt 0 k.toNatClampNeg = q := by unfold sp_fk at h; simp only [Bool.and_eq_true, decide_eq_true_eq] at h; exact h
theorem sp_f9 {nt : sp_NT} {n : Nat} {k : Int32} (h : ¬ sp_val nt (sp_nd n) k = 0) : sp_nd n k = true ∧ sp_E (nt 0 k.toNatClampNeg) = true ∧ sp_val nt (sp_nd n) k = nt 3 k.toNatClampNeg := by
  unfold sp_val at h ⊢
  cases q : sp_nd n k <;> cases q2 : sp_E (nt 0 k.toNatClampNeg) <;> simp [q, q2] at h ⊢
theorem sp_f10 {nt : sp_NT} {n : Nat} {k : Int32} (h : sp_act nt (sp_nd n) k = true) : sp_nd n k = true ∧ sp_Sk (nt 0 k.toNatClampNeg) = true := by unfold sp_act at h; simp only [Bool.and_eq_true] at h; exact h
theorem sp_f11 {nt : sp_NT} {n : Nat} {k : Int32} (h : ¬ sp_tg nt (sp_nd n) k = 0) : sp_nd n k = true ∧ (nt 0 k.toNatClampNeg = 6 ∧ nt 3 k.toNatClampNeg ≤ 4 ∨ nt 0 k.toNatClampNeg = 8) ∧ sp_tg nt (sp_nd n) k = nt 3 k.toNatClampNeg := by
  unfold sp_tg at h ⊢
  cases q : sp_nd n k <;> by_cases q2 : nt 0 k.toNatClampNeg = 6 <;> by_cases q3 : nt 3 k.toNatClampNeg ≤ 4 <;> by_cases q4 : nt 0 k.toNatClampNeg = 8 <;> simp [q, q2, q3, q4] at h ⊢
theorem sp_k1 {nt : sp_NT} {M n : Nat} {res par : Nat → Int32} (h : sp_OK nt M res par n) (hT : sp_TY nt n) (e : nt 0 n = 1) : (nt 2 n) = -1 ∧ nt 3 n = 1 := by
  obtain ⟨h1, h2, h3, -, -⟩ := h
  have hta := hT (nt 1 n)
  have htb := hT (nt 2 n)
  have ha8 := @sp_f8 nt n (nt 1 n)
  have hb8 := @sp_f8 nt n (nt 2 n)
  have ha9 := @sp_f9 nt n (nt 1 n)
  have hb9 := @sp_f9 nt n (nt 2 n)
  have ha10 := @sp_f10 nt n (nt 1 n)
  have hb10 := @sp_f10 nt n (nt 2 n)
  have ha11 := @sp_f11 nt n (nt 1 n)
  rw [← h2] at h3
  rw [e] at h3 h2
  clear hT
  simp only [sp_ty] at h2 h3
  simp [sp_i] at h2 h3
  grind [sp_E, sp_i, sp_isv]
theorem sp_k2 {nt : sp_NT} {M n : Nat} {res par : Nat → Int32} (h : sp_OK nt M res par n) (hT : sp_TY nt n) (e : nt 0 n = 2) : nt 3 n = 2 := by
  obtain ⟨h1, h2, h3, -, -⟩ := h
  have hta := hT (nt 1 n)
  have htb := hT (nt 2 n)
  have ha8 := @sp_f8 nt n (nt 1 n)
  have hb8 := @sp_f8 nt n (nt 2 n)
  have ha9 := @sp_f9 nt n (nt 1 n)
  have hb9 := @sp_f9 nt n (nt 2 n)
  have ha10 := @sp_f10 nt n (nt 1 n)
  have hb10 := @sp_f10 nt n (nt 2 n)
  have ha11 := @sp_f11 nt n (nt 1 n)
  rw [← h2] at h3
  rw [e] at h3 h2
  clear hT
  simp only [sp_ty] at h2 h3
  simp [sp_i] at h2 h3
  grind [sp_E, sp_i, sp_isv]
theorem sp_k3 {nt : sp_NT} {M n : Nat} {res par : Nat → Int32} (h : sp_OK nt M res par n) (hT : sp_TY nt n) (e : nt 0 n = 3) : (nt 2 n) = -1 ∧ nt 3 n = 3 := by
  obtain ⟨h1, h2, h3, -, -⟩ := h
  have hta := hT (nt 1 n)
  have htb := hT (nt 2 n)
  have ha8 := @sp_f8 nt n (nt 1 n)
  have hb8 := @sp_f8 nt n (nt 2 n)
  have ha9 := @sp_f9 nt n (nt 1 n)
  have hb9 := @sp_f9 nt n (nt 2 n)
  have ha10 := @sp_f10 nt n (nt 1 n)
  have hb10 := @sp_f10 nt n (nt 2 n)
  have ha11 := @sp_f11 nt n (nt 1 n)
  rw [← h2] at h3
  rw [e] at h3 h2
  clear hT
  simp only [sp_ty] at h2 h3
  simp [sp_i] at h2 h3
  grind [sp_E, sp_i, sp_isv]
theorem sp_k4 {nt : sp_NT} {M n : Nat} {res par : Nat → Int32} (h : sp_OK nt M res par n) (hT : sp_TY nt n) (e : nt 0 n = 4) : nt 3 n = 4 := by
  obtain ⟨h1, h2, h3, -, -⟩ := h
  have hta := hT (nt 1 n)
  have htb := hT (nt 2 n)
  have ha8 := @sp_f8 nt n (nt 1 n)
  have hb8 := @sp_f8 nt n (nt 2 n)
  have ha9 := @sp_f9 nt n (nt 1 n)
  have hb9 := @sp_f9 nt n (nt 2 n)
  have ha10 := @sp_f10 nt n (nt 1 n)
  have hb10 := @sp_f10 nt n (nt 2 n)
  have ha11 := @sp_f11 nt n (nt 1 n)
  rw [← h2] at h3
  rw [e] at h3 h2
  clear hT
  simp only [sp_ty] at h2 h3
  simp [sp_i] at h2 h3
  grind [sp_E, sp_i, sp_isv]
theorem sp_k5 {nt : sp_NT} {M n : Nat} {res par : Nat → Int32} (h : sp_OK nt M res par n) (hT : sp_TY nt n) (e : nt 0 n = 5) : (nt 2 n) = -1 ∧ sp_i (nt 1 n) 1 8 = true ∧ nt 3 n = (nt 1 n) := by
  obtain ⟨h1, h2, h3, -, -⟩ := h
  have hta := hT (nt 1 n)
  have htb := hT (nt 2 n)
  have ha8 := @sp_f8 nt n (nt 1 n)
  have hb8 := @sp_f8 nt n (nt 2 n)
  have ha9 := @sp_f9 nt n (nt 1 n)
  have hb9 := @sp_f9 nt n (nt 2 n)
  have ha10 := @sp_f10 nt n (nt 1 n)
  have hb10 := @sp_f10 nt n (nt 2 n)
  have ha11 := @sp_f11 nt n (nt 1 n)
  rw [← h2] at h3
  rw [e] at h3 h2
  clear hT
  simp only [sp_ty] at h2 h3
  simp [sp_i] at h2 h3
  grind [sp_E, sp_i, sp_isv]
theorem sp_k6 {nt : sp_NT} {M n : Nat} {res par : Nat → Int32} (h : sp_OK nt M res par n) (hT : sp_TY nt n) (e : nt 0 n = 6) : (sp_nd n (nt 1 n) = true ∧ (nt 0 (nt 1 n).toNatClampNeg = 5)) ∧ (nt 2 n) = -1 ∧ nt 3 n = nt 3 (nt 1 n).toNatClampNeg := by
  obtain ⟨h1, h2, h3, -, -⟩ := h
  have hta := hT (nt 1 n)
  have htb := hT (nt 2 n)
  have ha8 := @sp_f8 nt n (nt 1 n)
  have hb8 := @sp_f8 nt n (nt 2 n)
  have ha9 := @sp_f9 nt n (nt 1 n)
  have hb9 := @sp_f9 nt n (nt 2 n)
  have ha10 := @sp_f10 nt n (nt 1 n)
  have hb10 := @sp_f10 nt n (nt 2 n)
  have ha11 := @sp_f11 nt n (nt 1 n)
  rw [← h2] at h3
  rw [e] at h3 h2
  clear hT
  simp only [sp_ty] at h2 h3
  simp [sp_i] at h2 h3
  grind [sp_E, sp_i, sp_isv]
theorem sp_k7 {nt : sp_NT} {M n : Nat} {res par : Nat → Int32} (h : sp_OK nt M res par n) (hT : sp_TY nt n) (e : nt 0 n = 7) : (sp_nd n (nt 1 n) = true ∧ (nt 0 (nt 1 n).toNatClampNeg = 5)) ∧ (sp_nd n (nt 2 n) = true ∧ sp_E (nt 0 (nt 2 n).toNatClampNeg) = true ∧ nt 3 (nt 2 n).toNatClampNeg = nt 3 (nt 1 n).toNatClampNeg) ∧ nt 3 n = nt 3 (nt 1 n).toNatClampNeg := by
  obtain ⟨h1, h2, h3, -, -⟩ := h
  have hta := hT (nt 1 n)
  have htb := hT (nt 2 n)
  have ha8 := @sp_f8 nt n (nt 1 n)
  have hb8 := @sp_f8 nt n (nt 2 n)
  have ha9 := @sp_f9 nt n (nt 1 n)
  have hb9 := @sp_f9 nt n (nt 2 n)
  have ha10 := @sp_f10 nt n (nt 1 n)
  have hb10 := @sp_f10 nt n (nt 2 n)
  have ha11 := @sp_f11 nt n (nt 1 n)
  rw [← h2] at h3
  rw [e] at h3 h2
  clear hT
  simp only [sp_ty] at h2 h3
  simp [sp_i] at h2 h3
  grind [sp_E, sp_i, sp_isv]
theorem sp_k8 {nt : sp_NT} {M n : Nat} {res par : Nat → Int32} (h : sp_OK nt M res par n) (hT : sp_TY nt n) (e : nt 0 n = 8) : (sp_nd n (nt 1 n) = true ∧ sp_E (nt 0 (nt 1 n).toNatClampNeg) = true ∧ 1 ≤ nt 3 (nt 1 n).toNatClampNeg ∧ nt 3 (nt 1 n).toNatClampNeg ≤ 8) ∧ 5 ≤ nt 3 (nt 1 n).toNatClampNeg ∧ (sp_nd n (nt 2 n) = true ∧ sp_E (nt 0 (nt 2 n).toNatClampNeg) = true ∧ nt 3 (nt 2 n).toNatClampNeg = 1) ∧ nt 3 n = sp_el (nt 3 (nt 1 n).toNatClampNeg) := by
  obtain ⟨h1, h2, h3, -, -⟩ := h
  have hta := hT (nt 1 n)
  have htb := hT (nt 2 n)
  have ha8 := @sp_f8 nt n (nt 1 n)
  have hb8 := @sp_f8 nt n (nt 2 n)
  have ha9 := @sp_f9 nt n (nt 1 n)
  have hb9 := @sp_f9 nt n (nt 2 n)
  have ha10 := @sp_f10 nt n (nt 1 n)
  have hb10 := @sp_f10 nt n (nt 2 n)
  have ha11 := @sp_f11 nt n (nt 1 n)
  rw [← h2] at h3
  rw [e] at h3 h2
  clear hT
  simp only [sp_ty] at h2 h3
  simp [sp_i] at h2 h3
  grind [sp_E, sp_i, sp_isv]
theorem sp_k9 {nt : sp_NT} {M n : Nat} {res par : Nat → Int32} (h : sp_OK nt M res par n) (hT : sp_TY nt n) (e : nt 0 n = 9) : (sp_nd n (nt 1 n) = true ∧ (nt 0 (nt 1 n).toNatClampNeg = 8)) ∧ (sp_nd n (nt 2 n) = true ∧ sp_E (nt 0 (nt 2 n).toNatClampNeg) = true ∧ nt 3 (nt 2 n).toNatClampNeg = nt 3 (nt 1 n).toNatClampNeg) ∧ nt 3 n = nt 3 (nt 1 n).toNatClampNeg := by
  obtain ⟨h1, h2, h3, -, -⟩ := h
  have hta := hT (nt 1 n)
  have htb := hT (nt 2 n)
  have ha8 := @sp_f8 nt n (nt 1 n)
  have hb8 := @sp_f8 nt n (nt 2 n)
  have ha9 := @sp_f9 nt n (nt 1 n)
  have hb9 := @sp_f9 nt n (nt 2 n)
  have ha10 := @sp_f10 nt n (nt 1 n)
  have hb10 := @sp_f10 nt n (nt 2 n)
  have ha11 := @sp_f11 nt n (nt 1 n)
  rw [← h2] at h3
  rw [e] at h3 h2
  clear hT
  simp only [sp_ty] at h2 h3
  simp [sp_i] at h2 h3
  grind [sp_E, sp_i, sp_isv]
theorem sp_k10 {nt : sp_NT} {M n : Nat} {res par : Nat → Int32} (h : sp_OK nt M res par n) (hT : sp_TY nt n) (e : nt 0 n = 10) : (sp_nd n (nt 1 n) = true ∧ sp_E (nt 0 (nt 1 n).toNatClampNeg) = true ∧ 1 ≤ nt 3 (nt 1 n).toNatClampNeg ∧ nt 3 (nt 1 n).toNatClampNeg ≤ 8) ∧ nt 3 (nt 1 n).toNatClampNeg ≤ 4 ∧ (sp_nd n (nt 2 n) = true ∧ sp_E (nt 0 (nt 2 n).toNatClampNeg) = true ∧ nt 3 (nt 2 n).toNatClampNeg = nt 3 (nt 1 n).toNatClampNeg) ∧ nt 3 n = nt 3 (nt 1 n).toNatClampNeg := by
  obtain ⟨h1, h2, h3, -, -⟩ := h
  have hta := hT (nt 1 n)
  have htb := hT (nt 2 n)
  have ha8 := @sp_f8 nt n (nt 1 n)
  have hb8 := @sp_f8 nt n (nt 2 n)
  have ha9 := @sp_f9 nt n (nt 1 n)
  have hb9 := @sp_f9 nt n (nt 2 n)
  have ha10 := @sp_f10 nt n (nt 1 n)
  have hb10 := @sp_f10 nt n (nt 2 n)
  have ha11 := @sp_f11 nt n (nt 1 n)
  rw [← h2] at h3
  rw [e] at h3 h2
  clear hT
  simp only [sp_ty] at h2 h3
  simp [sp_i, sp_bin] at h2 h3
  grind [sp_E, sp_i, sp_isv]
theorem sp_k11 {nt : sp_NT} {M n : Nat} {res par : Nat → Int32} (h : sp_OK nt M res par n) (hT : sp_TY nt n) (e : nt 0 n = 11) : (sp_nd n (nt 1 n) = true ∧ sp_E (nt 0 (nt 1 n).toNatClampNeg) = true ∧ 1 ≤ nt 3 (nt 1 n).toNatClampNeg ∧ nt 3 (nt 1 n).toNatClampNeg ≤ 8) ∧ nt 3 (nt 1 n).toNatClampNeg ≤ 4 ∧ (sp_nd n (nt 2 n) = true ∧ sp_E (nt 0 (nt 2 n).toNatClampNeg) = true ∧ nt 3 (nt 2 n).toNatClampNeg = nt 3 (nt 1 n).toNatClampNeg) ∧ nt 3 n = nt 3 (nt 1 n).toNatClampNeg := by
  obtain ⟨h1, h2, h3, -, -⟩ := h
  have hta := hT (nt 1 n)
  have htb := hT (nt 2 n)
  have ha8 := @sp_f8 nt n (nt 1 n)
  have hb8 := @sp_f8 nt n (nt 2 n)
  have ha9 := @sp_f9 nt n (nt 1 n)
  have hb9 := @sp_f9 nt n (nt 2 n)
  have ha10 := @sp_f10 nt n (nt 1 n)
  have hb10 := @sp_f10 nt n (nt 2 n)
  have ha11 := @sp_f11 nt n (nt 1 n)
  rw [← h2] at h3
  rw [e] at h3 h2
  clear hT
  simp only [sp_ty] at h2 h3
  simp [sp_i, sp_bin] at h2 h3
  grind [sp_E, sp_i, sp_isv]
theorem sp_k12 {nt : sp_NT} {M n : Nat} {res par : Nat → Int32} (h : sp_OK nt M res par n) (hT : sp_TY nt n) (e : nt 0 n = 12) : (sp_nd n (nt 1 n) = true ∧ sp_E (nt 0 (nt 1 n).toNatClampNeg) = true ∧ 1 ≤ nt 3 (nt 1 n).toNatClampNeg ∧ nt 3 (nt 1 n).toNatClampNeg ≤ 8) ∧ nt 3 (nt 1 n).toNatClampNeg ≤ 4 ∧ (sp_nd n (nt 2 n) = true ∧ sp_E (nt 0 (nt 2 n).toNatClampNeg) = true ∧ nt 3 (nt 2 n).toNatClampNeg = nt 3 (nt 1 n).toNatClampNeg) ∧ nt 3 n = nt 3 (nt 1 n).toNatClampNeg := by
  obtain ⟨h1, h2, h3, -, -⟩ := h
  have hta := hT (nt 1 n)
  have htb := hT (nt 2 n)
  have ha8 := @sp_f8 nt n (nt 1 n)
  have hb8 := @sp_f8 nt n (nt 2 n)
  have ha9 := @sp_f9 nt n (nt 1 n)
  have hb9 := @sp_f9 nt n (nt 2 n)
  have ha10 := @sp_f10 nt n (nt 1 n)
  have hb10 := @sp_f10 nt n (nt 2 n)
  have ha11 := @sp_f11 nt n (nt 1 n)
  rw [← h2] at h3
  rw [e] at h3 h2
  clear hT
  simp only [sp_ty] at h2 h3
  simp [sp_i, sp_bin] at h2 h3
  grind [sp_E, sp_i, sp_isv]
theorem sp_k13 {nt : sp_NT} {M n : Nat} {res par : Nat → Int32} (h : sp_OK nt M res par n) (hT : sp_TY nt n) (e : nt 0 n = 13) : (sp_nd n (nt 1 n) = true ∧ sp_E (nt 0 (nt 1 n).toNatClampNeg) = true ∧ 1 ≤ nt 3 (nt 1 n).toNatClampNeg ∧ nt 3 (nt 1 n).toNatClampNeg ≤ 8) ∧ nt 3 (nt 1 n).toNatClampNeg ≤ 4 ∧ (sp_nd n (nt 2 n) = true ∧ sp_E (nt 0 (nt 2 n).toNatClampNeg) = true ∧ nt 3 (nt 2 n).toNatClampNeg = nt 3 (nt 1 n).toNatClampNeg) ∧ nt 3 n = nt 3 (nt 1 n).toNatClampNeg := by
  obtain ⟨h1, h2, h3, -, -⟩ := h
  have hta := hT (nt 1 n)
  have htb := hT (nt 2 n)
  have ha8 := @sp_f8 nt n (nt 1 n)
  have hb8 := @sp_f8 nt n (nt 2 n)
  have ha9 := @sp_f9 nt n (nt 1 n)
  have hb9 := @sp_f9 nt n (nt 2 n)
  have ha10 := @sp_f10 nt n (nt 1 n)
  have hb10 := @sp_f10 nt n (nt 2 n)
  have ha11 := @sp_f11 nt n (nt 1 n)
  rw [← h2] at h3
  rw [e] at h3 h2
  clear hT
  simp only [sp_ty] at h2 h3
  simp [sp_i, sp_bin] at h2 h3
  grind [sp_E, sp_i, sp_isv]
theorem sp_k14 {nt : sp_NT} {M n : Nat} {res par : Nat → Int32} (h : sp_OK nt M res par n) (hT : sp_TY nt n) (e : nt 0 n = 14) : (sp_nd n (nt 1 n) = true ∧ sp_E (nt 0 (nt 1 n).toNatClampNeg) = true ∧ 1 ≤ nt 3 (nt 1 n).toNatClampNeg ∧ nt 3 (nt 1 n).toNatClampNeg ≤ 8) ∧ nt 3 (nt 1 n).toNatClampNeg ≤ 4 ∧ (sp_nd n (nt 2 n) = true ∧ sp_E (nt 0 (nt 2 n).toNatClampNeg) = true ∧ nt 3 (nt 2 n).toNatClampNeg = nt 3 (nt 1 n).toNatClampNeg) ∧ nt 3 n = nt 3 (nt 1 n).toNatClampNeg := by
  obtain ⟨h1, h2, h3, -, -⟩ := h
  have hta := hT (nt 1 n)
  have htb := hT (nt 2 n)
  have ha8 := @sp_f8 nt n (nt 1 n)
  have hb8 := @sp_f8 nt n (nt 2 n)
  have ha9 := @sp_f9 nt n (nt 1 n)
  have hb9 := @sp_f9 nt n (nt 2 n)
  have ha10 := @sp_f10 nt n (nt 1 n)
  have hb10 := @sp_f10 nt n (nt 2 n)
  have ha11 := @sp_f11 nt n (nt 1 n)
  rw [← h2] at h3
  rw [e] at h3 h2
  clear hT
  simp only [sp_ty] at h2 h3
  simp [sp_i, sp_bin] at h2 h3
  grind [sp_E, sp_i, sp_isv]
theorem sp_k15 {nt : sp_NT} {M n : Nat} {res par : Nat → Int32} (h : sp_OK nt M res par n) (hT : sp_TY nt n) (e : nt 0 n = 15) : (sp_nd n (nt 1 n) = true ∧ sp_E (nt 0 (nt 1 n).toNatClampNeg) = true ∧ 1 ≤ nt 3 (nt 1 n).toNatClampNeg ∧ nt 3 (nt 1 n).toNatClampNeg ≤ 8) ∧ nt 3 (nt 1 n).toNatClampNeg ≤ 2 ∧ (sp_nd n (nt 2 n) = true ∧ sp_E (nt 0 (nt 2 n).toNatClampNeg) = true ∧ nt 3 (nt 2 n).toNatClampNeg = nt 3 (nt 1 n).toNatClampNeg) ∧ nt 3 n = nt 3 (nt 1 n).toNatClampNeg := by
  obtain ⟨h1, h2, h3, -, -⟩ := h
  have hta := hT (nt 1 n)
  have htb := hT (nt 2 n)
  have ha8 := @sp_f8 nt n (nt 1 n)
  have hb8 := @sp_f8 nt n (nt 2 n)
  have ha9 := @sp_f9 nt n (nt 1 n)
  have hb9 := @sp_f9 nt n (nt 2 n)
  have ha10 := @sp_f10 nt n (nt 1 n)
  have hb10 := @sp_f10 nt n (nt 2 n)
  have ha11 := @sp_f11 nt n (nt 1 n)
  rw [← h2] at h3
  rw [e] at h3 h2
  clear hT
  simp only [sp_ty] at h2 h3
  simp [sp_i, sp_bin] at h2 h3
  grind [sp_E, sp_i, sp_isv]
theorem sp_k16 {nt : sp_NT} {M n : Nat} {res par : Nat → Int32} (h : sp_OK nt M res par n) (hT : sp_TY nt n) (e : nt 0 n = 16) : (sp_nd n (nt 1 n) = true ∧ sp_E (nt 0 (nt 1 n).toNatClampNeg) = true ∧ 1 ≤ nt 3 (nt 1 n).toNatClampNeg ∧ nt 3 (nt 1 n).toNatClampNeg ≤ 8) ∧ nt 3 (nt 1 n).toNatClampNeg ≤ 2 ∧ (sp_nd n (nt 2 n) = true ∧ sp_E (nt 0 (nt 2 n).toNatClampNeg) = true ∧ nt 3 (nt 2 n).toNatClampNeg = nt 3 (nt 1 n).toNatClampNeg) ∧ nt 3 n = nt 3 (nt 1 n).toNatClampNeg := by
  obtain ⟨h1, h2, h3, -, -⟩ := h
  have hta := hT (nt 1 n)
  have htb := hT (nt 2 n)
  have ha8 := @sp_f8 nt n (nt 1 n)
  have hb8 := @sp_f8 nt n (nt 2 n)
  have ha9 := @sp_f9 nt n (nt 1 n)
  have hb9 := @sp_f9 nt n (nt 2 n)
  have ha10 := @sp_f10 nt n (nt 1 n)
  have hb10 := @sp_f10 nt n (nt 2 n)
  have ha11 := @sp_f11 nt n (nt 1 n)
  rw [← h2] at h3
  rw [e] at h3 h2
  clear hT
  simp only [sp_ty] at h2 h3
  simp [sp_i, sp_bin] at h2 h3
  grind [sp_E, sp_i, sp_isv]
theorem sp_k17 {nt : sp_NT} {M n : Nat} {res par : Nat → Int32} (h : sp_OK nt M res par n) (hT : sp_TY nt n) (e : nt 0 n = 17) : (sp_nd n (nt 1 n) = true ∧ sp_E (nt 0 (nt 1 n).toNatClampNeg) = true ∧ 1 ≤ nt 3 (nt 1 n).toNatClampNeg ∧ nt 3 (nt 1 n).toNatClampNeg ≤ 8) ∧ nt 3 (nt 1 n).toNatClampNeg ≤ 2 ∧ (sp_nd n (nt 2 n) = true ∧ sp_E (nt 0 (nt 2 n).toNatClampNeg) = true ∧ nt 3 (nt 2 n).toNatClampNeg = nt 3 (nt 1 n).toNatClampNeg) ∧ nt 3 n = nt 3 (nt 1 n).toNatClampNeg := by
  obtain ⟨h1, h2, h3, -, -⟩ := h
  have hta := hT (nt 1 n)
  have htb := hT (nt 2 n)
  have ha8 := @sp_f8 nt n (nt 1 n)
  have hb8 := @sp_f8 nt n (nt 2 n)
  have ha9 := @sp_f9 nt n (nt 1 n)
  have hb9 := @sp_f9 nt n (nt 2 n)
  have ha10 := @sp_f10 nt n (nt 1 n)
  have hb10 := @sp_f10 nt n (nt 2 n)
  have ha11 := @sp_f11 nt n (nt 1 n)
  rw [← h2] at h3
  rw [e] at h3 h2
  clear hT
  simp only [sp_ty] at h2 h3
  simp [sp_i, sp_bin] at h2 h3
  grind [sp_E, sp_i, sp_isv]
theorem sp_k18 {nt : sp_NT} {M n : Nat} {res par : Nat → Int32} (h : sp_OK nt M res par n) (hT : sp_TY nt n) (e : nt 0 n = 18) : (sp_nd n (nt 1 n) = true ∧ sp_E (nt 0 (nt 1 n).toNatClampNeg) = true ∧ 1 ≤ nt 3 (nt 1 n).toNatClampNeg ∧ nt 3 (nt 1 n).toNatClampNeg ≤ 8) ∧ nt 3 (nt 1 n).toNatClampNeg ≤ 2 ∧ (sp_nd n (nt 2 n) = true ∧ sp_E (nt 0 (nt 2 n).toNatClampNeg) = true ∧ nt 3 (nt 2 n).toNatClampNeg = 1) ∧ nt 3 n = nt 3 (nt 1 n).toNatClampNeg := by
  obtain ⟨h1, h2, h3, -, -⟩ := h
  have hta := hT (nt 1 n)
  have htb := hT (nt 2 n)
  have ha8 := @sp_f8 nt n (nt 1 n)
  have hb8 := @sp_f8 nt n (nt 2 n)
  have ha9 := @sp_f9 nt n (nt 1 n)
  have hb9 := @sp_f9 nt n (nt 2 n)
  have ha10 := @sp_f10 nt n (nt 1 n)
  have hb10 := @sp_f10 nt n (nt 2 n)
  have ha11 := @sp_f11 nt n (nt 1 n)
  rw [← h2] at h3
  rw [e] at h3 h2
  clear hT
  simp only [sp_ty] at h2 h3
  simp [sp_i, sp_bin] at h2 h3
  grind [sp_E, sp_i, sp_isv]
theorem sp_k19 {nt : sp_NT} {M n : Nat} {res par : Nat → Int32} (h : sp_OK nt M res par n) (hT : sp_TY nt n) (e : nt 0 n = 19) : (sp_nd n (nt 1 n) = true ∧ sp_E (nt 0 (nt 1 n).toNatClampNeg) = true ∧ 1 ≤ nt 3 (nt 1 n).toNatClampNeg ∧ nt 3 (nt 1 n).toNatClampNeg ≤ 8) ∧ nt 3 (nt 1 n).toNatClampNeg ≤ 2 ∧ (sp_nd n (nt 2 n) = true ∧ sp_E (nt 0 (nt 2 n).toNatClampNeg) = true ∧ nt 3 (nt 2 n).toNatClampNeg = 1) ∧ nt 3 n = nt 3 (nt 1 n).toNatClampNeg := by
  obtain ⟨h1, h2, h3, -, -⟩ := h
  have hta := hT (nt 1 n)
  have htb := hT (nt 2 n)
  have ha8 := @sp_f8 nt n (nt 1 n)
  have hb8 := @sp_f8 nt n (nt 2 n)
  have ha9 := @sp_f9 nt n (nt 1 n)
  have hb9 := @sp_f9 nt n (nt 2 n)
  have ha10 := @sp_f10 nt n (nt 1 n)
  have hb10 := @sp_f10 nt n (nt 2 n)
  have ha11 := @sp_f11 nt n (nt 1 n)
  rw [← h2] at h3
  rw [e] at h3 h2
  clear hT
  simp only [sp_ty] at h2 h3
  simp [sp_i, sp_bin] at h2 h3
  grind [sp_E, sp_i, sp_isv]
theorem sp_k20 {nt : sp_NT} {M n : Nat} {res par : Nat → Int32} (h : sp_OK nt M res par n) (hT : sp_TY nt n) (e : nt 0 n = 20) : (sp_nd n (nt 1 n) = true ∧ sp_E (nt 0 (nt 1 n).toNatClampNeg) = true ∧ 1 ≤ nt 3 (nt 1 n).toNatClampNeg ∧ nt 3 (nt 1 n).toNatClampNeg ≤ 8) ∧ nt 3 (nt 1 n).toNatClampNeg ≤ 2 ∧ (sp_nd n (nt 2 n) = true ∧ sp_E (nt 0 (nt 2 n).toNatClampNeg) = true ∧ nt 3 (nt 2 n).toNatClampNeg = 1) ∧ nt 3 n = nt 3 (nt 1 n).toNatClampNeg := by
  obtain ⟨h1, h2, h3, -, -⟩ := h
  have hta := hT (nt 1 n)
  have htb := hT (nt 2 n)
  have ha8 := @sp_f8 nt n (nt 1 n)
  have hb8 := @sp_f8 nt n (nt 2 n)
  have ha9 := @sp_f9 nt n (nt 1 n)
  have hb9 := @sp_f9 nt n (nt 2 n)
  have ha10 := @sp_f10 nt n (nt 1 n)
  have hb10 := @sp_f10 nt n (nt 2 n)
  have ha11 := @sp_f11 nt n (nt 1 n)
  rw [← h2] at h3
  rw [e] at h3 h2
  clear hT
  simp only [sp_ty] at h2 h3
  simp [sp_i, sp_bin] at h2 h3
  grind [sp_E, sp_i, sp_isv]
theorem sp_k21 {nt : sp_NT} {M n : Nat} {res par : Nat → Int32} (h : sp_OK nt M res par n) (hT : sp_TY nt n) (e : nt 0 n = 21) : (sp_nd n (nt 1 n) = true ∧ sp_E (nt 0 (nt 1 n).toNatClampNeg) = true ∧ 1 ≤ nt 3 (nt 1 n).toNatClampNeg ∧ nt 3 (nt 1 n).toNatClampNeg ≤ 8) ∧ nt 3 (nt 1 n).toNatClampNeg ≤ 4 ∧ (nt 2 n) = -1 ∧ nt 3 n = nt 3 (nt 1 n).toNatClampNeg := by
  obtain ⟨h1, h2, h3, -, -⟩ := h
  have hta := hT (nt 1 n)
  have htb := hT (nt 2 n)
  have ha8 := @sp_f8 nt n (nt 1 n)
  have hb8 := @sp_f8 nt n (nt 2 n)
  have ha9 := @sp_f9 nt n (nt 1 n)
  have hb9 := @sp_f9 nt n (nt 2 n)
  have ha10 := @sp_f10 nt n (nt 1 n)
  have hb10 := @sp_f10 nt n (nt 2 n)
  have ha11 := @sp_f11 nt n (nt 1 n)
  rw [← h2] at h3
  rw [e] at h3 h2
  clear hT
  simp only [sp_ty] at h2 h3
  simp [sp_i, sp_bin] at h2 h3
  grind [sp_E, sp_i, sp_isv]
theorem sp_k22 {nt : sp_NT} {M n : Nat} {res par : Nat → Int32} (h : sp_OK nt M res par n) (hT : sp_TY nt n) (e : nt 0 n = 22) : (sp_nd n (nt 2 n) = true ∧ sp_E (nt 0 (nt 2 n).toNatClampNeg) = true ∧ 1 ≤ nt 3 (nt 2 n).toNatClampNeg ∧ nt 3 (nt 2 n).toNatClampNeg ≤ 8) ∧ nt 3 (nt 2 n).toNatClampNeg ≤ 4 ∧ (sp_i (nt 1 n) 1 4 || sp_i (nt 1 n) 9 11) = true ∧ nt 3 n = if (nt 1 n) ≤ 4 then (nt 1 n) else 1 := by
  obtain ⟨h1, h2, h3, -, -⟩ := h
  have hta := hT (nt 1 n)
  have htb := hT (nt 2 n)
  have ha8 := @sp_f8 nt n (nt 1 n)
  have hb8 := @sp_f8 nt n (nt 2 n)
  have ha9 := @sp_f9 nt n (nt 1 n)
  have hb9 := @sp_f9 nt n (nt 2 n)
  have ha10 := @sp_f10 nt n (nt 1 n)
  have hb10 := @sp_f10 nt n (nt 2 n)
  have ha11 := @sp_f11 nt n (nt 1 n)
  rw [← h2] at h3
  rw [e] at h3 h2
  clear hT
  simp only [sp_ty] at h2 h3
  simp [sp_i, sp_bin] at h2 h3
  grind [sp_E, sp_i, sp_isv]
theorem sp_k23 {nt : sp_NT} {M n : Nat} {res par : Nat → Int32} (h : sp_OK nt M res par n) (hT : sp_TY nt n) (e : nt 0 n = 23) : (sp_nd n (nt 1 n) = true ∧ sp_E (nt 0 (nt 1 n).toNatClampNeg) = true ∧ 1 ≤ nt 3 (nt 1 n).toNatClampNeg ∧ nt 3 (nt 1 n).toNatClampNeg ≤ 8) ∧ nt 3 (nt 1 n).toNatClampNeg ≤ 4 ∧ (sp_nd n (nt 2 n) = true ∧ sp_E (nt 0 (nt 2 n).toNatClampNeg) = true ∧ nt 3 (nt 2 n).toNatClampNeg = nt 3 (nt 1 n).toNatClampNeg) ∧ nt 3 n = 1 := by
  obtain ⟨h1, h2, h3, -, -⟩ := h
  have hta := hT (nt 1 n)
  have htb := hT (nt 2 n)
  have ha8 := @sp_f8 nt n (nt 1 n)
  have hb8 := @sp_f8 nt n (nt 2 n)
  have ha9 := @sp_f9 nt n (nt 1 n)
  have hb9 := @sp_f9 nt n (nt 2 n)
  have ha10 := @sp_f10 nt n (nt 1 n)
  have hb10 := @sp_f10 nt n (nt 2 n)
  have ha11 := @sp_f11 nt n (nt 1 n)
  rw [← h2] at h3
  rw [e] at h3 h2
  clear hT
  simp only [sp_ty] at h2 h3
  simp [sp_i, sp_bin] at h2 h3
  grind [sp_E, sp_i, sp_isv]
theorem sp_k24 {nt : sp_NT} {M n : Nat} {res par : Nat → Int32} (h : sp_OK nt M res par n) (hT : sp_TY nt n) (e : nt 0 n = 24) : (sp_nd n (nt 1 n) = true ∧ sp_E (nt 0 (nt 1 n).toNatClampNeg) = true ∧ 1 ≤ nt 3 (nt 1 n).toNatClampNeg ∧ nt 3 (nt 1 n).toNatClampNeg ≤ 8) ∧ nt 3 (nt 1 n).toNatClampNeg ≤ 4 ∧ (sp_nd n (nt 2 n) = true ∧ sp_E (nt 0 (nt 2 n).toNatClampNeg) = true ∧ nt 3 (nt 2 n).toNatClampNeg = nt 3 (nt 1 n).toNatClampNeg) ∧ nt 3 n = 1 := by
  obtain ⟨h1, h2, h3, -, -⟩ := h
  have hta := hT (nt 1 n)
  have htb := hT (nt 2 n)
  have ha8 := @sp_f8 nt n (nt 1 n)
  have hb8 := @sp_f8 nt n (nt 2 n)
  have ha9 := @sp_f9 nt n (nt 1 n)
  have hb9 := @sp_f9 nt n (nt 2 n)
  have ha10 := @sp_f10 nt n (nt 1 n)
  have hb10 := @sp_f10 nt n (nt 2 n)
  have ha11 := @sp_f11 nt n (nt 1 n)
  rw [← h2] at h3
  rw [e] at h3 h2
  clear hT
  simp only [sp_ty] at h2 h3
  simp [sp_i, sp_bin] at h2 h3
  grind [sp_E, sp_i, sp_isv]
theorem sp_k25 {nt : sp_NT} {M n : Nat} {res par : Nat → Int32} (h : sp_OK nt M res par n) (hT : sp_TY nt n) (e : nt 0 n = 25) : (sp_nd n (nt 1 n) = true ∧ sp_E (nt 0 (nt 1 n).toNatClampNeg) = true ∧ 1 ≤ nt 3 (nt 1 n).toNatClampNeg ∧ nt 3 (nt 1 n).toNatClampNeg ≤ 8) ∧ nt 3 (nt 1 n).toNatClampNeg ≤ 4 ∧ (sp_nd n (nt 2 n) = true ∧ sp_E (nt 0 (nt 2 n).toNatClampNeg) = true ∧ nt 3 (nt 2 n).toNatClampNeg = nt 3 (nt 1 n).toNatClampNeg) ∧ nt 3 n = 1 := by
  obtain ⟨h1, h2, h3, -, -⟩ := h
  have hta := hT (nt 1 n)
  have htb := hT (nt 2 n)
  have ha8 := @sp_f8 nt n (nt 1 n)
  have hb8 := @sp_f8 nt n (nt 2 n)
  have ha9 := @sp_f9 nt n (nt 1 n)
  have hb9 := @sp_f9 nt n (nt 2 n)
  have ha10 := @sp_f10 nt n (nt 1 n)
  have hb10 := @sp_f10 nt n (nt 2 n)
  have ha11 := @sp_f11 nt n (nt 1 n)
  rw [← h2] at h3
  rw [e] at h3 h2
  clear hT
  simp only [sp_ty] at h2 h3
  simp [sp_i, sp_bin] at h2 h3
  grind [sp_E, sp_i, sp_isv]
theorem sp_k26 {nt : sp_NT} {M n : Nat} {res par : Nat → Int32} (h : sp_OK nt M res par n) (hT : sp_TY nt n) (e : nt 0 n = 26) : (sp_nd n (nt 1 n) = true ∧ sp_E (nt 0 (nt 1 n).toNatClampNeg) = true ∧ 1 ≤ nt 3 (nt 1 n).toNatClampNeg ∧ nt 3 (nt 1 n).toNatClampNeg ≤ 8) ∧ nt 3 (nt 1 n).toNatClampNeg ≤ 4 ∧ (sp_nd n (nt 2 n) = true ∧ sp_E (nt 0 (nt 2 n).toNatClampNeg) = true ∧ nt 3 (nt 2 n).toNatClampNeg = nt 3 (nt 1 n).toNatClampNeg) ∧ nt 3 n = 1 := by
  obtain ⟨h1, h2, h3, -, -⟩ := h
  have hta := hT (nt 1 n)
  have htb := hT (nt 2 n)
  have ha8 := @sp_f8 nt n (nt 1 n)
  have hb8 := @sp_f8 nt n (nt 2 n)
  have ha9 := @sp_f9 nt n (nt 1 n)
  have hb9 := @sp_f9 nt n (nt 2 n)
  have ha10 := @sp_f10 nt n (nt 1 n)
  have hb10 := @sp_f10 nt n (nt 2 n)
  have ha11 := @sp_f11 nt n (nt 1 n)
  rw [← h2] at h3
  rw [e] at h3 h2
  clear hT
  simp only [sp_ty] at h2 h3
  simp [sp_i, sp_bin] at h2 h3
  grind [sp_E, sp_i, sp_isv]
theorem sp_k27 {nt : sp_NT} {M n : Nat} {res par : Nat → Int32} (h : sp_OK nt M res par n) (hT : sp_TY nt n) (e : nt 0 n = 27) : (sp_nd n (nt 1 n) = true ∧ sp_E (nt 0 (nt 1 n).toNatClampNeg) = true ∧ 1 ≤ nt 3 (nt 1 n).toNatClampNeg ∧ nt 3 (nt 1 n).toNatClampNeg ≤ 8) ∧ nt 3 (nt 1 n).toNatClampNeg ≤ 4 ∧ (sp_nd n (nt 2 n) = true ∧ sp_E (nt 0 (nt 2 n).toNatClampNeg) = true ∧ nt 3 (nt 2 n).toNatClampNeg = nt 3 (nt 1 n).toNatClampNeg) ∧ nt 3 n = 1 := by
  obtain ⟨h1, h2, h3, -, -⟩ := h
  have hta := hT (nt 1 n)
  have htb := hT (nt 2 n)
  have ha8 := @sp_f8 nt n (nt 1 n)
  have hb8 := @sp_f8 nt n (nt 2 n)
  have ha9 := @sp_f9 nt n (nt 1 n)
  have hb9 := @sp_f9 nt n (nt 2 n)
  have ha10 := @sp_f10 nt n (nt 1 n)
  have hb10 := @sp_f10 nt n (nt 2 n)
  have ha11 := @sp_f11 nt n (nt 1 n)
  rw [← h2] at h3
  rw [e] at h3 h2
  clear hT
  simp only [sp_ty] at h2 h3
  simp [sp_i, sp_bin] at h2 h3
  grind [sp_E, sp_i, sp_isv]
theorem sp_k28 {nt : sp_NT} {M n : Nat} {res par : Nat → Int32} (h : sp_OK nt M res par n) (hT : sp_TY nt n) (e : nt 0 n = 28) : (sp_nd n (nt 1 n) = true ∧ sp_E (nt 0 (nt 1 n).toNatClampNeg) = true ∧ 1 ≤ nt 3 (nt 1 n).toNatClampNeg ∧ nt 3 (nt 1 n).toNatClampNeg ≤ 8) ∧ nt 3 (nt 1 n).toNatClampNeg ≤ 4 ∧ (sp_nd n (nt 2 n) = true ∧ sp_E (nt 0 (nt 2 n).toNatClampNeg) = true ∧ nt 3 (nt 2 n).toNatClampNeg = nt 3 (nt 1 n).toNatClampNeg) ∧ nt 3 n = 1 := by
  obtain ⟨h1, h2, h3, -, -⟩ := h
  have hta := hT (nt 1 n)
  have htb := hT (nt 2 n)
  have ha8 := @sp_f8 nt n (nt 1 n)
  have hb8 := @sp_f8 nt n (nt 2 n)
  have ha9 := @sp_f9 nt n (nt 1 n)
  have hb9 := @sp_f9 nt n (nt 2 n)
  have ha10 := @sp_f10 nt n (nt 1 n)
  have hb10 := @sp_f10 nt n (nt 2 n)
  have ha11 := @sp_f11 nt n (nt 1 n)
  rw [← h2] at h3
  rw [e] at h3 h2
  clear hT
  simp only [sp_ty] at h2 h3
  simp [sp_i, sp_bin] at h2 h3
  grind [sp_E, sp_i, sp_isv]
theorem sp_k29 {nt : sp_NT} {M n : Nat} {res par : Nat → Int32} (h : sp_OK nt M res par n) (hT : sp_TY nt n) (e : nt 0 n = 29) : (sp_nd n (nt 1 n) = true ∧ sp_E (nt 0 (nt 1 n).toNatClampNeg) = true ∧ nt 3 (nt 1 n).toNatClampNeg = 1) ∧ (sp_nd n (nt 2 n) = true ∧ sp_E (nt 0 (nt 2 n).toNatClampNeg) = true ∧ nt 3 (nt 2 n).toNatClampNeg = 1) ∧ nt 3 n = 1 := by
  obtain ⟨h1, h2, h3, -, -⟩ := h
  have hta := hT (nt 1 n)
  have htb := hT (nt 2 n)
  have ha8 := @sp_f8 nt n (nt 1 n)
  have hb8 := @sp_f8 nt n (nt 2 n)
  have ha9 := @sp_f9 nt n (nt 1 n)
  have hb9 := @sp_f9 nt n (nt 2 n)
  have ha10 := @sp_f10 nt n (nt 1 n)
  have hb10 := @sp_f10 nt n (nt 2 n)
  have ha11 := @sp_f11 nt n (nt 1 n)
  rw [← h2] at h3
  rw [e] at h3 h2
  clear hT
  simp only [sp_ty] at h2 h3
  simp [sp_i, sp_bin] at h2 h3
  grind [sp_E, sp_i, sp_isv]
theorem sp_k30 {nt : sp_NT} {M n : Nat} {res par : Nat → Int32} (h : sp_OK nt M res par n) (hT : sp_TY nt n) (e : nt 0 n = 30) : (sp_nd n (nt 1 n) = true ∧ sp_E (nt 0 (nt 1 n).toNatClampNeg) = true ∧ nt 3 (nt 1 n).toNatClampNeg = 1) ∧ (sp_nd n (nt 2 n) = true ∧ sp_E (nt 0 (nt 2 n).toNatClampNeg) = true ∧ nt 3 (nt 2 n).toNatClampNeg = 1) ∧ nt 3 n = 1 := by
  obtain ⟨h1, h2, h3, -, -⟩ := h
  have hta := hT (nt 1 n)
  have htb := hT (nt 2 n)
  have ha8 := @sp_f8 nt n (nt 1 n)
  have hb8 := @sp_f8 nt n (nt 2 n)
  have ha9 := @sp_f9 nt n (nt 1 n)
  have hb9 := @sp_f9 nt n (nt 2 n)
  have ha10 := @sp_f10 nt n (nt 1 n)
  have hb10 := @sp_f10 nt n (nt 2 n)
  have ha11 := @sp_f11 nt n (nt 1 n)
  rw [← h2] at h3
  rw [e] at h3 h2
  clear hT
  simp only [sp_ty] at h2 h3
  simp [sp_i, sp_bin] at h2 h3
  grind [sp_E, sp_i, sp_isv]
theorem sp_k31 {nt : sp_NT} {M n : Nat} {res par : Nat → Int32} (h : sp_OK nt M res par n) (hT : sp_TY nt n) (e : nt 0 n = 31) : (sp_nd n (nt 1 n) = true ∧ sp_E (nt 0 (nt 1 n).toNatClampNeg) = true ∧ nt 3 (nt 1 n).toNatClampNeg = 1) ∧ (nt 2 n) = -1 ∧ nt 3 n = 1 := by
  obtain ⟨h1, h2, h3, -, -⟩ := h
  have hta := hT (nt 1 n)
  have htb := hT (nt 2 n)
  have ha8 := @sp_f8 nt n (nt 1 n)
  have hb8 := @sp_f8 nt n (nt 2 n)
  have ha9 := @sp_f9 nt n (nt 1 n)
  have hb9 := @sp_f9 nt n (nt 2 n)
  have ha10 := @sp_f10 nt n (nt 1 n)
  have hb10 := @sp_f10 nt n (nt 2 n)
  have ha11 := @sp_f11 nt n (nt 1 n)
  rw [← h2] at h3
  rw [e] at h3 h2
  clear hT
  simp only [sp_ty] at h2 h3
  simp [sp_i, sp_bin] at h2 h3
  grind [sp_E, sp_i, sp_isv]
theorem sp_k32 {nt : sp_NT} {M n : Nat} {res par : Nat → Int32} (h : sp_OK nt M res par n) (hT : sp_TY nt n) (e : nt 0 n = 32) : (sp_nd n (nt 1 n) = true ∧ sp_E (nt 0 (nt 1 n).toNatClampNeg) = true ∧ nt 3 (nt 1 n).toNatClampNeg = 1) ∧ (sp_nd n (nt 2 n) = true ∧ (nt 0 (nt 2 n).toNatClampNeg = 33)) ∧ nt 3 n = nt 3 (nt 2 n).toNatClampNeg := by
  obtain ⟨h1, h2, h3, -, -⟩ := h
  have hta := hT (nt 1 n)
  have htb := hT (nt 2 n)
  have ha8 := @sp_f8 nt n (nt 1 n)
  have hb8 := @sp_f8 nt n (nt 2 n)
  have ha9 := @sp_f9 nt n (nt 1 n)
  have hb9 := @sp_f9 nt n (nt 2 n)
  have ha10 := @sp_f10 nt n (nt 1 n)
  have hb10 := @sp_f10 nt n (nt 2 n)
  have ha11 := @sp_f11 nt n (nt 1 n)
  rw [← h2] at h3
  rw [e] at h3 h2
  clear hT
  simp only [sp_ty] at h2 h3
  simp [sp_i, sp_bin] at h2 h3
  grind [sp_E, sp_i, sp_isv]
theorem sp_k33 {nt : sp_NT} {M n : Nat} {res par : Nat → Int32} (h : sp_OK nt M res par n) (hT : sp_TY nt n) (e : nt 0 n = 33) : (sp_nd n (nt 1 n) = true ∧ sp_E (nt 0 (nt 1 n).toNatClampNeg) = true ∧ 1 ≤ nt 3 (nt 1 n).toNatClampNeg ∧ nt 3 (nt 1 n).toNatClampNeg ≤ 8) ∧ (sp_nd n (nt 2 n) = true ∧ sp_E (nt 0 (nt 2 n).toNatClampNeg) = true ∧ nt 3 (nt 2 n).toNatClampNeg = nt 3 (nt 1 n).toNatClampNeg) ∧ nt 3 n = nt 3 (nt 1 n).toNatClampNeg := by
  obtain ⟨h1, h2, h3, -, -⟩ := h
  have hta := hT (nt 1 n)
  have htb := hT (nt 2 n)
  have ha8 := @sp_f8 nt n (nt 1 n)
  have hb8 := @sp_f8 nt n (nt 2 n)
  have ha9 := @sp_f9 nt n (nt 1 n)
  have hb9 := @sp_f9 nt n (nt 2 n)
  have ha10 := @sp_f10 nt n (nt 1 n)
  have hb10 := @sp_f10 nt n (nt 2 n)
  have ha11 := @sp_f11 nt n (nt 1 n)
  rw [← h2] at h3
  rw [e] at h3 h2
  clear hT
  simp only [sp_ty] at h2 h3
  simp [sp_i, sp_bin] at h2 h3
  grind [sp_E, sp_i, sp_isv]
theorem sp_k34 {nt : sp_NT} {M n : Nat} {res par : Nat → Int32} (h : sp_OK nt M res par n) (hT : sp_TY nt n) (e : nt 0 n = 34) : (sp_nd n (nt 1 n) = true ∧ (nt 0 (nt 1 n).toNatClampNeg = 6 ∨ nt 0 (nt 1 n).toNatClampNeg = 8)) ∧ 0 ≤ (nt 2 n) ∧ (nt 2 n) ≤ 3 ∧ 1 ≤ nt 3 (nt 1 n).toNatClampNeg ∧ nt 3 (nt 1 n).toNatClampNeg ≤ 4 ∧ nt 3 n = nt 3 (nt 1 n).toNatClampNeg := by
  obtain ⟨h1, h2, h3, -, -⟩ := h
  have hta := hT (nt 1 n)
  have htb := hT (nt 2 n)
  have ha8 := @sp_f8 nt n (nt 1 n)
  have hb8 := @sp_f8 nt n (nt 2 n)
  have ha9 := @sp_f9 nt n (nt 1 n)
  have hb9 := @sp_f9 nt n (nt 2 n)
  have ha10 := @sp_f10 nt n (nt 1 n)
  have hb10 := @sp_f10 nt n (nt 2 n)
  have ha11 := @sp_f11 nt n (nt 1 n)
  rw [← h2] at h3
  rw [e] at h3 h2
  clear hT
  simp only [sp_ty] at h2 h3
  simp [sp_i, sp_bin] at h2 h3
  grind [sp_E, sp_i, sp_isv]
theorem sp_k35 {nt : sp_NT} {M n : Nat} {res par : Nat → Int32} (h : sp_OK nt M res par n) (hT : sp_TY nt n) (e : nt 0 n = 35) : (sp_nd n (nt 1 n) = true ∧ (nt 0 (nt 1 n).toNatClampNeg = 6 ∨ nt 0 (nt 1 n).toNatClampNeg = 8)) ∧ 1 ≤ nt 3 (nt 1 n).toNatClampNeg ∧ nt 3 (nt 1 n).toNatClampNeg ≤ 4 ∧ (sp_nd n (nt 2 n) = true ∧ sp_E (nt 0 (nt 2 n).toNatClampNeg) = true ∧ nt 3 (nt 2 n).toNatClampNeg = nt 3 (nt 1 n).toNatClampNeg) ∧ nt 3 n = nt 3 (nt 1 n).toNatClampNeg := by
  obtain ⟨h1, h2, h3, -, -⟩ := h
  have hta := hT (nt 1 n)
  have htb := hT (nt 2 n)
  have ha8 := @sp_f8 nt n (nt 1 n)
  have hb8 := @sp_f8 nt n (nt 2 n)
  have ha9 := @sp_f9 nt n (nt 1 n)
  have hb9 := @sp_f9 nt n (nt 2 n)
  have ha10 := @sp_f10 nt n (nt 1 n)
  have hb10 := @sp_f10 nt n (nt 2 n)
  have ha11 := @sp_f11 nt n (nt 1 n)
  rw [← h2] at h3
  rw [e] at h3 h2
  clear hT
  simp only [sp_ty] at h2 h3
  simp [sp_i, sp_bin] at h2 h3
  grind [sp_E, sp_i, sp_isv]
theorem sp_k36 {nt : sp_NT} {M n : Nat} {res par : Nat → Int32} (h : sp_OK nt M res par n) (hT : sp_TY nt n) (e : nt 0 n = 36) : (sp_nd n (nt 1 n) = true ∧ (nt 0 (nt 1 n).toNatClampNeg = 6 ∨ nt 0 (nt 1 n).toNatClampNeg = 8)) ∧ 1 ≤ nt 3 (nt 1 n).toNatClampNeg ∧ nt 3 (nt 1 n).toNatClampNeg ≤ 4 ∧ (sp_nd n (nt 2 n) = true ∧ sp_E (nt 0 (nt 2 n).toNatClampNeg) = true ∧ nt 3 (nt 2 n).toNatClampNeg = nt 3 (nt 1 n).toNatClampNeg) ∧ nt 3 n = nt 3 (nt 1 n).toNatClampNeg := by
  obtain ⟨h1, h2, h3, -, -⟩ := h
  have hta := hT (nt 1 n)
  have htb := hT (nt 2 n)
  have ha8 := @sp_f8 nt n (nt 1 n)
  have hb8 := @sp_f8 nt n (nt 2 n)
  have ha9 := @sp_f9 nt n (nt 1 n)
  have hb9 := @sp_f9 nt n (nt 2 n)
  have ha10 := @sp_f10 nt n (nt 1 n)
  have hb10 := @sp_f10 nt n (nt 2 n)
  have ha11 := @sp_f11 nt n (nt 1 n)
  rw [← h2] at h3
  rw [e] at h3 h2
  clear hT
  simp only [sp_ty] at h2 h3
  simp [sp_i, sp_bin] at h2 h3
  grind [sp_E, sp_i, sp_isv]
theorem sp_k37 {nt : sp_NT} {M n : Nat} {res par : Nat → Int32} (h : sp_OK nt M res par n) (hT : sp_TY nt n) (e : nt 0 n = 37) : (sp_nd n (nt 1 n) = true ∧ (nt 0 (nt 1 n).toNatClampNeg = 6 ∨ nt 0 (nt 1 n).toNatClampNeg = 8)) ∧ 1 ≤ nt 3 (nt 1 n).toNatClampNeg ∧ nt 3 (nt 1 n).toNatClampNeg ≤ 4 ∧ (sp_nd n (nt 2 n) = true ∧ sp_E (nt 0 (nt 2 n).toNatClampNeg) = true ∧ nt 3 (nt 2 n).toNatClampNeg = nt 3 (nt 1 n).toNatClampNeg) ∧ nt 3 n = nt 3 (nt 1 n).toNatClampNeg := by
  obtain ⟨h1, h2, h3, -, -⟩ := h
  have hta := hT (nt 1 n)
  have htb := hT (nt 2 n)
  have ha8 := @sp_f8 nt n (nt 1 n)
  have hb8 := @sp_f8 nt n (nt 2 n)
  have ha9 := @sp_f9 nt n (nt 1 n)
  have hb9 := @sp_f9 nt n (nt 2 n)
  have ha10 := @sp_f10 nt n (nt 1 n)
  have hb10 := @sp_f10 nt n (nt 2 n)
  have ha11 := @sp_f11 nt n (nt 1 n)
  rw [← h2] at h3
  rw [e] at h3 h2
  clear hT
  simp only [sp_ty] at h2 h3
  simp [sp_i, sp_bin] at h2 h3
  grind [sp_E, sp_i, sp_isv]
theorem sp_k38 {nt : sp_NT} {M n : Nat} {res par : Nat → Int32} (h : sp_OK nt M res par n) (hT : sp_TY nt n) (e : nt 0 n = 38) : (sp_nd n (nt 1 n) = true ∧ (nt 0 (nt 1 n).toNatClampNeg = 6 ∨ nt 0 (nt 1 n).toNatClampNeg = 8)) ∧ 1 ≤ nt 3 (nt 1 n).toNatClampNeg ∧ nt 3 (nt 1 n).toNatClampNeg ≤ 4 ∧ (sp_nd n (nt 2 n) = true ∧ sp_E (nt 0 (nt 2 n).toNatClampNeg) = true ∧ nt 3 (nt 2 n).toNatClampNeg = nt 3 (nt 1 n).toNatClampNeg) ∧ nt 3 n = nt 3 (nt 1 n).toNatClampNeg := by
  obtain ⟨h1, h2, h3, -, -⟩ := h
  have hta := hT (nt 1 n)
  have htb := hT (nt 2 n)
  have ha8 := @sp_f8 nt n (nt 1 n)
  have hb8 := @sp_f8 nt n (nt 2 n)
  have ha9 := @sp_f9 nt n (nt 1 n)
  have hb9 := @sp_f9 nt n (nt 2 n)
  have ha10 := @sp_f10 nt n (nt 1 n)
  have hb10 := @sp_f10 nt n (nt 2 n)
  have ha11 := @sp_f11 nt n (nt 1 n)
  rw [← h2] at h3
  rw [e] at h3 h2
  clear hT
  simp only [sp_ty] at h2 h3
  simp [sp_i, sp_bin] at h2 h3
  grind [sp_E, sp_i, sp_isv]
theorem sp_k39 {nt : sp_NT} {M n : Nat} {res par : Nat → Int32} (h : sp_OK nt M res par n) (hT : sp_TY nt n) (e : nt 0 n = 39) : (sp_nd n (nt 1 n) = true ∧ (nt 0 (nt 1 n).toNatClampNeg = 6 ∨ nt 0 (nt 1 n).toNatClampNeg = 8)) ∧ 1 ≤ nt 3 (nt 1 n).toNatClampNeg ∧ nt 3 (nt 1 n).toNatClampNeg ≤ 4 ∧ (sp_nd n (nt 2 n) = true ∧ sp_E (nt 0 (nt 2 n).toNatClampNeg) = true ∧ nt 3 (nt 2 n).toNatClampNeg = nt 3 (nt 1 n).toNatClampNeg) ∧ nt 3 n = nt 3 (nt 1 n).toNatClampNeg := by
  obtain ⟨h1, h2, h3, -, -⟩ := h
  have hta := hT (nt 1 n)
  have htb := hT (nt 2 n)
  have ha8 := @sp_f8 nt n (nt 1 n)
  have hb8 := @sp_f8 nt n (nt 2 n)
  have ha9 := @sp_f9 nt n (nt 1 n)
  have hb9 := @sp_f9 nt n (nt 2 n)
  have ha10 := @sp_f10 nt n (nt 1 n)
  have hb10 := @sp_f10 nt n (nt 2 n)
  have ha11 := @sp_f11 nt n (nt 1 n)
  rw [← h2] at h3
  rw [e] at h3 h2
  clear hT
  simp only [sp_ty] at h2 h3
  simp [sp_i, sp_bin] at h2 h3
  grind [sp_E, sp_i, sp_isv]
theorem sp_k40 {nt : sp_NT} {M n : Nat} {res par : Nat → Int32} (h : sp_OK nt M res par n) (hT : sp_TY nt n) (e : nt 0 n = 40) : (sp_nd n (nt 1 n) = true ∧ (nt 0 (nt 1 n).toNatClampNeg = 6 ∨ nt 0 (nt 1 n).toNatClampNeg = 8)) ∧ 1 ≤ nt 3 (nt 1 n).toNatClampNeg ∧ nt 3 (nt 1 n).toNatClampNeg ≤ 2 ∧ (sp_nd n (nt 2 n) = true ∧ sp_E (nt 0 (nt 2 n).toNatClampNeg) = true ∧ nt 3 (nt 2 n).toNatClampNeg = nt 3 (nt 1 n).toNatClampNeg) ∧ nt 3 n = nt 3 (nt 1 n).toNatClampNeg := by
  obtain ⟨h1, h2, h3, -, -⟩ := h
  have hta := hT (nt 1 n)
  have htb := hT (nt 2 n)
  have ha8 := @sp_f8 nt n (nt 1 n)
  have hb8 := @sp_f8 nt n (nt 2 n)
  have ha9 := @sp_f9 nt n (nt 1 n)
  have hb9 := @sp_f9 nt n (nt 2 n)
  have ha10 := @sp_f10 nt n (nt 1 n)
  have hb10 := @sp_f10 nt n (nt 2 n)
  have ha11 := @sp_f11 nt n (nt 1 n)
  rw [← h2] at h3
  rw [e] at h3 h2
  clear hT
  simp only [sp_ty] at h2 h3
  simp [sp_i, sp_bin] at h2 h3
  grind [sp_E, sp_i, sp_isv]
theorem sp_k41 {nt : sp_NT} {M n : Nat} {res par : Nat → Int32} (h : sp_OK nt M res par n) (hT : sp_TY nt n) (e : nt 0 n = 41) : (sp_nd n (nt 1 n) = true ∧ (nt 0 (nt 1 n).toNatClampNeg = 6 ∨ nt 0 (nt 1 n).toNatClampNeg = 8)) ∧ 1 ≤ nt 3 (nt 1 n).toNatClampNeg ∧ nt 3 (nt 1 n).toNatClampNeg ≤ 2 ∧ (sp_nd n (nt 2 n) = true ∧ sp_E (nt 0 (nt 2 n).toNatClampNeg) = true ∧ nt 3 (nt 2 n).toNatClampNeg = nt 3 (nt 1 n).toNatClampNeg) ∧ nt 3 n = nt 3 (nt 1 n).toNatClampNeg := by
  obtain ⟨h1, h2, h3, -, -⟩ := h
  have hta := hT (nt 1 n)
  have htb := hT (nt 2 n)
  have ha8 := @sp_f8 nt n (nt 1 n)
  have hb8 := @sp_f8 nt n (nt 2 n)
  have ha9 := @sp_f9 nt n (nt 1 n)
  have hb9 := @sp_f9 nt n (nt 2 n)
  have ha10 := @sp_f10 nt n (nt 1 n)
  have hb10 := @sp_f10 nt n (nt 2 n)
  have ha11 := @sp_f11 nt n (nt 1 n)
  rw [← h2] at h3
  rw [e] at h3 h2
  clear hT
  simp only [sp_ty] at h2 h3
  simp [sp_i, sp_bin] at h2 h3
  grind [sp_E, sp_i, sp_isv]
theorem sp_k42 {nt : sp_NT} {M n : Nat} {res par : Nat → Int32} (h : sp_OK nt M res par n) (hT : sp_TY nt n) (e : nt 0 n = 42) : (sp_nd n (nt 1 n) = true ∧ (nt 0 (nt 1 n).toNatClampNeg = 6 ∨ nt 0 (nt 1 n).toNatClampNeg = 8)) ∧ 1 ≤ nt 3 (nt 1 n).toNatClampNeg ∧ nt 3 (nt 1 n).toNatClampNeg ≤ 2 ∧ (sp_nd n (nt 2 n) = true ∧ sp_E (nt 0 (nt 2 n).toNatClampNeg) = true ∧ nt 3 (nt 2 n).toNatClampNeg = nt 3 (nt 1 n).toNatClampNeg) ∧ nt 3 n = nt 3 (nt 1 n).toNatClampNeg := by
  obtain ⟨h1, h2, h3, -, -⟩ := h
  have hta := hT (nt 1 n)
  have htb := hT (nt 2 n)
  have ha8 := @sp_f8 nt n (nt 1 n)
  have hb8 := @sp_f8 nt n (nt 2 n)
  have ha9 := @sp_f9 nt n (nt 1 n)
  have hb9 := @sp_f9 nt n (nt 2 n)
  have ha10 := @sp_f10 nt n (nt 1 n)
  have hb10 := @sp_f10 nt n (nt 2 n)
  have ha11 := @sp_f11 nt n (nt 1 n)
  rw [← h2] at h3
  rw [e] at h3 h2
  clear hT
  simp only [sp_ty] at h2 h3
  simp [sp_i, sp_bin] at h2 h3
  grind [sp_E, sp_i, sp_isv]
theorem sp_k43 {nt : sp_NT} {M n : Nat} {res par : Nat → Int32} (h : sp_OK nt M res par n) (hT : sp_TY nt n) (e : nt 0 n = 43) : (sp_nd n (nt 1 n) = true ∧ (nt 0 (nt 1 n).toNatClampNeg = 6 ∨ nt 0 (nt 1 n).toNatClampNeg = 8)) ∧ 1 ≤ nt 3 (nt 1 n).toNatClampNeg ∧ nt 3 (nt 1 n).toNatClampNeg ≤ 2 ∧ (sp_nd n (nt 2 n) = true ∧ sp_E (nt 0 (nt 2 n).toNatClampNeg) = true ∧ nt 3 (nt 2 n).toNatClampNeg = 1) ∧ nt 3 n = nt 3 (nt 1 n).toNatClampNeg := by
  obtain ⟨h1, h2, h3, -, -⟩ := h
  have hta := hT (nt 1 n)
  have htb := hT (nt 2 n)
  have ha8 := @sp_f8 nt n (nt 1 n)
  have hb8 := @sp_f8 nt n (nt 2 n)
  have ha9 := @sp_f9 nt n (nt 1 n)
  have hb9 := @sp_f9 nt n (nt 2 n)
  have ha10 := @sp_f10 nt n (nt 1 n)
  have hb10 := @sp_f10 nt n (nt 2 n)
  have ha11 := @sp_f11 nt n (nt 1 n)
  rw [← h2] at h3
  rw [e] at h3 h2
  clear hT
  simp only [sp_ty] at h2 h3
  simp [sp_i, sp_bin] at h2 h3
  grind [sp_E, sp_i, sp_isv]
theorem sp_k44 {nt : sp_NT} {M n : Nat} {res par : Nat → Int32} (h : sp_OK nt M res par n) (hT : sp_TY nt n) (e : nt 0 n = 44) : (sp_nd n (nt 1 n) = true ∧ (nt 0 (nt 1 n).toNatClampNeg = 6 ∨ nt 0 (nt 1 n).toNatClampNeg = 8)) ∧ 1 ≤ nt 3 (nt 1 n).toNatClampNeg ∧ nt 3 (nt 1 n).toNatClampNeg ≤ 2 ∧ (sp_nd n (nt 2 n) = true ∧ sp_E (nt 0 (nt 2 n).toNatClampNeg) = true ∧ nt 3 (nt 2 n).toNatClampNeg = 1) ∧ nt 3 n = nt 3 (nt 1 n).toNatClampNeg := by
  obtain ⟨h1, h2, h3, -, -⟩ := h
  have hta := hT (nt 1 n)
  have htb := hT (nt 2 n)
  have ha8 := @sp_f8 nt n (nt 1 n)
  have hb8 := @sp_f8 nt n (nt 2 n)
  have ha9 := @sp_f9 nt n (nt 1 n)
  have hb9 := @sp_f9 nt n (nt 2 n)
  have ha10 := @sp_f10 nt n (nt 1 n)
  have hb10 := @sp_f10 nt n (nt 2 n)
  have ha11 := @sp_f11 nt n (nt 1 n)
  rw [← h2] at h3
  rw [e] at h3 h2
  clear hT
  simp only [sp_ty] at h2 h3
  simp [sp_i, sp_bin] at h2 h3
  grind [sp_E, sp_i, sp_isv]
theorem sp_k45 {nt : sp_NT} {M n : Nat} {res par : Nat → Int32} (h : sp_OK nt M res par n) (hT : sp_TY nt n) (e : nt 0 n = 45) : (sp_nd n (nt 1 n) = true ∧ (nt 0 (nt 1 n).toNatClampNeg = 6 ∨ nt 0 (nt 1 n).toNatClampNeg = 8)) ∧ 1 ≤ nt 3 (nt 1 n).toNatClampNeg ∧ nt 3 (nt 1 n).toNatClampNeg ≤ 2 ∧ (sp_nd n (nt 2 n) = true ∧ sp_E (nt 0 (nt 2 n).toNatClampNeg) = true ∧ nt 3 (nt 2 n).toNatClampNeg = 1) ∧ nt 3 n = nt 3 (nt 1 n).toNatClampNeg := by
  obtain ⟨h1, h2, h3, -, -⟩ := h
  have hta := hT (nt 1 n)
  have htb := hT (nt 2 n)
  have ha8 := @sp_f8 nt n (nt 1 n)
  have hb8 := @sp_f8 nt n (nt 2 n)
  have ha9 := @sp_f9 nt n (nt 1 n)
  have hb9 := @sp_f9 nt n (nt 2 n)
  have ha10 := @sp_f10 nt n (nt 1 n)
  have hb10 := @sp_f10 nt n (nt 2 n)
  have ha11 := @sp_f11 nt n (nt 1 n)
  rw [← h2] at h3
  rw [e] at h3 h2
  clear hT
  simp only [sp_ty] at h2 h3
  simp [sp_i, sp_bin] at h2 h3
  grind [sp_E, sp_i, sp_isv]
theorem sp_k46 {nt : sp_NT} {M n : Nat} {res par : Nat → Int32} (h : sp_OK nt M res par n) (hT : sp_TY nt n) (e : nt 0 n = 46) : (sp_i (nt 1 n) 5 8) = true ∧ (sp_nd n (nt 2 n) = true ∧ sp_E (nt 0 (nt 2 n).toNatClampNeg) = true ∧ nt 3 (nt 2 n).toNatClampNeg = 1) ∧ nt 3 n = (nt 1 n) := by
  obtain ⟨h1, h2, h3, -, -⟩ := h
  have hta := hT (nt 1 n)
  have htb := hT (nt 2 n)
  have ha8 := @sp_f8 nt n (nt 1 n)
  have hb8 := @sp_f8 nt n (nt 2 n)
  have ha9 := @sp_f9 nt n (nt 1 n)
  have hb9 := @sp_f9 nt n (nt 2 n)
  have ha10 := @sp_f10 nt n (nt 1 n)
  have hb10 := @sp_f10 nt n (nt 2 n)
  have ha11 := @sp_f11 nt n (nt 1 n)
  rw [← h2] at h3
  rw [e] at h3 h2
  clear hT
  simp only [sp_ty] at h2 h3
  simp [sp_i, sp_bin] at h2 h3
  grind [sp_E, sp_i, sp_isv]
theorem sp_k47 {nt : sp_NT} {M n : Nat} {res par : Nat → Int32} (h : sp_OK nt M res par n) (hT : sp_TY nt n) (e : nt 0 n = 47) : (sp_nd n (nt 1 n) = true ∧ sp_E (nt 0 (nt 1 n).toNatClampNeg) = true ∧ 1 ≤ nt 3 (nt 1 n).toNatClampNeg ∧ nt 3 (nt 1 n).toNatClampNeg ≤ 8) ∧ 5 ≤ nt 3 (nt 1 n).toNatClampNeg ∧ (nt 2 n) = -1 ∧ nt 3 n = 1 := by
  obtain ⟨h1, h2, h3, -, -⟩ := h
  have hta := hT (nt 1 n)
  have htb := hT (nt 2 n)
  have ha8 := @sp_f8 nt n (nt 1 n)
  have hb8 := @sp_f8 nt n (nt 2 n)
  have ha9 := @sp_f9 nt n (nt 1 n)
  have hb9 := @sp_f9 nt n (nt 2 n)
  have ha10 := @sp_f10 nt n (nt 1 n)
  have hb10 := @sp_f10 nt n (nt 2 n)
  have ha11 := @sp_f11 nt n (nt 1 n)
  rw [← h2] at h3
  rw [e] at h3 h2
  clear hT
  simp only [sp_ty] at h2 h3
  simp [sp_i, sp_bin] at h2 h3
  grind [sp_E, sp_i, sp_isv]
theorem sp_k48 {nt : sp_NT} {M n : Nat} {res par : Nat → Int32} (h : sp_OK nt M res par n) (_hT : sp_TY nt n) (e : nt 0 n = 48) : sp_nd M (nt 1 n) = true ∧ ((nt 2 n) = -1 ∨ (sp_nd n (nt 2 n) = true ∧ (nt 0 (nt 2 n).toNatClampNeg = 49))) ∧ nt 3 n = res (nt 1 n).toNatClampNeg ∧ (sp_chain nt 4001 (par (nt 1 n).toNatClampNeg)).map (sp_tya nt) = (sp_chain nt 4001 (nt 2 n)).map (sp_tya nt) := by
  obtain ⟨h1, h2, h3, -, -⟩ := h
  rw [← h2] at h3
  rw [e] at h3 h2
  cases hc : sp_call nt (sp_nd n) M par (nt 1 n) (nt 2 n)
  · simp [sp_ty, hc] at h3
  · have h4 : res (nt 1 n).toNatClampNeg = nt 3 n := by rw [← h2]; simp [sp_ty, hc]
    unfold sp_call at hc; simp only [Bool.and_eq_true, Bool.or_eq_true, decide_eq_true_eq] at hc
    exact ⟨hc.1.1, hc.1.2.imp id sp_f8, h4.symm, hc.2⟩
theorem sp_k49 {nt : sp_NT} {M n : Nat} {res par : Nat → Int32} (h : sp_OK nt M res par n) (hT : sp_TY nt n) (e : nt 0 n = 49) : (sp_nd n (nt 1 n) = true ∧ sp_E (nt 0 (nt 1 n).toNatClampNeg) = true ∧ 1 ≤ nt 3 (nt 1 n).toNatClampNeg ∧ nt 3 (nt 1 n).toNatClampNeg ≤ 8) ∧ ((nt 2 n) = -1 ∨ (sp_nd n (nt 2 n) = true ∧ (nt 0 (nt 2 n).toNatClampNeg = 49))) := by
  obtain ⟨h1, h2, h3, -, -⟩ := h
  have hta := hT (nt 1 n)
  have htb := hT (nt 2 n)
  have ha8 := @sp_f8 nt n (nt 1 n)
  have hb8 := @sp_f8 nt n (nt 2 n)
  have ha9 := @sp_f9 nt n (nt 1 n)
  have hb9 := @sp_f9 nt n (nt 2 n)
  have ha10 := @sp_f10 nt n (nt 1 n)
  have hb10 := @sp_f10 nt n (nt 2 n)
  have ha11 := @sp_f11 nt n (nt 1 n)
  rw [← h2] at h3
  rw [e] at h3 h2
  clear hT
  simp only [sp_ty] at h2 h3
  simp [sp_i, sp_bin] at h2 h3
  grind [sp_E, sp_i, sp_isv]
theorem sp_k51 {nt : sp_NT} {M n : Nat} {res par : Nat → Int32} (h : sp_OK nt M res par n) (hT : sp_TY nt n) (e : nt 0 n = 51) : (nt 2 n) = -1 ∧ sp_i (nt 1 n) 5 8 = true ∧ nt 3 n = (nt 1 n) := by
  obtain ⟨h1, h2, h3, -, -⟩ := h
  have hta := hT (nt 1 n)
  have htb := hT (nt 2 n)
  have ha8 := @sp_f8 nt n (nt 1 n)
  have hb8 := @sp_f8 nt n (nt 2 n)
  have ha9 := @sp_f9 nt n (nt 1 n)
  have hb9 := @sp_f9 nt n (nt 2 n)
  have ha10 := @sp_f10 nt n (nt 1 n)
  have hb10 := @sp_f10 nt n (nt 2 n)
  have ha11 := @sp_f11 nt n (nt 1 n)
  rw [← h2] at h3
  rw [e] at h3 h2
  clear hT
  simp only [sp_ty] at h2 h3
  simp [sp_i] at h2 h3
  grind [sp_E, sp_i, sp_isv]
theorem sp_k60 {nt : sp_NT} {M n : Nat} {res par : Nat → Int32} (h : sp_OK nt M res par n) (hT : sp_TY nt n) (e : nt 0 n = 60) : ((sp_nd n (nt 1 n) = true ∧ sp_E (nt 0 (nt 1 n).toNatClampNeg) = true ∧ 1 ≤ nt 3 (nt 1 n).toNatClampNeg ∧ nt 3 (nt 1 n).toNatClampNeg ≤ 8) ∨ (sp_nd n (nt 1 n) = true ∧ (nt 0 (nt 1 n).toNatClampNeg = 48))) ∧ (nt 2 n) = -1 := by
  obtain ⟨h1, h2, h3, -, -⟩ := h
  have hta := hT (nt 1 n)
  have htb := hT (nt 2 n)
  have ha8 := @sp_f8 nt n (nt 1 n)
  have hb8 := @sp_f8 nt n (nt 2 n)
  have ha9 := @sp_f9 nt n (nt 1 n)
  have hb9 := @sp_f9 nt n (nt 2 n)
  have ha10 := @sp_f10 nt n (nt 1 n)
  have hb10 := @sp_f10 nt n (nt 2 n)
  have ha11 := @sp_f11 nt n (nt 1 n)
  rw [← h2] at h3
  rw [e] at h3 h2
  clear hT
  simp only [sp_ty, sp_ao] at h2 h3
  simp [sp_i] at h2 h3
  grind [sp_E, sp_i, sp_isv]
theorem sp_k61 {nt : sp_NT} {M n : Nat} {res par : Nat → Int32} (h : sp_OK nt M res par n) (hT : sp_TY nt n) (e : nt 0 n = 61) : (sp_nd n (nt 1 n) = true ∧ (nt 0 (nt 1 n).toNatClampNeg = 5)) ∧ (sp_nd n (nt 2 n) = true ∧ sp_E (nt 0 (nt 2 n).toNatClampNeg) = true ∧ nt 3 (nt 2 n).toNatClampNeg = nt 3 (nt 1 n).toNatClampNeg) := by
  obtain ⟨h1, h2, h3, -, -⟩ := h
  have hta := hT (nt 1 n)
  have htb := hT (nt 2 n)
  have ha8 := @sp_f8 nt n (nt 1 n)
  have hb8 := @sp_f8 nt n (nt 2 n)
  have ha9 := @sp_f9 nt n (nt 1 n)
  have hb9 := @sp_f9 nt n (nt 2 n)
  have ha10 := @sp_f10 nt n (nt 1 n)
  have hb10 := @sp_f10 nt n (nt 2 n)
  have ha11 := @sp_f11 nt n (nt 1 n)
  rw [← h2] at h3
  rw [e] at h3 h2
  clear hT
  simp only [sp_ty, sp_ao] at h2 h3
  simp [sp_i] at h2 h3
  grind [sp_E, sp_i, sp_isv]
theorem sp_k62 {nt : sp_NT} {M n : Nat} {res par : Nat → Int32} (h : sp_OK nt M res par n) (hT : sp_TY nt n) (e : nt 0 n = 62) : (sp_nd n (nt 1 n) = true ∧ sp_Sk (nt 0 (nt 1 n).toNatClampNeg) = true) ∧ (sp_nd n (nt 2 n) = true ∧ sp_Sk (nt 0 (nt 2 n).toNatClampNeg) = true) := by
  obtain ⟨h1, h2, h3, -, -⟩ := h
  have hta := hT (nt 1 n)
  have htb := hT (nt 2 n)
  have ha8 := @sp_f8 nt n (nt 1 n)
  have hb8 := @sp_f8 nt n (nt 2 n)
  have ha9 := @sp_f9 nt n (nt 1 n)
  have hb9 := @sp_f9 nt n (nt 2 n)
  have ha10 := @sp_f10 nt n (nt 1 n)
  have hb10 := @sp_f10 nt n (nt 2 n)
  have ha11 := @sp_f11 nt n (nt 1 n)
  rw [← h2] at h3
  rw [e] at h3 h2
  clear hT
  simp only [sp_ty, sp_ao] at h2 h3
  simp [sp_i] at h2 h3
  grind [sp_E, sp_i, sp_isv]
theorem sp_k63 {nt : sp_NT} {M n : Nat} {res par : Nat → Int32} (h : sp_OK nt M res par n) (hT : sp_TY nt n) (e : nt 0 n = 63) : (sp_nd n (nt 1 n) = true ∧ sp_Sk (nt 0 (nt 1 n).toNatClampNeg) = true) ∧ (nt 2 n) = -1 := by
  obtain ⟨h1, h2, h3, -, -⟩ := h
  have hta := hT (nt 1 n)
  have htb := hT (nt 2 n)
  have ha8 := @sp_f8 nt n (nt 1 n)
  have hb8 := @sp_f8 nt n (nt 2 n)
  have ha9 := @sp_f9 nt n (nt 1 n)
  have hb9 := @sp_f9 nt n (nt 2 n)
  have ha10 := @sp_f10 nt n (nt 1 n)
  have hb10 := @sp_f10 nt n (nt 2 n)
  have ha11 := @sp_f11 nt n (nt 1 n)
  rw [← h2] at h3
  rw [e] at h3 h2
  clear hT
  simp only [sp_ty, sp_ao] at h2 h3
  simp [sp_i] at h2 h3
  grind [sp_E, sp_i, sp_isv]
theorem sp_k64 {nt : sp_NT} {M n : Nat} {res par : Nat → Int32} (h : sp_OK nt M res par n) (hT : sp_TY nt n) (e : nt 0 n = 64) : (sp_nd n (nt 1 n) = true ∧ sp_E (nt 0 (nt 1 n).toNatClampNeg) = true ∧ nt 3 (nt 1 n).toNatClampNeg = 1) ∧ (sp_nd n (nt 2 n) = true ∧ sp_Sk (nt 0 (nt 2 n).toNatClampNeg) = true) := by
  obtain ⟨h1, h2, h3, -, -⟩ := h
  have hta := hT (nt 1 n)
  have htb := hT (nt 2 n)
  have ha8 := @sp_f8 nt n (nt 1 n)
  have hb8 := @sp_f8 nt n (nt 2 n)
  have ha9 := @sp_f9 nt n (nt 1 n)
  have hb9 := @sp_f9 nt n (nt 2 n)
  have ha10 := @sp_f10 nt n (nt 1 n)
  have hb10 := @sp_f10 nt n (nt 2 n)
  have ha11 := @sp_f11 nt n (nt 1 n)
  rw [← h2] at h3
  rw [e] at h3 h2
  clear hT
  simp only [sp_ty, sp_ao] at h2 h3
  simp [sp_i] at h2 h3
  grind [sp_E, sp_i, sp_isv]
theorem sp_k65 {nt : sp_NT} {M n : Nat} {res par : Nat → Int32} (h : sp_OK nt M res par n) (hT : sp_TY nt n) (e : nt 0 n = 65) : (sp_nd n (nt 1 n) = true ∧ sp_E (nt 0 (nt 1 n).toNatClampNeg) = true ∧ nt 3 (nt 1 n).toNatClampNeg = 1) ∧ (sp_nd n (nt 2 n) = true ∧ (nt 0 (nt 2 n).toNatClampNeg = 66)) := by
  obtain ⟨h1, h2, h3, -, -⟩ := h
  have hta := hT (nt 1 n)
  have htb := hT (nt 2 n)
  have ha8 := @sp_f8 nt n (nt 1 n)
  have hb8 := @sp_f8 nt n (nt 2 n)
  have ha9 := @sp_f9 nt n (nt 1 n)
  have hb9 := @sp_f9 nt n (nt 2 n)
  have ha10 := @sp_f10 nt n (nt 1 n)
  have hb10 := @sp_f10 nt n (nt 2 n)
  have ha11 := @sp_f11 nt n (nt 1 n)
  rw [← h2] at h3
  rw [e] at h3 h2
  clear hT
  simp only [sp_ty, sp_ao] at h2 h3
  simp [sp_i] at h2 h3
  grind [sp_E, sp_i, sp_isv]
theorem sp_k66 {nt : sp_NT} {M n : Nat} {res par : Nat → Int32} (h : sp_OK nt M res par n) (hT : sp_TY nt n) (e : nt 0 n = 66) : (sp_nd n (nt 1 n) = true ∧ sp_Sk (nt 0 (nt 1 n).toNatClampNeg) = true) ∧ (sp_nd n (nt 2 n) = true ∧ sp_Sk (nt 0 (nt 2 n).toNatClampNeg) = true) := by
  obtain ⟨h1, h2, h3, -, -⟩ := h
  have hta := hT (nt 1 n)
  have htb := hT (nt 2 n)
  have ha8 := @sp_f8 nt n (nt 1 n)
  have hb8 := @sp_f8 nt n (nt 2 n)
  have ha9 := @sp_f9 nt n (nt 1 n)
  have hb9 := @sp_f9 nt n (nt 2 n)
  have ha10 := @sp_f10 nt n (nt 1 n)
  have hb10 := @sp_f10 nt n (nt 2 n)
  have ha11 := @sp_f11 nt n (nt 1 n)
  rw [← h2] at h3
  rw [e] at h3 h2
  clear hT
  simp only [sp_ty, sp_ao] at h2 h3
  simp [sp_i] at h2 h3
  grind [sp_E, sp_i, sp_isv]
theorem sp_k67 {nt : sp_NT} {M n : Nat} {res par : Nat → Int32} (h : sp_OK nt M res par n) (hT : sp_TY nt n) (e : nt 0 n = 67) : (sp_nd n (nt 1 n) = true ∧ sp_E (nt 0 (nt 1 n).toNatClampNeg) = true ∧ nt 3 (nt 1 n).toNatClampNeg = 1) ∧ (sp_nd n (nt 2 n) = true ∧ sp_Sk (nt 0 (nt 2 n).toNatClampNeg) = true) := by
  obtain ⟨h1, h2, h3, -, -⟩ := h
  have hta := hT (nt 1 n)
  have htb := hT (nt 2 n)
  have ha8 := @sp_f8 nt n (nt 1 n)
  have hb8 := @sp_f8 nt n (nt 2 n)
  have ha9 := @sp_f9 nt n (nt 1 n)
  have hb9 := @sp_f9 nt n (nt 2 n)
  have ha10 := @sp_f10 nt n (nt 1 n)
  have hb10 := @sp_f10 nt n (nt 2 n)
  have ha11 := @sp_f11 nt n (nt 1 n)
  rw [← h2] at h3
  rw [e] at h3 h2
  clear hT
  simp only [sp_ty, sp_ao] at h2 h3
  simp [sp_i] at h2 h3
  grind [sp_E, sp_i, sp_isv]
theorem sp_k68 {nt : sp_NT} {M n : Nat} {res par : Nat → Int32} (h : sp_OK nt M res par n) (hT : sp_TY nt n) (e : nt 0 n = 68) : (sp_nd n (nt 1 n) = true ∧ sp_Sk (nt 0 (nt 1 n).toNatClampNeg) = true) ∧ (sp_nd n (nt 2 n) = true ∧ sp_E (nt 0 (nt 2 n).toNatClampNeg) = true ∧ nt 3 (nt 2 n).toNatClampNeg = 1) := by
  obtain ⟨h1, h2, h3, -, -⟩ := h
  have hta := hT (nt 1 n)
  have htb := hT (nt 2 n)
  have ha8 := @sp_f8 nt n (nt 1 n)
  have hb8 := @sp_f8 nt n (nt 2 n)
  have ha9 := @sp_f9 nt n (nt 1 n)
  have hb9 := @sp_f9 nt n (nt 2 n)
  have ha10 := @sp_f10 nt n (nt 1 n)
  have hb10 := @sp_f10 nt n (nt 2 n)
  have ha11 := @sp_f11 nt n (nt 1 n)
  rw [← h2] at h3
  rw [e] at h3 h2
  clear hT
  simp only [sp_ty, sp_ao] at h2 h3
  simp [sp_i] at h2 h3
  grind [sp_E, sp_i, sp_isv]
theorem sp_k69 {nt : sp_NT} {M n : Nat} {res par : Nat → Int32} (h : sp_OK nt M res par n) (hT : sp_TY nt n) (e : nt 0 n = 69) : (sp_nd n (nt 1 n) = true ∧ (nt 0 (nt 1 n).toNatClampNeg = 70)) ∧ (sp_nd n (nt 2 n) = true ∧ sp_Sk (nt 0 (nt 2 n).toNatClampNeg) = true) := by
  obtain ⟨h1, h2, h3, -, -⟩ := h
  have hta := hT (nt 1 n)
  have htb := hT (nt 2 n)
  have ha8 := @sp_f8 nt n (nt 1 n)
  have hb8 := @sp_f8 nt n (nt 2 n)
  have ha9 := @sp_f9 nt n (nt 1 n)
  have hb9 := @sp_f9 nt n (nt 2 n)
  have ha10 := @sp_f10 nt n (nt 1 n)
  have hb10 := @sp_f10 nt n (nt 2 n)
  have ha11 := @sp_f11 nt n (nt 1 n)
  rw [← h2] at h3
  rw [e] at h3 h2
  clear hT
  simp only [sp_ty, sp_ao] at h2 h3
  simp [sp_i] at h2 h3
  grind [sp_E, sp_i, sp_isv]
theorem sp_k70 {nt : sp_NT} {M n : Nat} {res par : Nat → Int32} (h : sp_OK nt M res par n) (hT : sp_TY nt n) (e : nt 0 n = 70) : (sp_nd n (nt 1 n) = true ∧ sp_E (nt 0 (nt 1 n).toNatClampNeg) = true ∧ nt 3 (nt 1 n).toNatClampNeg = 1) ∧ (sp_nd n (nt 2 n) = true ∧ sp_Sk (nt 0 (nt 2 n).toNatClampNeg) = true) := by
  obtain ⟨h1, h2, h3, -, -⟩ := h
  have hta := hT (nt 1 n)
  have htb := hT (nt 2 n)
  have ha8 := @sp_f8 nt n (nt 1 n)
  have hb8 := @sp_f8 nt n (nt 2 n)
  have ha9 := @sp_f9 nt n (nt 1 n)
  have hb9 := @sp_f9 nt n (nt 2 n)
  have ha10 := @sp_f10 nt n (nt 1 n)
  have hb10 := @sp_f10 nt n (nt 2 n)
  have ha11 := @sp_f11 nt n (nt 1 n)
  rw [← h2] at h3
  rw [e] at h3 h2
  clear hT
  simp only [sp_ty, sp_ao] at h2 h3
  simp [sp_i] at h2 h3
  grind [sp_E, sp_i, sp_isv]
theorem sp_k71 {nt : sp_NT} {M n : Nat} {res par : Nat → Int32} (h : sp_OK nt M res par n) (hT : sp_TY nt n) (e : nt 0 n = 71) : (nt 2 n) = -1 ∧ 0 ≤ (nt 1 n) := by
  obtain ⟨h1, h2, h3, -, -⟩ := h
  have hta := hT (nt 1 n)
  have htb := hT (nt 2 n)
  have ha8 := @sp_f8 nt n (nt 1 n)
  have hb8 := @sp_f8 nt n (nt 2 n)
  have ha9 := @sp_f9 nt n (nt 1 n)
  have hb9 := @sp_f9 nt n (nt 2 n)
  have ha10 := @sp_f10 nt n (nt 1 n)
  have hb10 := @sp_f10 nt n (nt 2 n)
  have ha11 := @sp_f11 nt n (nt 1 n)
  rw [← h2] at h3
  rw [e] at h3 h2
  clear hT
  simp only [sp_ty, sp_ao] at h2 h3
  simp [sp_i] at h2 h3
  grind [sp_E, sp_i, sp_isv]
theorem sp_k72 {nt : sp_NT} {M n : Nat} {res par : Nat → Int32} (h : sp_OK nt M res par n) (hT : sp_TY nt n) (e : nt 0 n = 72) : (nt 2 n) = -1 ∧ 0 ≤ (nt 1 n) := by
  obtain ⟨h1, h2, h3, -, -⟩ := h
  have hta := hT (nt 1 n)
  have htb := hT (nt 2 n)
  have ha8 := @sp_f8 nt n (nt 1 n)
  have hb8 := @sp_f8 nt n (nt 2 n)
  have ha9 := @sp_f9 nt n (nt 1 n)
  have hb9 := @sp_f9 nt n (nt 2 n)
  have ha10 := @sp_f10 nt n (nt 1 n)
  have hb10 := @sp_f10 nt n (nt 2 n)
  have ha11 := @sp_f11 nt n (nt 1 n)
  rw [← h2] at h3
  rw [e] at h3 h2
  clear hT
  simp only [sp_ty, sp_ao] at h2 h3
  simp [sp_i] at h2 h3
  grind [sp_E, sp_i, sp_isv]
theorem sp_k73 {nt : sp_NT} {M n : Nat} {res par : Nat → Int32} (h : sp_OK nt M res par n) (hT : sp_TY nt n) (e : nt 0 n = 73) : (nt 2 n) = -1 ∧ ((nt 1 n) = -1 ∨ (sp_nd n (nt 1 n) = true ∧ sp_E (nt 0 (nt 1 n).toNatClampNeg) = true ∧ 1 ≤ nt 3 (nt 1 n).toNatClampNeg ∧ nt 3 (nt 1 n).toNatClampNeg ≤ 8)) := by
  obtain ⟨h1, h2, h3, -, -⟩ := h
  have hta := hT (nt 1 n)
  have htb := hT (nt 2 n)
  have ha8 := @sp_f8 nt n (nt 1 n)
  have hb8 := @sp_f8 nt n (nt 2 n)
  have ha9 := @sp_f9 nt n (nt 1 n)
  have hb9 := @sp_f9 nt n (nt 2 n)
  have ha10 := @sp_f10 nt n (nt 1 n)
  have hb10 := @sp_f10 nt n (nt 2 n)
  have ha11 := @sp_f11 nt n (nt 1 n)
  rw [← h2] at h3
  rw [e] at h3 h2
  clear hT
  simp only [sp_ty, sp_ao] at h2 h3
  simp [sp_i] at h2 h3
  grind [sp_E, sp_i, sp_isv]
theorem sp_k74 {nt : sp_NT} {M n : Nat} {res par : Nat → Int32} (h : sp_OK nt M res par n) (hT : sp_TY nt n) (e : nt 0 n = 74) : (nt 2 n) = -1 ∧ (sp_nd n (nt 1 n) = true ∧ sp_E (nt 0 (nt 1 n).toNatClampNeg) = true ∧ nt 3 (nt 1 n).toNatClampNeg = 1) := by
  obtain ⟨h1, h2, h3, -, -⟩ := h
  have hta := hT (nt 1 n)
  have htb := hT (nt 2 n)
  have ha8 := @sp_f8 nt n (nt 1 n)
  have hb8 := @sp_f8 nt n (nt 2 n)
  have ha9 := @sp_f9 nt n (nt 1 n)
  have hb9 := @sp_f9 nt n (nt 2 n)
  have ha10 := @sp_f10 nt n (nt 1 n)
  have hb10 := @sp_f10 nt n (nt 2 n)
  have ha11 := @sp_f11 nt n (nt 1 n)
  rw [← h2] at h3
  rw [e] at h3 h2
  clear hT
  simp only [sp_ty, sp_ao] at h2 h3
  simp [sp_i] at h2 h3
  grind [sp_E, sp_i, sp_isv]
theorem sp_k75 {nt : sp_NT} {M n : Nat} {res par : Nat → Int32} (h : sp_OK nt M res par n) (hT : sp_TY nt n) (e : nt 0 n = 75) : (sp_nd n (nt 1 n) = true ∧ sp_Sk (nt 0 (nt 1 n).toNatClampNeg) = true) ∧ (sp_nd n (nt 2 n) = true ∧ (nt 0 (nt 2 n).toNatClampNeg = 76)) := by
  obtain ⟨h1, h2, h3, -, -⟩ := h
  have hta := hT (nt 1 n)
  have htb := hT (nt 2 n)
  have ha8 := @sp_f8 nt n (nt 1 n)
  have hb8 := @sp_f8 nt n (nt 2 n)
  have ha9 := @sp_f9 nt n (nt 1 n)
  have hb9 := @sp_f9 nt n (nt 2 n)
  have ha10 := @sp_f10 nt n (nt 1 n)
  have hb10 := @sp_f10 nt n (nt 2 n)
  have ha11 := @sp_f11 nt n (nt 1 n)
  rw [← h2] at h3
  rw [e] at h3 h2
  clear hT
  simp only [sp_ty, sp_ao] at h2 h3
  simp [sp_i] at h2 h3
  grind [sp_E, sp_i, sp_isv]
theorem sp_k76 {nt : sp_NT} {M n : Nat} {res par : Nat → Int32} (h : sp_OK nt M res par n) (hT : sp_TY nt n) (e : nt 0 n = 76) : (sp_nd n (nt 1 n) = true ∧ (nt 0 (nt 1 n).toNatClampNeg = 77 ∨ nt 0 (nt 1 n).toNatClampNeg = 78)) ∧ ((nt 2 n) = -1 ∨ (sp_nd n (nt 2 n) = true ∧ (nt 0 (nt 2 n).toNatClampNeg = 76))) := by
  obtain ⟨h1, h2, h3, -, -⟩ := h
  have hta := hT (nt 1 n)
  have htb := hT (nt 2 n)
  have ha8 := @sp_f8 nt n (nt 1 n)
  have hb8 := @sp_f8 nt n (nt 2 n)
  have ha9 := @sp_f9 nt n (nt 1 n)
  have hb9 := @sp_f9 nt n (nt 2 n)
  have ha10 := @sp_f10 nt n (nt 1 n)
  have hb10 := @sp_f10 nt n (nt 2 n)
  have ha11 := @sp_f11 nt n (nt 1 n)
  rw [← h2] at h3
  rw [e] at h3 h2
  clear hT
  simp only [sp_ty, sp_ao] at h2 h3
  simp [sp_i] at h2 h3
  grind [sp_E, sp_i, sp_isv]
theorem sp_k77 {nt : sp_NT} {M n : Nat} {res par : Nat → Int32} (h : sp_OK nt M res par n) (hT : sp_TY nt n) (e : nt 0 n = 77) : 0 ≤ (nt 1 n) ∧ (nt 1 n) ≤ 7 ∧ (sp_nd n (nt 2 n) = true ∧ sp_Sk (nt 0 (nt 2 n).toNatClampNeg) = true) := by
  obtain ⟨h1, h2, h3, -, -⟩ := h
  have hta := hT (nt 1 n)
  have htb := hT (nt 2 n)
  have ha8 := @sp_f8 nt n (nt 1 n)
  have hb8 := @sp_f8 nt n (nt 2 n)
  have ha9 := @sp_f9 nt n (nt 1 n)
  have hb9 := @sp_f9 nt n (nt 2 n)
  have ha10 := @sp_f10 nt n (nt 1 n)
  have hb10 := @sp_f10 nt n (nt 2 n)
  have ha11 := @sp_f11 nt n (nt 1 n)
  rw [← h2] at h3
  rw [e] at h3 h2
  clear hT
  simp only [sp_ty, sp_ao] at h2 h3
  simp [sp_i] at h2 h3
  grind [sp_E, sp_i, sp_isv]
theorem sp_k78 {nt : sp_NT} {M n : Nat} {res par : Nat → Int32} (h : sp_OK nt M res par n) (hT : sp_TY nt n) (e : nt 0 n = 78) : (sp_nd n (nt 1 n) = true ∧ (nt 0 (nt 1 n).toNatClampNeg = 5)) ∧ nt 3 (nt 1 n).toNatClampNeg = 1 ∧ (sp_nd n (nt 2 n) = true ∧ (nt 0 (nt 2 n).toNatClampNeg = 77)) := by
  obtain ⟨h1, h2, h3, -, -⟩ := h
  have hta := hT (nt 1 n)
  have htb := hT (nt 2 n)
  have ha8 := @sp_f8 nt n (nt 1 n)
  have hb8 := @sp_f8 nt n (nt 2 n)
  have ha9 := @sp_f9 nt n (nt 1 n)
  have hb9 := @sp_f9 nt n (nt 2 n)
  have ha10 := @sp_f10 nt n (nt 1 n)
  have hb10 := @sp_f10 nt n (nt 2 n)
  have ha11 := @sp_f11 nt n (nt 1 n)
  rw [← h2] at h3
  rw [e] at h3 h2
  clear hT
  simp only [sp_ty, sp_ao] at h2 h3
  simp [sp_i] at h2 h3
  grind [sp_E, sp_i, sp_isv]
theorem sp_k79 {nt : sp_NT} {M n : Nat} {res par : Nat → Int32} (h : sp_OK nt M res par n) (hT : sp_TY nt n) (e : nt 0 n = 79) : (sp_nd n (nt 1 n) = true ∧ sp_Sk (nt 0 (nt 1 n).toNatClampNeg) = true) ∧ (sp_nd n (nt 2 n) = true ∧ sp_Sk (nt 0 (nt 2 n).toNatClampNeg) = true) := by
  obtain ⟨h1, h2, h3, -, -⟩ := h
  have hta := hT (nt 1 n)
  have htb := hT (nt 2 n)
  have ha8 := @sp_f8 nt n (nt 1 n)
  have hb8 := @sp_f8 nt n (nt 2 n)
  have ha9 := @sp_f9 nt n (nt 1 n)
  have hb9 := @sp_f9 nt n (nt 2 n)
  have ha10 := @sp_f10 nt n (nt 1 n)
  have hb10 := @sp_f10 nt n (nt 2 n)
  have ha11 := @sp_f11 nt n (nt 1 n)
  rw [← h2] at h3
  rw [e] at h3 h2
  clear hT
  simp only [sp_ty, sp_ao] at h2 h3
  simp [sp_i] at h2 h3
  grind [sp_E, sp_i, sp_isv]
theorem sp_k80 {nt : sp_NT} {M n : Nat} {res par : Nat → Int32} (h : sp_OK nt M res par n) (hT : sp_TY nt n) (e : nt 0 n = 80) : (sp_nd n (nt 1 n) = true ∧ sp_E (nt 0 (nt 1 n).toNatClampNeg) = true ∧ 1 ≤ nt 3 (nt 1 n).toNatClampNeg ∧ nt 3 (nt 1 n).toNatClampNeg ≤ 8) ∧ 5 ≤ nt 3 (nt 1 n).toNatClampNeg ∧ (sp_nd n (nt 2 n) = true ∧ sp_Sk (nt 0 (nt 2 n).toNatClampNeg) = true) := by
  obtain ⟨h1, h2, h3, -, -⟩ := h
  have hta := hT (nt 1 n)
  have htb := hT (nt 2 n)
  have ha8 := @sp_f8 nt n (nt 1 n)
  have hb8 := @sp_f8 nt n (nt 2 n)
  have ha9 := @sp_f9 nt n (nt 1 n)
  have hb9 := @sp_f9 nt n (nt 2 n)
  have ha10 := @sp_f10 nt n (nt 1 n)
  have hb10 := @sp_f10 nt n (nt 2 n)
  have ha11 := @sp_f11 nt n (nt 1 n)
  rw [← h2] at h3
  rw [e] at h3 h2
  clear hT
  simp only [sp_ty, sp_ao] at h2 h3
  simp [sp_i] at h2 h3
  grind [sp_E, sp_i, sp_isv]
theorem sp_k81 {nt : sp_NT} {M n : Nat} {res par : Nat → Int32} (h : sp_OK nt M res par n) (hT : sp_TY nt n) (e : nt 0 n = 81) : (sp_nd n (nt 1 n) = true ∧ sp_E (nt 0 (nt 1 n).toNatClampNeg) = true ∧ nt 3 (nt 1 n).toNatClampNeg = 1) ∧ (sp_nd n (nt 2 n) = true ∧ (nt 0 (nt 2 n).toNatClampNeg = 82)) := by
  obtain ⟨h1, h2, h3, -, -⟩ := h
  have hta := hT (nt 1 n)
  have htb := hT (nt 2 n)
  have ha8 := @sp_f8 nt n (nt 1 n)
  have hb8 := @sp_f8 nt n (nt 2 n)
  have ha9 := @sp_f9 nt n (nt 1 n)
  have hb9 := @sp_f9 nt n (nt 2 n)
  have ha10 := @sp_f10 nt n (nt 1 n)
  have hb10 := @sp_f10 nt n (nt 2 n)
  have ha11 := @sp_f11 nt n (nt 1 n)
  rw [← h2] at h3
  rw [e] at h3 h2
  clear hT
  simp only [sp_ty, sp_ao] at h2 h3
  simp [sp_i] at h2 h3
  grind [sp_E, sp_i, sp_isv]
theorem sp_k82 {nt : sp_NT} {M n : Nat} {res par : Nat → Int32} (h : sp_OK nt M res par n) (hT : sp_TY nt n) (e : nt 0 n = 82) : (sp_nd n (nt 1 n) = true ∧ (nt 0 (nt 1 n).toNatClampNeg = 83 ∨ nt 0 (nt 1 n).toNatClampNeg = 84)) ∧ ((nt 2 n) = -1 ∨ (sp_nd n (nt 2 n) = true ∧ (nt 0 (nt 2 n).toNatClampNeg = 82))) := by
  obtain ⟨h1, h2, h3, -, -⟩ := h
  have hta := hT (nt 1 n)
  have htb := hT (nt 2 n)
  have ha8 := @sp_f8 nt n (nt 1 n)
  have hb8 := @sp_f8 nt n (nt 2 n)
  have ha9 := @sp_f9 nt n (nt 1 n)
  have hb9 := @sp_f9 nt n (nt 2 n)
  have ha10 := @sp_f10 nt n (nt 1 n)
  have hb10 := @sp_f10 nt n (nt 2 n)
  have ha11 := @sp_f11 nt n (nt 1 n)
  rw [← h2] at h3
  rw [e] at h3 h2
  clear hT
  simp only [sp_ty, sp_ao] at h2 h3
  simp [sp_i] at h2 h3
  grind [sp_E, sp_i, sp_isv]
theorem sp_k83 {nt : sp_NT} {M n : Nat} {res par : Nat → Int32} (h : sp_OK nt M res par n) (hT : sp_TY nt n) (e : nt 0 n = 83) : (sp_nd n (nt 2 n) = true ∧ sp_Sk (nt 0 (nt 2 n).toNatClampNeg) = true) := by
  obtain ⟨h1, h2, h3, -, -⟩ := h
  have hta := hT (nt 1 n)
  have htb := hT (nt 2 n)
  have ha8 := @sp_f8 nt n (nt 1 n)
  have hb8 := @sp_f8 nt n (nt 2 n)
  have ha9 := @sp_f9 nt n (nt 1 n)
  have hb9 := @sp_f9 nt n (nt 2 n)
  have ha10 := @sp_f10 nt n (nt 1 n)
  have hb10 := @sp_f10 nt n (nt 2 n)
  have ha11 := @sp_f11 nt n (nt 1 n)
  rw [← h2] at h3
  rw [e] at h3 h2
  clear hT
  simp only [sp_ty, sp_ao] at h2 h3
  simp [sp_i] at h2 h3
  grind [sp_E, sp_i, sp_isv]
theorem sp_k84 {nt : sp_NT} {M n : Nat} {res par : Nat → Int32} (h : sp_OK nt M res par n) (hT : sp_TY nt n) (e : nt 0 n = 84) : (nt 1 n) = -1 ∧ (sp_nd n (nt 2 n) = true ∧ sp_Sk (nt 0 (nt 2 n).toNatClampNeg) = true) := by
  obtain ⟨h1, h2, h3, -, -⟩ := h
  have hta := hT (nt 1 n)
  have htb := hT (nt 2 n)
  have ha8 := @sp_f8 nt n (nt 1 n)
  have hb8 := @sp_f8 nt n (nt 2 n)
  have ha9 := @sp_f9 nt n (nt 1 n)
  have hb9 := @sp_f9 nt n (nt 2 n)
  have ha10 := @sp_f10 nt n (nt 1 n)
  have hb10 := @sp_f10 nt n (nt 2 n)
  have ha11 := @sp_f11 nt n (nt 1 n)
  rw [← h2] at h3
  rw [e] at h3 h2
  clear hT
  simp only [sp_ty, sp_ao] at h2 h3
  simp [sp_i] at h2 h3
  grind [sp_E, sp_i, sp_isv]
theorem sp_k85 {nt : sp_NT} {M n : Nat} {res par : Nat → Int32} (h : sp_OK nt M res par n) (hT : sp_TY nt n) (e : nt 0 n = 85) : 0 ≤ (nt 1 n) ∧ (nt 1 n) ≤ 65535 ∧ (sp_nd n (nt 2 n) = true ∧ sp_Sk (nt 0 (nt 2 n).toNatClampNeg) = true) := by
  obtain ⟨h1, h2, h3, -, -⟩ := h
  have hta := hT (nt 1 n)
  have htb := hT (nt 2 n)
  have ha8 := @sp_f8 nt n (nt 1 n)
  have hb8 := @sp_f8 nt n (nt 2 n)
  have ha9 := @sp_f9 nt n (nt 1 n)
  have hb9 := @sp_f9 nt n (nt 2 n)
  have ha10 := @sp_f10 nt n (nt 1 n)
  have hb10 := @sp_f10 nt n (nt 2 n)
  have ha11 := @sp_f11 nt n (nt 1 n)
  rw [← h2] at h3
  rw [e] at h3 h2
  clear hT
  simp only [sp_ty, sp_ao] at h2 h3
  simp [sp_i] at h2 h3
  grind [sp_E, sp_i, sp_isv]
theorem sp_k86 {nt : sp_NT} {M n : Nat} {res par : Nat → Int32} (h : sp_OK nt M res par n) (hT : sp_TY nt n) (e : nt 0 n = 86) : (sp_nd n (nt 1 n) = true ∧ (nt 0 (nt 1 n).toNatClampNeg = 5)) ∧ ((nt 2 n) = -1 ∨ (sp_nd n (nt 2 n) = true ∧ (nt 0 (nt 2 n).toNatClampNeg = 86))) := by
  obtain ⟨h1, h2, h3, -, -⟩ := h
  have hta := hT (nt 1 n)
  have htb := hT (nt 2 n)
  have ha8 := @sp_f8 nt n (nt 1 n)
  have hb8 := @sp_f8 nt n (nt 2 n)
  have ha9 := @sp_f9 nt n (nt 1 n)
  have hb9 := @sp_f9 nt n (nt 2 n)
  have ha10 := @sp_f10 nt n (nt 1 n)
  have hb10 := @sp_f10 nt n (nt 2 n)
  have ha11 := @sp_f11 nt n (nt 1 n)
  rw [← h2] at h3
  rw [e] at h3 h2
  clear hT
  simp only [sp_ty, sp_ao] at h2 h3
  simp [sp_i] at h2 h3
  grind [sp_E, sp_i, sp_isv]
