/-! a right node: its parts are nodes -/
theorem sp_ty_a (nt : sp_NT) (N M : Nat) (res par : Nat → Int32) (k a b : Int32) (hk : sp_isK k = true) (hr : ¬ sp_ty nt (sp_nd N) (sp_fr nt N) M res par k a b = -1) (h1 : sp_hA k = true) (h2 : ¬ a = -1) : sp_nd N a = true := by
  have f8 : ∀ k q, sp_fk nt (sp_fr nt N) k q = true → sp_nd N k = true := fun k q => sp_fk_nd
  have f9 : ∀ k, ¬ sp_val nt (sp_fr nt N) k = 0 → sp_nd N k = true := fun k => sp_val_nd
  have g1 : ∀ k, ¬ sp_tg nt (sp_fr nt N) k = 0 → sp_nd N k = true := fun k => sp_tg_nd
  have g2 : ∀ k, sp_act nt (sp_fr nt N) k = true → sp_nd N k = true := fun k h => by unfold sp_act at h; simp only [Bool.and_eq_true] at h; exact sp_fr_nd h.1
  have g3 : ∀ m g, sp_call nt (sp_fr nt N) M par m g = true → g = -1 ∨ sp_fk nt (sp_fr nt N) g 49 = true := fun m g h => by
    unfold sp_call at h; simp only [Bool.and_eq_true, Bool.or_eq_true, decide_eq_true_eq] at h; exact h.1.2
  have hin := sp_isK_in k hk
  simp only [List.mem_cons, List.not_mem_nil, or_false] at hin
  rcases hin with rfl | rfl | rfl | rfl | rfl | rfl | rfl | rfl | rfl | rfl | rfl | rfl | rfl | rfl | rfl | rfl | rfl | rfl | rfl | rfl | rfl | rfl | rfl | rfl | rfl | rfl | rfl | rfl | rfl | rfl | rfl | rfl | rfl | rfl | rfl | rfl | rfl | rfl | rfl | rfl | rfl | rfl | rfl | rfl | rfl | rfl | rfl | rfl | rfl | rfl | rfl | rfl | rfl | rfl | rfl | rfl | rfl | rfl | rfl | rfl | rfl | rfl | rfl | rfl | rfl | rfl | rfl | rfl | rfl | rfl | rfl | rfl | rfl | rfl | rfl | rfl | rfl <;> simp only [sp_ty, sp_ao] at hr <;> simp at hr <;> grind [sp_isv, sp_i, sp_bin, sp_hA]
theorem sp_ty_b (nt : sp_NT) (N M : Nat) (res par : Nat → Int32) (k a b : Int32) (hk : sp_isK k = true) (hr : ¬ sp_ty nt (sp_nd N) (sp_fr nt N) M res par k a b = -1) (h1 : sp_hB k = true) (h2 : ¬ b = -1) : sp_nd N b = true := by
  have f8 : ∀ k q, sp_fk nt (sp_fr nt N) k q = true → sp_nd N k = true := fun k q => sp_fk_nd
  have f9 : ∀ k, ¬ sp_val nt (sp_fr nt N) k = 0 → sp_nd N k = true := fun k => sp_val_nd
  have g1 : ∀ k, ¬ sp_tg nt (sp_fr nt N) k = 0 → sp_nd N k = true := fun k => sp_tg_nd
  have g2 : ∀ k, sp_act nt (sp_fr nt N) k = true → sp_nd N k = true := fun k h => by unfold sp_act at h; simp only [Bool.and_eq_true] at h; exact sp_fr_nd h.1
  have g3 : ∀ m g, sp_call nt (sp_fr nt N) M par m g = true → g = -1 ∨ sp_fk nt (sp_fr nt N) g 49 = true := fun m g h => by
    unfold sp_call at h; simp only [Bool.and_eq_true, Bool.or_eq_true, decide_eq_true_eq] at h; exact h.1.2
  have hin := sp_isK_in k hk
  simp only [List.mem_cons, List.not_mem_nil, or_false] at hin
  rcases hin with rfl | rfl | rfl | rfl | rfl | rfl | rfl | rfl | rfl | rfl | rfl | rfl | rfl | rfl | rfl | rfl | rfl | rfl | rfl | rfl | rfl | rfl | rfl | rfl | rfl | rfl | rfl | rfl | rfl | rfl | rfl | rfl | rfl | rfl | rfl | rfl | rfl | rfl | rfl | rfl | rfl | rfl | rfl | rfl | rfl | rfl | rfl | rfl | rfl | rfl | rfl | rfl | rfl | rfl | rfl | rfl | rfl | rfl | rfl | rfl | rfl | rfl | rfl | rfl | rfl | rfl | rfl | rfl | rfl | rfl | rfl | rfl | rfl | rfl | rfl | rfl | rfl <;> simp only [sp_ty, sp_ao] at hr <;> simp at hr <;> grind [sp_isv, sp_i, sp_bin, sp_hB]
theorem sp_ty_rng (nt : sp_NT) (N M : Nat) (res par : Nat → Int32) (hM : M ≤ 40) (hW : sp_TY nt N) (hR : ∀ m, m < M → 0 ≤ res m ∧ res m ≤ 8) (k a b : Int32) (hk : sp_isK k = true) (hr : ¬ sp_ty nt (sp_nd N) (sp_fr nt N) M res par k a b = -1) : 0 ≤ sp_ty nt (sp_nd N) (sp_fr nt N) M res par k a b ∧ sp_ty nt (sp_nd N) (sp_fr nt N) M res par k a b ≤ 8 := by
  have f8 : ∀ k q, sp_fk nt (sp_fr nt N) k q = true → sp_nd N k = true := fun k q => sp_fk_nd
  have f9 : ∀ k, ¬ sp_val nt (sp_fr nt N) k = 0 → sp_nd N k = true := fun k => sp_val_nd
  have g1 : ∀ k, ¬ sp_tg nt (sp_fr nt N) k = 0 → sp_nd N k = true := fun k => sp_tg_nd
  have g4 : ∀ k, sp_nd N k = true → 0 ≤ nt 3 k.toNatClampNeg ∧ nt 3 k.toNatClampNeg ≤ 8 := fun k h => ⟨(hW k h).1, (hW k h).2.1⟩
  have g5 : ∀ k, 0 ≤ sp_val nt (sp_fr nt N) k ∧ sp_val nt (sp_fr nt N) k ≤ 8 := fun k => sp_val_rng hW k
  have g6 : ∀ k, sp_tg nt (sp_fr nt N) k ≤ 4 := fun k => sp_tg_4 hW k
  have hc2 : ∀ (m g : Int32), sp_call nt (sp_fr nt N) M par m g = true → 0 ≤ res m.toNatClampNeg ∧ res m.toNatClampNeg ≤ 8 := fun m g hq => by
    unfold sp_call at hq
    simp only [Bool.and_eq_true] at hq
    obtain ⟨q1, q2⟩ := (sp_nd_iff (by omega) m).mp hq.1.1
    exact hR _ (by show m.toInt.toNat < M; omega)
  have hin := sp_isK_in k hk
  simp only [List.mem_cons, List.not_mem_nil, or_false] at hin
  rcases hin with rfl | rfl | rfl | rfl | rfl | rfl | rfl | rfl | rfl | rfl | rfl | rfl | rfl | rfl | rfl | rfl | rfl | rfl | rfl | rfl | rfl | rfl | rfl | rfl | rfl | rfl | rfl | rfl | rfl | rfl | rfl | rfl | rfl | rfl | rfl | rfl | rfl | rfl | rfl | rfl | rfl | rfl | rfl | rfl | rfl | rfl | rfl | rfl | rfl | rfl | rfl | rfl | rfl | rfl | rfl | rfl | rfl | rfl | rfl | rfl | rfl | rfl | rfl | rfl | rfl | rfl | rfl | rfl | rfl | rfl | rfl | rfl | rfl | rfl | rfl | rfl | rfl <;> simp only [sp_ty] at hr ⊢ <;> simp at hr ⊢ <;> grind [sp_isv, sp_i, sp_bin, sp_el]
theorem sp_ty_pos (nt : sp_NT) (N M : Nat) (res par : Nat → Int32) (hW : sp_TY nt N) (k a b : Int32) (hk : sp_isK k = true) (h47 : k ≤ 47 ∨ k = 51) (hr : ¬ sp_ty nt (sp_nd N) (sp_fr nt N) M res par k a b = -1) : 1 ≤ sp_ty nt (sp_nd N) (sp_fr nt N) M res par k a b := by
  have f8 : ∀ k q, sp_fk nt (sp_fr nt N) k q = true → sp_nd N k = true ∧ nt 0 k.toNatClampNeg = q := fun k q h => ⟨sp_fk_nd h, by unfold sp_fk at h; simp only [Bool.and_eq_true, decide_eq_true_eq] at h; exact h.2⟩
  have f4 : ∀ k, ¬ sp_val nt (sp_fr nt N) k = 0 → nt 3 k.toNatClampNeg = sp_val nt (sp_fr nt N) k := fun k => sp_val_v
  have f6 : ∀ k, ¬ sp_tg nt (sp_fr nt N) k = 0 → nt 3 k.toNatClampNeg = sp_tg nt (sp_fr nt N) k ∧ sp_tg nt (sp_fr nt N) k = sp_val nt (sp_fr nt N) k := fun k => sp_tg_v hW
  have g5 : ∀ k, 0 ≤ sp_val nt (sp_fr nt N) k ∧ sp_val nt (sp_fr nt N) k ≤ 8 := fun k => sp_val_rng hW k
  have g7 : ∀ k, sp_nd N k = true → (nt 0 k.toNatClampNeg ≤ 47 → 1 ≤ nt 3 k.toNatClampNeg) := fun k h q => (hW k h).2.2.1 (Or.inl q)
  have hin := sp_isK_in k hk
  simp only [List.mem_cons, List.not_mem_nil, or_false] at hin
  rcases hin with rfl | rfl | rfl | rfl | rfl | rfl | rfl | rfl | rfl | rfl | rfl | rfl | rfl | rfl | rfl | rfl | rfl | rfl | rfl | rfl | rfl | rfl | rfl | rfl | rfl | rfl | rfl | rfl | rfl | rfl | rfl | rfl | rfl | rfl | rfl | rfl | rfl | rfl | rfl | rfl | rfl | rfl | rfl | rfl | rfl | rfl | rfl | rfl | rfl | rfl | rfl | rfl | rfl | rfl | rfl | rfl | rfl | rfl | rfl | rfl | rfl | rfl | rfl | rfl | rfl | rfl | rfl | rfl | rfl | rfl | rfl | rfl | rfl | rfl | rfl | rfl | rfl <;> first | (exact absurd h47 (by decide)) | (simp only [sp_ty] at hr ⊢ <;> simp at hr ⊢ <;> grind [sp_isv, sp_i, sp_bin, sp_el])
theorem sp_ty_8 (nt : sp_NT) (nd fr : Int32 → Bool) (M : Nat) (res par : Nat → Int32) (a b : Int32) : sp_ty nt nd fr M res par 8 a b ≤ 4 := by
  simp only [sp_ty]
  simp <;> grind [sp_el]
