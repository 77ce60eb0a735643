/-! a node that is right stays right -/
theorem sp_ty_mono (nt : sp_NT) (nd nd' fr fr' : Int32 → Bool) (M M' : Nat) (res res' par par' : Nat → Int32) (hnd : ∀ c, nd c = true → nd' c = true) (hfr : ∀ c, fr c = true → fr' c = true) (hM : M ≤ M') (hM40 : M' ≤ 40) (hre : ∀ m, m < M → res' m = res m ∧ par' m = par m) (k a b : Int32) (hk : sp_isK k = true) (hr : ¬ sp_ty nt nd fr M res par k a b = -1) : sp_ty nt nd' fr' M' res' par' k a b = sp_ty nt nd fr M res par k a b := by
  have f1 : ∀ c, ¬ sp_val nt fr c = 0 → sp_val nt fr' c = sp_val nt fr c := fun c h => by
    unfold sp_val at h ⊢
    cases q : fr c
    · rw [q] at h; exact absurd rfl h
    · rw [hfr c q]
  have f2 : ∀ c q, sp_fk nt fr c q = true → sp_fk nt fr' c q = true := fun c q h => by
    unfold sp_fk at h ⊢; simp only [Bool.and_eq_true] at h ⊢; exact ⟨hfr c h.1, h.2⟩
  have f3 : ∀ c, sp_act nt fr c = true → sp_act nt fr' c = true := fun c h => by
    unfold sp_act at h ⊢; simp only [Bool.and_eq_true] at h ⊢; exact ⟨hfr c h.1, h.2⟩
  have f4 : ∀ c, ¬ sp_tg nt fr c = 0 → sp_tg nt fr' c = sp_tg nt fr c := fun c h => by
    unfold sp_tg at h ⊢
    cases q : fr c
    · rw [q] at h; exact absurd rfl h
    · rw [hfr c q]
  have f5 : sp_call nt fr M par a b = true → sp_call nt fr' M' par' a b = true ∧ res' a.toNatClampNeg = res a.toNatClampNeg := fun h => by
    unfold sp_call at h ⊢
    simp only [Bool.and_eq_true, Bool.or_eq_true, decide_eq_true_eq] at h ⊢
    have h1 := (sp_nd_iff (by omega) a).mp h.1.1
    have h2 : a.toNatClampNeg < M := by show a.toInt.toNat < M; omega
    rw [(hre _ h2).2]
    refine ⟨⟨⟨(sp_nd_iff (by omega) a).mpr ⟨h1.1, by omega⟩, ?_⟩, h.2⟩, (hre _ h2).1⟩
    rcases h.1.2 with q | q
    · exact Or.inl q
    · exact Or.inr (f2 _ _ q)
  have hin := sp_isK_in k hk
  simp only [List.mem_cons, List.not_mem_nil, or_false] at hin
  rcases hin with rfl | rfl | rfl | rfl | rfl | rfl | rfl | rfl | rfl | rfl | rfl | rfl | rfl | rfl | rfl | rfl | rfl | rfl | rfl | rfl | rfl | rfl | rfl | rfl | rfl | rfl | rfl | rfl | rfl | rfl | rfl | rfl | rfl | rfl | rfl | rfl | rfl | rfl | rfl | rfl | rfl | rfl | rfl | rfl | rfl | rfl | rfl | rfl | rfl | rfl | rfl | rfl | rfl | rfl | rfl | rfl | rfl | rfl | rfl | rfl | rfl | rfl | rfl | rfl | rfl | rfl | rfl | rfl | rfl | rfl | rfl | rfl | rfl | rfl | rfl | rfl | rfl <;> simp only [sp_ty, sp_ao] at hr ⊢ <;> simp at hr ⊢ <;> grind [sp_isv, sp_i, sp_bin]
theorem sp_ty_cg (nt nt' : sp_NT) (fr : Int32 → Bool) (M : Nat) (res par : Nat → Int32) (k a b : Int32) (hk : sp_isK k = true) (hag : ∀ c, fr c = true → ∀ j, j < 5 → nt' j c.toNatClampNeg = nt j c.toNatClampNeg)
    (hcall : sp_call nt' fr M par a b = sp_call nt fr M par a b) (hnew : sp_fk nt fr b 82 = true → fr a = true → (sp_chain nt' 4001 b).all (sp_nw nt' a) = (sp_chain nt 4001 b).all (sp_nw nt a)) : sp_ty nt' fr fr M res par k a b = sp_ty nt fr fr M res par k a b := by
  have f1 : ∀ c, sp_val nt' fr c = sp_val nt fr c := fun c => by
    unfold sp_val
    cases q : fr c
    · rfl
    · rw [hag c q 0 (by decide), hag c q 3 (by decide)]
  have f2 : ∀ c q, sp_fk nt' fr c q = sp_fk nt fr c q := fun c q => by
    unfold sp_fk
    cases q : fr c
    · rfl
    · rw [hag c q 0 (by decide)]
  have f3 : ∀ c, sp_act nt' fr c = sp_act nt fr c := fun c => by
    unfold sp_act
    cases q : fr c
    · rfl
    · rw [hag c q 0 (by decide)]
  have f4 : ∀ c, sp_tg nt' fr c = sp_tg nt fr c := fun c => by
    unfold sp_tg
    cases q : fr c
    · rfl
    · rw [hag c q 0 (by decide), hag c q 3 (by decide)]
  have f5 : ∀ c t, sp_isv nt' fr c t = sp_isv nt fr c t := fun c t => by unfold sp_isv; rw [f1]
  have ga : fr a = true → nt' 0 a.toNatClampNeg = nt 0 a.toNatClampNeg ∧ nt' 3 a.toNatClampNeg = nt 3 a.toNatClampNeg := fun q => ⟨hag a q 0 (by decide), hag a q 3 (by decide)⟩
  have gb : fr b = true → nt' 3 b.toNatClampNeg = nt 3 b.toNatClampNeg := fun q => hag b q 3 (by decide)
  have g1 : ∀ c q, sp_fk nt fr c q = true → fr c = true := fun c q h => by unfold sp_fk at h; simp only [Bool.and_eq_true] at h; exact h.1
  have g2 : ∀ c, ¬ sp_val nt fr c = 0 → fr c = true := fun c h => by
    unfold sp_val at h
    cases q : fr c
    · rw [q] at h; exact absurd rfl h
    · rfl
  have g3 : ∀ c, ¬ sp_tg nt fr c = 0 → fr c = true := fun c h => by
    unfold sp_tg at h
    cases q : fr c
    · rw [q] at h; exact absurd rfl h
    · rfl
  have hin := sp_isK_in k hk
  simp only [List.mem_cons, List.not_mem_nil, or_false] at hin
  rcases hin with rfl | rfl | rfl | rfl | rfl | rfl | rfl | rfl | rfl | rfl | rfl | rfl | rfl | rfl | rfl | rfl | rfl | rfl | rfl | rfl | rfl | rfl | rfl | rfl | rfl | rfl | rfl | rfl | rfl | rfl | rfl | rfl | rfl | rfl | rfl | rfl | rfl | rfl | rfl | rfl | rfl | rfl | rfl | rfl | rfl | rfl | rfl | rfl | rfl | rfl | rfl | rfl | rfl | rfl | rfl | rfl | rfl | rfl | rfl | rfl | rfl | rfl | rfl | rfl | rfl | rfl | rfl | rfl | rfl | rfl | rfl | rfl | rfl | rfl | rfl | rfl | rfl <;> simp only [sp_ty, sp_ao, f1, f2, f3, f4, f5, hcall] <;> simp <;> grind [sp_isv, sp_i]
