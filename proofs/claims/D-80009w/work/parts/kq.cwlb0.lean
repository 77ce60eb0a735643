/-! CodeWriter: the label that it alone has, for S -/
theorem w_lb_f (F : wF) (g : wG) : g_ov (w_lb F g) = g_ov g ∧ g_al (w_lb F g) = g_al g ∧ g_it (w_lb F g) = g_it g ∧ g_nl (w_lb F g) = g_nl g + 1 ∧ g_us (w_lb F g) = g_us g + 1 ∧ g_po (w_lb F g) = g_po g ∧ g_ln (w_lb F g) = g_ln g ∧ g_pn (w_lb F g) = g_pn g := ⟨rfl, rfl, rfl, rfl, rfl, rfl, rfl, rfl⟩
theorem w_lb0_f (F : wF) (g : wG) : g_ov (w_lb0 F g) = g_ov g ∧ g_al (w_lb0 F g) = g_al g ∧ g_it (w_lb0 F g) = g_it g ∧ g_nl (w_lb0 F g) = g_nl g + 1 ∧ g_us (w_lb0 F g) = g_us g + 1 ∧ g_po (w_lb0 F g) = g_po g ∧ g_ln (w_lb0 F g) = g_ln g ∧ g_pn (w_lb0 F g) = g_pn g := ⟨rfl, rfl, rfl, rfl, rfl, rfl, rfl, rfl⟩
theorem w_lb0_lat (F : wF) (g : wG) (l : Nat) : g_lat (w_lb0 F g) l = (if l = g_nl g then none else g_lat g l) := rfl
theorem w_lb0_goes (F : wF) (g : wG) (l : Nat) : g_goes (w_lb0 F g) l = (if l = g_nl g then false else g_goes g l) := rfl
theorem w_lb0_same (F : wF) (g : wG) : ySame (w_lb F g) (w_lb0 F g) := by
  obtain ⟨a1, a2, a3, a4, a5, a6, a7, a8⟩ := w_lb_f F g
  obtain ⟨b1, b2, b3, b4, b5, b6, b7, b8⟩ := w_lb0_f F g
  exact ⟨b1.trans a1.symm, b2.trans a2.symm, b3.trans a3.symm, b4.trans a4.symm, funext fun l => (w_lb0_lat F g l).trans (w_lb_lat F g l).symm, funext fun l => (w_lb0_goes F g l).trans (w_lb_goes F g l).symm, b5.trans a5.symm, b6.trans a6.symm, b7.trans a7.symm, b8.trans a8.symm⟩
