/-! CodeWriter: a loop's three labels -/
theorem w_lb_okI (F : wF) (g : wG) : g_ok (w_lb F g) ↔ (g_ok g ∧ (F.2.length < 3370 ∧ ((w_by_ false w_z (g_it g)).length ≤ 65535 → g_us g < 45000 ∧ g_n1 g < 299000))) := ⟨fun q => ⟨q.1, q.2⟩, fun q => ⟨q.1, q.2⟩⟩
theorem w_lb0_okI (F : wF) (g : wG) : g_ok (w_lb0 F g) ↔ (g_ok g ∧ (F.2.length < 3370 ∧ ((w_by_ false w_z (g_it g)).length ≤ 65535 → g_us g < 45000 ∧ g_n1 g < 299000))) := ⟨fun q => ⟨q.1, q.2⟩, fun q => ⟨q.1, q.2⟩⟩
theorem w_lb0_ok {F : wF} {g : wG} (h : g_ok (w_lb0 F g)) : g_ok (w_lb F g) := (w_lb_okI F g).mpr ((w_lb0_okI F g).mp h)
theorem w_lb_U (F : wF) (g : wG) : wU g (w_lb F g) := ⟨rfl, rfl, rfl, rfl, rfl, rfl⟩
theorem w_lb0_U (F : wF) (g : wG) : wU g (w_lb0 F g) := ⟨rfl, rfl, rfl, rfl, rfl, rfl⟩
theorem w_lb0_wU (F : wF) (g : wG) : wU (w_lb F g) (w_lb0 F g) := by
  obtain ⟨a1, a2, a3, a4, a5, a6⟩ := w_lb_U F g
  obtain ⟨b1, b2, b3, b4, b5, b6⟩ := w_lb0_U F g
  exact ⟨b1.trans a1.symm, b2.trans a2.symm, b3.trans a3.symm, b4.trans a4.symm, b5.trans a5.symm, b6.trans a6.symm⟩
theorem w_lb0_yT {x y : mj_X} {F : wF} {g h : wG} (t : yT x g y (w_lb F h)) : yT x g y (w_lb0 F h) := by
  have e : g_it (w_lb0 F h) = g_it (w_lb F h) := (w_lb0_f F h).2.2.1.trans (w_lb_f F h).2.2.1.symm
  unfold yT at *
  rw [e]; exact t
section
variable {nt : sp_NT} {N M : Nat} {P : yP} {hp : Nat} {H V : List wSl} {O : List (Int32 × List (Nat × Nat))} {K u sb : Nat} {C : Nat → Prop} {o : Option Int32} {lm lm' lm1 : Nat → Nat} {lv lv' lv1 ct ct' : Nat → Bool} {x y x1 : mj_X} {g G : wG} {res par : Nat → Int32}
theorem w_lbs_0 (F : wF) (g : wG) : w_lbs F 0 g = g := rfl
theorem w_lbs_s (F : wF) (n : Nat) (g : wG) : w_lbs F (n + 1) g = w_lbs F n (w_lb F g) := rfl
theorem w_lbl_e (k : Int32) (F : wF) (g : wG) : w_lbl k F g = if k = 67 then w_lb0 F (w_lb F (w_lb F g)) else w_lb F (w_lb F (w_lb F g)) := by
  unfold w_lbl
  rw [w_lbs_s, w_lbs_s, w_lbs_0, w_lbs_s, w_lbs_s, w_lbs_s, w_lbs_0]
/-- three of them, in CodeWriter's order, known by S in its own -/
theorem k_lb3 {d : Nat} {k : Int32} {F : wF} (hd : 1 ≤ d) (h : Y2 nt N P hp H O K u sb C none V lm lv ct x g) (h0 : x.1 0 29 = 0) (hok : g_ok (w_lbl k F g)) : ∃ i1 i2 i3 lm3 lv3 ct3 y, (∀ kk : Int32 → Int32 → Int32 → mj_X → mj_R, (mj_rI (kX0 d 64 [.ref 0] x) fun v2 x1 => mj_rI (kX0 d 64 [.ref 0] x1) fun v4 x3 => mj_rI (kX0 d 64 [.ref 0] x3) fun v6 x5 => kk v2 v4 v6 x5) = kk (nI i1) (nI i2) (nI i3) y)
    ∧ Y2 nt N P hp H O K u sb C none V lm3 lv3 ct3 y (w_lbl k F g) ∧ lm3 (g_nl g) = i3 ∧ (k = 67 → lm3 (g_nl g + 1) = i1 ∧ lm3 (g_nl g + 2) = i2) ∧ (¬ k = 67 → lm3 (g_nl g + 1) = i2 ∧ lm3 (g_nl g + 2) = i1) ∧ ((lv3 (g_nl g) = true ∧ ct3 (g_nl g) = false) ∧ (lv3 (g_nl g + 1) = true ∧ ct3 (g_nl g + 1) = false) ∧ (lv3 (g_nl g + 2) = true ∧ ct3 (g_nl g + 2) = false)) ∧ (∀ l, l < g_nl g → lm3 l = lm l ∧ lv3 l = lv l ∧ ct3 l = ct l) ∧ yfr (yw (p_pf P) (p_lf P)) (p_pf P) x y ∧ y.1 0 29 = 0 ∧ yT x g y (w_lbl k F g) := by
  rw [w_lbl_e] at hok ⊢
  obtain ⟨G1, hG1⟩ : ∃ G, G = w_lb F g := ⟨_, rfl⟩
  obtain ⟨G2, hG2⟩ : ∃ G, G = w_lb F G1 := ⟨_, rfl⟩
  obtain ⟨G3, hG3⟩ : ∃ G, G = w_lb F G2 := ⟨_, rfl⟩
  obtain ⟨G0, hG0⟩ : ∃ G, G = w_lb0 F G2 := ⟨_, rfl⟩
  rw [← hG1, ← hG2, ← hG3, ← hG0] at hok ⊢
  have ok3 : g_ok G3 := by
    by_cases q : k = 67
    · rw [if_pos q, hG0] at hok
      rw [hG3]; exact w_lb0_ok hok
    · rw [if_neg q] at hok; exact hok
  clear hok
  have hF : ∀ q, q ∈ w_fxs (p_w P) w_z (g_it g) → q.2.2.1 < g_nl g := (h.ex h0).2.2.1.2.2.2.2.2.1.2.2.1
  obtain ⟨hcl, hclH⟩ := h.cl h0
  have hclA : ∀ s, s ∈ H ++ V → w_cl (g_nl g) s.2.2 := fun s hs => by
    rcases List.mem_append.mp hs with q | q
    · exact hclH s q
    · exact hcl _ (by rw [← h.2.1.1]; exact List.mem_map.mpr ⟨s, q, rfl⟩)
  have ok2 : g_ok G2 := ((wM.rf G2).lb F).1 (by rw [← hG3]; exact ok3)
  have ok1 : g_ok G1 := ((wM.rf G1).lb F).1 (by rw [← hG2]; exact ok2)
  obtain ⟨i1, lm1, lv1, ct1, x1, e1, q1, a1, c1, z1, f1, t1⟩ := Y2.lb (F := F) hd h h0 (by rw [← hG1]; exact ok1)
  rw [← hG1] at q1 t1
  obtain ⟨i2, lm2, lv2, ct2, x2, e2, q2, a2, c2, z2, f2, t2⟩ := Y2.lb (F := F) hd q1 z1 (by rw [← hG2]; exact ok2)
  rw [← hG2] at q2 t2
  obtain ⟨i3, lm3, lv3, ct3, x3, e3, q3, a3, c3, z3, f3, t3⟩ := Y2.lb (F := F) hd q2 z2 (by rw [← hG3]; exact ok3)
  rw [← hG3] at q3 t3
  have s0 : ySame G3 G0 := by rw [hG3, hG0]; exact w_lb0_same F G2
  have s0U : wU G3 G0 := by rw [hG3, hG0]; exact w_lb0_wU F G2
  have tt : yT x g x3 G3 := (t1.tr t2).tr t3
  have tt0 : yT x g x3 G0 := by
    rw [hG0]; rw [hG3] at tt; exact w_lb0_yT tt
  have m1 : g_nl G1 = g_nl g + 1 := by rw [hG1, w_lb_nl]
  have m2 : g_nl G2 = g_nl g + 2 := by rw [hG2, w_lb_nl, m1]
  have n3 : g_nl G3 = g_nl g + 3 := by rw [hG3, w_lb_nl, m2]
  rw [m1] at a2 c2
  rw [m2] at a3 c3
  have lat : ∀ l, g_nl g ≤ l → l < g_nl g + 3 → g_lat G3 l = none ∧ g_goes G3 l = false := by
    intro l h1 h2
    rw [hG3, w_lb_lat, w_lb_goes, m2, hG2, w_lb_lat, w_lb_goes, m1, hG1, w_lb_lat, w_lb_goes]
    have : l = g_nl g ∨ l = g_nl g + 1 ∨ l = g_nl g + 2 := by omega
    rcases this with q | q | q
    · rw [if_neg (by omega), if_neg (by omega), if_pos q, if_neg (by omega), if_neg (by omega), if_pos q]; exact ⟨rfl, rfl⟩
    · rw [if_neg (by omega), if_pos (by omega), if_neg (by omega), if_pos (by omega)]; exact ⟨rfl, rfl⟩
    · rw [if_pos (by omega), if_pos (by omega)]; exact ⟨rfl, rfl⟩
  have hF3 : ∀ q, q ∈ w_fxs (p_w P) w_z (g_it G3) → q.2.2.1 < g_nl g := by rw [hG3, w_lb_it, hG2, w_lb_it, hG1, w_lb_it]; exact hF
  clear ok1 ok2 ok3 q1 q2 hF t1 t2 t3 hG0 hG1 hG2 hG3 m1 m2
  have eq : ∀ kk : Int32 → Int32 → Int32 → mj_X → mj_R, (mj_rI (kX0 d 64 [.ref 0] x) fun v2 x1 => mj_rI (kX0 d 64 [.ref 0] x1) fun v4 x3 => mj_rI (kX0 d 64 [.ref 0] x3) fun v6 x5 => kk v2 v4 v6 x5) = kk (nI i1) (nI i2) (nI i3) x3 := by
    intro kk
    rw [e1, mj_rI_k, e2, mj_rI_k, e3, mj_rI_k]
  have ff := (f1.tr f2).tr f3
  obtain ⟨v3, lv3e, ct3e⟩ := a3
  have C0 := c3 (g_nl g) (by omega)
  have C1 := c3 (g_nl g + 1) (by omega)
  have D0 := c2 (g_nl g) (by omega)
  have v1 : lm3 (g_nl g) = i1 := C0.1.trans (D0.1.trans a1.1)
  have v2 : lm3 (g_nl g + 1) = i2 := C1.1.trans a2.1
  have l1 : lv3 (g_nl g) = true := C0.2.1.trans (D0.2.1.trans a1.2.1)
  have l2 : lv3 (g_nl g + 1) = true := C1.2.1.trans a2.2.1
  have k1 : ct3 (g_nl g) = false := C0.2.2.trans (D0.2.2.trans a1.2.2)
  have k2 : ct3 (g_nl g + 1) = false := C1.2.2.trans a2.2.2
  have old : ∀ l, l < g_nl g → lm3 l = lm l ∧ lv3 l = lv l ∧ ct3 l = ct l := fun l hl => by
    have p1 := c1 l hl
    have p2 := c2 l (by omega)
    have p3 := c3 l (by omega)
    exact ⟨p3.1.trans (p2.1.trans p1.1), p3.2.1.trans (p2.2.1.trans p1.2.1), p3.2.2.trans (p2.2.2.trans p1.2.2)⟩
  have w0 : w_swp (g_nl g) (g_nl g + 2) (g_nl g) = g_nl g + 2 := by unfold w_swp; rw [if_pos rfl]
  have w1 : w_swp (g_nl g) (g_nl g + 2) (g_nl g + 1) = g_nl g + 1 := w_swp_o (by omega) (by omega)
  have w2 : w_swp (g_nl g) (g_nl g + 2) (g_nl g + 2) = g_nl g := by unfold w_swp; rw [if_neg (by omega), if_pos rfl]
  have wo : ∀ l, l < g_nl g → w_swp (g_nl g) (g_nl g + 2) l = l := fun l hl => w_swp_o (by omega) (by omega)
  have s1 := Y2.swp (a := g_nl g) (b := g_nl g + 2) (n0 := g_nl g) q3 z3 (Nat.le_refl _) (by rw [n3]; omega) (by omega) (by rw [n3]; omega) (lat _ (by omega) (by omega)).1 (lat _ (by omega) (by omega)).1 (lat _ (by omega) (by omega)).2 (lat _ (by omega) (by omega)).2 hF3 k1 ct3e hclA
  by_cases q : k = 67
  · rw [if_pos q]
    have s2 := Y2.swp (a := g_nl g + 1) (b := g_nl g + 2) (n0 := g_nl g) s1 z3 (by omega) (by rw [n3]; omega) (by omega) (by rw [n3]; omega) (lat _ (by omega) (by omega)).1 (lat _ (by omega) (by omega)).1 (lat _ (by omega) (by omega)).2 (lat _ (by omega) (by omega)).2 hF3 (by show ct3 (w_swp _ _ _) = false; rw [w1]; exact k2) (by show ct3 (w_swp _ _ _) = false; rw [w2]; exact k1) hclA
    have y0 : w_swp (g_nl g + 1) (g_nl g + 2) (g_nl g) = g_nl g := w_swp_o (by omega) (by omega)
    have y1_ : w_swp (g_nl g + 1) (g_nl g + 2) (g_nl g + 1) = g_nl g + 2 := by unfold w_swp; rw [if_pos rfl]
    have y2 : w_swp (g_nl g + 1) (g_nl g + 2) (g_nl g + 2) = g_nl g + 1 := by unfold w_swp; rw [if_neg (by omega), if_pos rfl]
    have yo : ∀ l, l < g_nl g → w_swp (g_nl g + 1) (g_nl g + 2) l = l := fun l hl => w_swp_o (by omega) (by omega)
    have s3 := s2.same s0 s0U
    refine ⟨i1, i2, i3, _, _, _, x3, eq, s3, ?_, fun _ => ⟨?_, ?_⟩, fun z => absurd q z, ⟨⟨?_, ?_⟩, ⟨?_, ?_⟩, ⟨?_, ?_⟩⟩, fun l hl => ⟨?_, ?_, ?_⟩, ff, z3, tt0⟩
    · show lm3 (w_swp _ _ (w_swp _ _ _)) = _; rw [y0, w0]; exact v3
    · show lm3 (w_swp _ _ (w_swp _ _ _)) = _; rw [y1_, w2]; exact v1
    · show lm3 (w_swp _ _ (w_swp _ _ _)) = _; rw [y2, w1]; exact v2
    · show lv3 (w_swp _ _ (w_swp _ _ _)) = true; rw [y0, w0]; exact lv3e
    · show ct3 (w_swp _ _ (w_swp _ _ _)) = false; rw [y0, w0]; exact ct3e
    · show lv3 (w_swp _ _ (w_swp _ _ _)) = true; rw [y1_, w2]; exact l1
    · show ct3 (w_swp _ _ (w_swp _ _ _)) = false; rw [y1_, w2]; exact k1
    · show lv3 (w_swp _ _ (w_swp _ _ _)) = true; rw [y2, w1]; exact l2
    · show ct3 (w_swp _ _ (w_swp _ _ _)) = false; rw [y2, w1]; exact k2
    · show lm3 (w_swp _ _ (w_swp _ _ _)) = _; rw [yo l hl, wo l hl]; exact (old l hl).1
    · show lv3 (w_swp _ _ (w_swp _ _ _)) = _; rw [yo l hl, wo l hl]; exact (old l hl).2.1
    · show ct3 (w_swp _ _ (w_swp _ _ _)) = _; rw [yo l hl, wo l hl]; exact (old l hl).2.2
  · rw [if_neg q]
    refine ⟨i1, i2, i3, _, _, _, x3, eq, s1, ?_, fun z => absurd z q, fun _ => ⟨?_, ?_⟩, ⟨⟨?_, ?_⟩, ⟨?_, ?_⟩, ⟨?_, ?_⟩⟩, fun l hl => ⟨?_, ?_, ?_⟩, ff, z3, tt⟩
    · show lm3 (w_swp _ _ _) = _; rw [w0]; exact v3
    · show lm3 (w_swp _ _ _) = _; rw [w1]; exact v2
    · show lm3 (w_swp _ _ _) = _; rw [w2]; exact v1
    · show lv3 (w_swp _ _ _) = true; rw [w0]; exact lv3e
    · show ct3 (w_swp _ _ _) = false; rw [w0]; exact ct3e
    · show lv3 (w_swp _ _ _) = true; rw [w1]; exact l2
    · show ct3 (w_swp _ _ _) = false; rw [w1]; exact k2
    · show lv3 (w_swp _ _ _) = true; rw [w2]; exact l1
    · show ct3 (w_swp _ _ _) = false; rw [w2]; exact k1
    · show lm3 (w_swp _ _ _) = _; rw [wo l hl]; exact (old l hl).1
    · show lv3 (w_swp _ _ _) = _; rw [wo l hl]; exact (old l hl).2.1
    · show ct3 (w_swp _ _ _) = _; rw [wo l hl]; exact (old l hl).2.2
end
