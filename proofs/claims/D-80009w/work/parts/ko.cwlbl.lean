/-! CodeWriter: statements: the labels of a loop -/
def w_swp (a b l : Nat) : Nat := if l = a then b else if l = b then a else l
theorem w_swp_o {a b l : Nat} (h1 : l ≠ a) (h2 : l ≠ b) : w_swp a b l = l := by unfold w_swp; rw [if_neg h1, if_neg h2]
theorem w_swp_lt {a b l m : Nat} (ha : a < m) (hb : b < m) (hl : l < m) : w_swp a b l < m := by
  unfold w_swp
  by_cases q : l = a
  · rw [if_pos q]; exact hb
  · rw [if_neg q]
    by_cases q2 : l = b
    · rw [if_pos q2]; exact ha
    · rw [if_neg q2]; exact hl
theorem w_swp_inj {a b l m : Nat} (h : w_swp a b l = w_swp a b m) : l = m := by
  unfold w_swp at h
  repeat' split at h
  all_goals omega
section
variable {nt : sp_NT} {N M : Nat} {P : yP} {hp : Nat} {H V : List wSl} {O : List (Int32 × List (Nat × Nat))} {K u sb : Nat} {C : Nat → Prop} {o : Option Int32} {lm lm' lm1 : Nat → Nat} {lv lv' lv1 ct ct' : Nat → Bool} {x y x1 : mj_X} {g G : wG} {res par : Nat → Int32} {f : Nat} {n : Int32}
/-- what the relation reads of S -/
theorem Y2.same (h : Y2 nt N P hp H O K u sb C o V lm lv ct x g) (s : ySame g G) (hU : wU g G) : Y2 nt N P hp H O K u sb C o V lm lv ct x G := by
  have s' := s
  obtain ⟨w1, w2, w3, w4, w5, w6, w7, w8, w9, w10⟩ := s
  obtain ⟨u1, u2, u3, u4, u5, u6⟩ := hU
  obtain ⟨he, hS, hC, hX⟩ := h
  refine ⟨he, by rw [u5]; exact hS, by rw [w4]; exact hC, ?_⟩
  rcases hX with ⟨h0, h1, h2, h3, a1, a2, a3, a4, L, t, a5⟩ | ⟨h0, m1, m2, m3⟩
  · refine Or.inl ⟨h0, by rw [u6]; exact h1, by rw [w4, w7]; exact h2, h3.same s', ?_, ?_, ?_, ?_, L, t, ?_⟩
    · unfold yNn at *; rw [u1, u2, u3]; exact a1
    · rw [u4, w3]; exact a2
    · rw [u6, w4]; exact a3
    · rw [w4]; exact a4
    · have hph : w_ph G = w_ph g := by unfold w_ph; rw [u4, u5]
      rw [hph, w3]; exact a5
  · exact Or.inr ⟨h0, m1, by rw [w4]; exact m2, m3.of w1 w3 w9 (by unfold w_ph; rw [u4, u5]; exact Nat.le_refl _) rfl rfl rfl⟩
/-- two fresh labels change places -/
theorem Y2.swp {a b n0 : Nat} (h : Y2 nt N P hp H O K u sb C o V lm lv ct x g) (x0 : x.1 0 29 = 0) (ha : n0 ≤ a) (ha2 : a < g_nl g) (hb : n0 ≤ b) (hb2 : b < g_nl g) (la : g_lat g a = none) (lb_ : g_lat g b = none) (ga : g_goes g a = false) (gb : g_goes g b = false) (hF : ∀ q, q ∈ w_fxs (p_w P) w_z (g_it g) → q.2.2.1 < n0) (ca : ct a = false) (cb : ct b = false)
    (hcl : ∀ s, s ∈ H ++ V → w_cl n0 s.2.2) : Y2 nt N P hp H O K u sb C o V (fun l => lm (w_swp a b l)) (fun l => lv (w_swp a b l)) (fun l => ct (w_swp a b l)) x g := by
  have lo : ∀ l, l < n0 → w_swp a b l = l := fun l hl => w_swp_o (by omega) (by omega)
  have cto : ∀ l, ct l = true → w_swp a b l = l := fun l hc => w_swp_o (fun z => by rw [z, ca] at hc; cases hc) (fun z => by rw [z, cb] at hc; cases hc)
  have slat : ∀ l, g_lat g (w_swp a b l) = g_lat g l := fun l => by
    unfold w_swp
    by_cases q : l = a
    · rw [if_pos q, q, la, lb_]
    · rw [if_neg q]
      by_cases q2 : l = b
      · rw [if_pos q2, q2, la, lb_]
      · rw [if_neg q2]
  have sgo : ∀ l, g_goes g (w_swp a b l) = g_goes g l := fun l => by
    unfold w_swp
    by_cases q : l = a
    · rw [if_pos q, q, ga, gb]
    · rw [if_neg q]
      by_cases q2 : l = b
      · rw [if_pos q2, q2, ga, gb]
      · rw [if_neg q2]
  obtain ⟨h1, h2, h3, r1, r2, r3, r4, r5⟩ := h.ex x0
  obtain ⟨he, hS, hC, -⟩ := h
  refine ⟨he, hS, fun k hk => ?_, Or.inl ⟨x0, h1, ?_, ?_, r1, r2, fun k l hk => ?_, fun s hs => ?_, r5⟩⟩
  · obtain ⟨z1, z2, l, z3, z4, z5, z6⟩ := hC k hk
    have e := cto l z5
    exact ⟨z1, z2, l, z3, by show lv (w_swp a b l) = true; rw [e]; exact z4, by show ct (w_swp a b l) = true; rw [e]; exact z5, by show _ = nI (lm (w_swp a b l)); rw [e]; exact z6⟩
  · obtain ⟨fr, L, l1, l2, l3, l4, l5, l6, l7, l8, l9⟩ := h2
    exact ⟨fr, L, l1, l2, l3, l4, l5, l6, fun l hl hv => l7 _ (w_swp_lt ha2 hb2 hl) hv, fun l l' hl hl' hv hv' e => w_swp_inj (l8 _ _ (w_swp_lt ha2 hb2 hl) (w_swp_lt ha2 hb2 hl') hv hv' e), l9⟩
  · obtain ⟨o1, o2, o3, o4, o5, ⟨q1, q2, q3, q4⟩, ⟨v1, v2, v3, v4⟩, o8, o9⟩ := h3
    refine ⟨o1, o2, o3, o4, o5, ⟨q1, q2, q3, q4.mono (fun k q _ hq a => ?_)⟩, ⟨fun l hl hv => ?_, fun l hl hg => ?_, v3, v4⟩, o8, o9⟩
    · show _ ∧ _ ∧ x.1 42 k = nI (lm (w_swp _ _ q.2.2.1))
      rw [lo _ (hF q hq)]; exact a
    · have := v1 _ (w_swp_lt ha2 hb2 hl) hv
      rw [slat, sgo] at this; exact this
    · show lv (w_swp a b l) = true
      rw [w_swp_o (fun z => by rw [z, ga] at hg; cases hg) (fun z => by rw [z, gb] at hg; cases hg)]; exact v2 l hl hg
  · obtain ⟨p0, p1, p2, p3, p4⟩ := r3 k l hk
    have e := cto l p3
    exact ⟨p0, p1, by show lv (w_swp a b l) = true; rw [e]; exact p2, by show ct (w_swp a b l) = true; rw [e]; exact p3, by show _ = nI (lm (w_swp a b l)); rw [e]; exact p4⟩
  · obtain ⟨c1, c2, c3⟩ := r4 s hs
    obtain ⟨d1, d2⟩ := hcl s hs
    refine ⟨fun q => ?_, fun q => ?_, c3⟩
    · obtain ⟨z1, z2, z3⟩ := c1 q
      have e := lo _ (d1 q)
      exact ⟨z1, by show lv (w_swp a b _) = true; rw [e]; exact z2, by show _ = nI (lm (w_swp a b _)); rw [e]; exact z3⟩
    · obtain ⟨z1, z2, z3⟩ := c2 q
      have e := lo _ (d2 q)
      exact ⟨z1, by show lv (w_swp a b _) = true; rw [e]; exact z2, by show _ = nI (lm (w_swp a b _)); rw [e]; exact z3⟩
/-- a new label -/
theorem Y2.lb {d : Nat} (hd : 1 ≤ d) {F : wF} (h : Y2 nt N P hp H O K u sb C none V lm lv ct x g) (h0 : x.1 0 29 = 0) (hok : g_ok (w_lb F g)) : ∃ i lm' lv' ct' x', kX0 d 64 [.ref 0] x = some (some (.int (nI i)), x') ∧ Y2 nt N P hp H O K u sb C none V lm' lv' ct' x' (w_lb F g) ∧ (lm' (g_nl g) = i ∧ lv' (g_nl g) = true ∧ ct' (g_nl g) = false) ∧ (∀ l, l < g_nl g → lm' l = lm l ∧ lv' l = lv l ∧ ct' l = ct l) ∧ x'.1 0 29 = 0 ∧ yfr (yw (p_pf P) (p_lf P)) (p_pf P) x x' ∧ yT x g x' (w_lb F g) := by
  obtain ⟨i, x1, e1, q1, f1, z1, t1⟩ := c_lb hd (h.vx (b := 45500) h0 (by omega) (by omega)) h0 hok
  have f1 : yfr (yw (p_pf P) (p_lf P)) (p_pf P) x x1 := f1
  have hm : wM g (w_lb F g) := (wM.rf g).lb F
  have hlab : ∀ l, l < g_nl g → (fun l => if l = g_nl g then i else lm l) l = lm l ∧ (fun l => if l = g_nl g then true else lv l) l = lv l := fun l hl => ⟨if_neg (by omega), if_neg (by omega)⟩
  have q2 := h.ofv (D := fun _ => False) hm ⟨rfl, rfl, rfl, rfl, rfl, rfl⟩ f1 (fun l hl _ => hlab l hl) (fun _ q => q.elim) (fun _ _ _ => ⟨fun _ q => q, fun _ q => q⟩) (Or.inl ⟨h0, q1, by omega⟩)
  exact ⟨i, _, _, _, x1, e1, q2, ⟨if_pos rfl, if_pos rfl, if_neg (Nat.lt_irrefl _)⟩, fun l hl => ⟨(hlab l hl).1, (hlab l hl).2, if_pos hl⟩, z1, f1, t1⟩
theorem w_lb_lat (F : wF) (g : wG) (l : Nat) : g_lat (w_lb F g) l = (if l = g_nl g then none else g_lat g l) := rfl
theorem w_lb_goes (F : wF) (g : wG) (l : Nat) : g_goes (w_lb F g) l = (if l = g_nl g then false else g_goes g l) := rfl
theorem w_lb_nl (F : wF) (g : wG) : g_nl (w_lb F g) = g_nl g + 1 := rfl
theorem w_lb_it (F : wF) (g : wG) : g_it (w_lb F g) = g_it g := rfl
end
