/-! CodeWriter: statements: locks -/
/-- what values write, and places -/
def ylk (pf lf k j : Nat) : Bool := yw pf lf k j || (match k with
  | 0 => [32, 33].elem j
  | _ => false)
theorem ylk_of {pf lf : Nat} {x y : mj_X} (f : yfr (yw pf lf) pf x y) : yfr (ylk pf lf) pf x y := f.mono (fun k j h => (Bool.or_eq_false_iff.mp h).1)
theorem ylk_w {P : yP} {K : Nat} {x y : mj_X} (f : yfr (ylk (p_pf P) (p_lf P)) (p_pf P) x y) : yfr (yw2 P K) (p_pf P) x y := f.mono (fun k j h => by
  unfold yw2 at h
  obtain ⟨h1, h2⟩ := Bool.or_eq_false_iff.mp h
  refine Bool.or_eq_false_iff.mpr ⟨h1, ?_⟩
  split
  · simp at h2 ⊢; omega
  · rfl)
theorem w_put_nx (l n : Nat) (g : wG) : w_put l (s_nx n g) = s_nx n (w_put l g) := by
  unfold w_put
  have e1 : g_al (s_nx n g) = g_al g := rfl
  have e2 : g_goes (s_nx n g) l = g_goes g l := rfl
  simp only [e1, e2]
  cases g_al g <;> cases g_goes g l <;> rfl
theorem w_sl_nx (b : Bool) (l n : Nat) (g : wG) : w_sl b l (s_nx n g) = s_nx n (w_sl b l g) := by
  unfold w_sl
  have e2 : g_goes (s_nx n g) l = g_goes g l := rfl
  rw [e2]
  cases g_goes g l <;> rfl
/-- other places -/
def s_ct (nx mx : Nat) (g : wG) : wG := (g.1, g.2.1, g.2.2.1, g.2.2.2.1, (nx, mx, g_ms g, g_ac g), g.2.2.2.2.2)
section
variable {nt : sp_NT} {N M : Nat} {P : yP} {X : List (Nat × Bool)} {b hp : Nat} {H V : List wSl} {O : List (Int32 × List (Nat × Nat))} {K u sb : Nat} {C : Nat → Prop} {o : Option Int32} {lm lm' lm1 : Nat → Nat} {lv lv' lv1 ct ct' : Nat → Bool} {x y x1 : mj_X} {g G : wG} {res par : Nat → Int32} {f : Nat} {n : Int32}
theorem Y1.num (a : Y1 nt N P X b lm lv x g) (f : yfr yo4 (p_pf P) x y) (h2 : y.2 = x.2) (s : ySame g G) (hpl : g_pl G = g_pl g) (hph : w_ph G = w_ph g) : Y1 nt N P X b lm lv y G := by
  have e0 := yV0.of f yvo4 h2
  have e := f.1
  have s' := s
  obtain ⟨w1, w2, w3, w4, w5, w6, w7, w8, w9, w10⟩ := s
  refine ⟨yE.pl ((a.1.any).fr2 (K := 0) (yo4_w f)) (fun v p hv hp => by
    rw [hpl] at hp
    rw [e 35 _ rfl]; exact a.1.2.2.2.2.2.2.2.2.2 v p hv hp), a.2.1, a.2.2.1, ?_⟩
  rw [e 0 29 rfl, w4, w7]
  rcases a.2.2.2 with ⟨h0, hL, h1⟩ | ⟨hM, hL, ho⟩
  · exact Or.inl ⟨h0, hL.v0 e0, (h1.v0 e0).same s'⟩
  · exact Or.inr ⟨hM.v0 e0, hL.v0 e0, ho.of w1 w3 w9 (by rw [hph]; exact Nat.le_refl _) rfl rfl rfl⟩
/-- a label that S does not know yet -/
theorem c_lbX {d : Nat} (hd : 1 ≤ d) (a : Y1 nt N P X b lm lv x g) (h29 : x.1 0 29 = 0) (hb1 : 45000 + (X.length + 1) ≤ b) : ∃ i x', kX0 d 64 [.ref 0] x = some (some (.int (nI i)), x') ∧ Y1 nt N P ((i, true) :: X) b lm lv x' g ∧ yfr (yw (p_pf P) (p_lf P)) (p_pf P) x x' ∧ x'.1 0 29 = 0 ∧ yT x g x' g := by
  obtain ⟨hL, o1, o2, o3, o4, ⟨b1, b2, b3, b4⟩, o6, ⟨v1, v2, v3, v4⟩, o8_, o9⟩ := a.ex h29
  have hb := a.2.1
  have hb2 := a.2.2.1
  obtain ⟨i, x', e, hL', f, f2, h36, h37, hj⟩ := e_label hd hL (by omega)
  have ef := f.1
  have fy := yz_yw (pf := p_pf P) (lf := p_lf P) f f2
  have him : ∀ l, l < g_nl g → lv l = true → lm l ≠ i := by
    obtain ⟨fr, L, l1, l2, l3, l4, l5, l6, l7, l8, l9⟩ := hL'
    exact fun l hl hv z => (l7 l hl hv).2 (by rw [z]; exact List.mem_append.mpr (Or.inr (List.mem_cons_self ..)))
  have hiX : ∀ p, p ∈ X → p.1 ≠ i := by
    obtain ⟨fr, L, l1, l2, l3, l4, l5, l6, l7, l8, l9⟩ := hL'
    have := (List.nodup_cons.mp (List.nodup_append.mp l4).2.1).1
    exact fun p hp z => this (by show i ∈ X.map Prod.fst; rw [← z]; exact List.mem_map_of_mem hp)
  refine ⟨i, x', e, ⟨a.1.fr fy, by simpa using hb1, hb2, Or.inl ⟨(ef 0 29 rfl).trans h29, ?_, ?_⟩⟩, fy, (ef 0 29 rfl).trans h29, yT.rf rfl (ef 0 48 rfl) (ef 0 47 rfl)⟩
  · show yL ((i, true) :: X) (g_nl g) lm lv x' (g_us g + (X.length + 1))
    rw [← Nat.add_assoc]; exact hL'
  · have E : ∀ k, k ≠ 0 → k ≠ 36 → k ≠ 37 → x'.1 k = x.1 k := fun k h1 h2 h3 => funext fun j => ef k j (by unfold yz; split; exact absurd rfl h1; exact absurd rfl h2; exact absurd rfl h3; rfl)
    refine ⟨o1, o2, (ef 0 30 rfl).trans o3, (ef 0 31 rfl).trans o4, ⟨(ef 0 28 rfl).trans b1, b2, b3, by rw [E 28 (by decide) (by decide) (by decide)]; exact b4⟩, ?_, ⟨fun l hl hv => ?_, v2, v3, fun p hp hf => ?_⟩, ?_, ?_⟩
    · obtain ⟨p1, p2, p3, p4⟩ := o6
      refine ⟨(ef 0 42 rfl).trans p1, p2, p3, ?_⟩
      rw [E 40 (by decide) (by decide) (by decide), E 41 (by decide) (by decide) (by decide), E 42 (by decide) (by decide) (by decide)]
      exact p4
    · have hj' := hj (lm l) (him l hl hv)
      rw [hj'.1, hj'.2]; exact v1 l hl hv
    · rcases List.mem_cons.mp hp with rfl | hp
      · exact h36
      · rw [(hj p.1 (hiX p hp)).1]; exact v4 p hp hf
    · obtain ⟨p1, p2, p3, p4⟩ := o8_
      exact ⟨(ef 0 43 rfl).trans p1, (ef 0 44 rfl).trans p2, p3, y_po.same (E 18 (by decide) (by decide) (by decide)) (E 19 (by decide) (by decide) (by decide)) f2 _ p4⟩
    · unfold yN at *
      rw [ef 0 46 rfl, ef 0 47 rfl, ef 0 48 rfl, E 24 (by decide) (by decide) (by decide)]; exact o9
/-- S knows it now -/
theorem Y1.adopt {i : Nat} {F : wF} (a : Y1 nt N P ((i, true) :: X) b lm lv x g) (hok : g_ok (w_lb F g)) : Y1 nt N P X b (fun l => if l = g_nl g then i else lm l) (fun l => if l = g_nl g then true else lv l) x (w_lb F g) := by
  have hb := a.2.1
  simp only [List.length_cons] at hb
  refine ⟨a.1, by omega, a.2.2.1, ?_⟩
  rcases a.2.2.2 with ⟨h29, hL, o1, o2, o3, o4, ⟨b1, b2, b3, b4⟩, o6, ⟨v1, v2, v3, v4⟩, o8_, o9⟩ | ⟨hM, hL, ho⟩
  · have hus : g_us g < 45000 := ((hok.2).2 (Nat.le_trans (w_by_nw w_z w_z (p_w P) (g_it g)) b2)).1
    have h36 : x.1 36 i = -1 := v4 (i, true) (List.mem_cons_self ..) rfl
    have h37 : x.1 37 i = 0 := by
      obtain ⟨fr, L, l1, l2, l3, l4, l5, l6, l7, l8, l9⟩ := hL
      exact l9 (i, true) (List.mem_cons_self ..)
    refine Or.inl ⟨h29, ?_, o1, hus, o3, o4, ⟨b1, b2, b3, b4⟩, ?_, ⟨fun l hl hv => ?_, fun l hl hg => ?_, fun l j hl hj' => ?_, fun p hp hf => v4 p (List.mem_cons_of_mem _ hp) hf⟩, o8_, o9⟩
    · have := hL.adopt
      show yL X (g_nl g + 1) _ _ x (g_us g + 1 + X.length)
      rw [show g_us g + 1 + X.length = g_us g + ((i, true) :: X).length by simp only [List.length_cons]; omega]; exact this
    · obtain ⟨p1, p2, p3, p4⟩ := o6
      refine ⟨p1, p2, fun q hq => Nat.lt_succ_of_lt (p3 q hq), p4.mono (fun k q _ hq hh => ?_)⟩
      have := p3 q hq
      show _ ∧ _ ∧ _ = nI (if q.2.2.1 = g_nl g then i else lm q.2.2.1)
      rw [if_neg (by omega)]; exact hh
    · have hl : l < g_nl g + 1 := hl
      have hv : (if l = g_nl g then true else lv l) = true := hv
      show x.1 36 (if l = g_nl g then i else lm l) = z_lo (p_w P) (g_it g) (if l = g_nl g then none else g_lat g l) ∧ x.1 37 (if l = g_nl g then i else lm l) = sp_b (if l = g_nl g then false else g_goes g l)
      by_cases q : l = g_nl g
      · rw [if_pos q, if_pos q, if_pos q]; exact ⟨h36, h37⟩
      · rw [if_neg q] at hv
        rw [if_neg q, if_neg q, if_neg q]; exact v1 l (by omega) hv
    · have hl : l < g_nl g + 1 := hl
      have hg : (if l = g_nl g then false else g_goes g l) = true := hg
      show (if l = g_nl g then true else lv l) = true
      by_cases q : l = g_nl g
      · rw [if_pos q]
      · rw [if_neg q] at hg ⊢; exact v2 l (by omega) hg
    · have hl : l < g_nl g + 1 := hl
      have hj' : (if l = g_nl g then none else g_lat g l) = some j := hj'
      by_cases q : l = g_nl g
      · rw [if_pos q] at hj'; cases hj'
      · rw [if_neg q] at hj'; exact v3 l j (by omega) hj'
  · refine Or.inr ⟨hM, ?_, ho.mono ((wM.rf g).lb F)⟩
    exact hL.adopt
/-- a whole stretch of values and places, lifted to statements -/
theorem Y2.lift {nl : Nat} (h : Y2 nt N P hp H O K u sb C none V lm lv ct x g) (h0 : x.1 0 29 = 0) (q : Y1 nt N (pH P hp) [] b lm1 lv1 x1 G) (hb : b ≤ 49600) (hm : wM g G) (hac : g_ac G = g_ac g) (hrg : g_rg G = g_rg g) (hcx : g_cx G = g_cx g) (hpl : g_pl G = g_pl g) (hnl : nl = g_nl g) (f : yfr (ylk (p_pf P) (p_lf P)) (p_pf P) x x1) (hl : ∀ l, l < g_nl g → lm1 l = lm l ∧ lv1 l = lv l) (hN : x1.1 0 29 = 0 → yNn x1 G) :
    Y2 nt N P hp H O K u sb C none V lm1 lv1 (fun l => if l < nl then ct l else false) x1 G := by
  subst hnl
  obtain ⟨z, hz⟩ : ∃ z, z = mj_wI (mj_wI x1 0 32 (x.1 0 32)) 0 33 (x.1 0 33) := ⟨_, rfl⟩
  have fz : yfr yo4 (p_pf (pH P hp)) x1 z := by rw [hz]; exact ((yfr.rf _ _ x1).w _ rfl).w _ rfl
  have z2 : z.2 = x1.2 := by rw [hz]; rfl
  have qz : Y1 nt N (pH P hp) [] b lm1 lv1 z (s_ct (g_nx g) (g_mx g) G) := q.num fz z2 ⟨rfl, rfl, rfl, rfl, rfl, rfl, rfl, rfl, rfl, rfl⟩ rfl rfl
  have fzx : yfr (yw (p_pf P) (p_lf P)) (p_pf P) x z := by
    refine ⟨fun k j hk => ?_, fun k j hk => by rw [z2]; exact f.2 k j hk⟩
    rw [hz, mj_wI_1]
    by_cases k0 : k = 0
    · subst k0
      rw [if_pos rfl]
      by_cases j33 : j = 33
      · rw [if_pos j33, j33]
      · rw [if_neg j33, mj_wI_1, if_pos rfl]
        by_cases j32 : j = 32
        · rw [if_pos j32, j32]
        · rw [if_neg j32]
          exact f.1 0 j (Bool.or_eq_false_iff.mpr ⟨hk, by simp; omega⟩)
    · rw [if_neg k0, mj_wI_1, if_neg k0]
      refine f.1 k j (Bool.or_eq_false_iff.mpr ⟨hk, ?_⟩)
      split
      · exact absurd rfl k0
      · rfl
  have hm' : wM g (s_ct (g_nx g) (g_mx g) G) := hm
  have r := h.ofv (D := fun _ => False) hm' ⟨rfl, rfl, hac, hrg, hcx, hpl⟩ fzx (fun l hl' _ => hl l hl') (fun _ q => q.elim) (fun _ _ _ => ⟨fun _ q => q, fun _ q => q⟩) (Or.inl ⟨h0, qz, hb⟩)
  have fb : yfr yo4 (p_pf P) z x1 := ⟨fun k j hk => (fz.1 k j hk).symm, fun k j hk => (fz.2 k j hk).symm⟩
  obtain ⟨t, a, s1, s2, s3, s4⟩ := r.ser.1
  exact r.num (G := G) fb z2.symm ((by rw [hz]; rfl : x1.1 0 61 = z.1 0 61).trans r.2.1.2.2.2.2.1) r.2.1.2.2.1 r.2.1.2.2.2.1 ⟨t, a, ((by rw [hz]; rfl : x1.1 0 66 = z.1 0 66)).trans s1, ((by rw [hz]; rfl : x1.1 0 60 = z.1 0 60)).trans s2, s3, s4⟩ r.ser.2 ⟨rfl, rfl, rfl, rfl, rfl, rfl, rfl, rfl, rfl, rfl⟩ rfl rfl rfl (fun w => hN (by rw [hz] at w; exact w))
end
