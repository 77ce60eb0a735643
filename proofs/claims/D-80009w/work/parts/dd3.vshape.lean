/-! steps behind steps -/
theorem wP.n {n : Nat} {s : List Nat} {g h : wG} (a : wP n s g h) (hn : n ≤ g_nl g) : n ≤ g_nl h := Nat.le_trans hn a.1.2.2.1
theorem wP.em {n : Nat} {s : List Nat} {g h : wG} (a : wP n s g h) (i : wI) (off : Nat) (on : List Nat) : wP n (on ++ s.drop off) g (w_em i off on h) := a.tr ((wP_em a.2.1).cg (by rw [a.2.2.2]))
theorem wP.pe {n : Nat} {s : List Nat} {g h : wG} (a : wP n s g h) (tag k : Nat) (v : Int64) (off : Nat) (on : List Nat) : wP n (on ++ s.drop off) g (w_pe tag k v off on h) := a.tr ((wP_pe a.2.1).cg (by rw [a.2.2.2]))
theorem wP.ld {n : Nat} {s : List Nat} {g h : wG} (a : wP n s g h) (t p : Nat) (on : List Nat) : wP n (on ++ s) g (w_ld t p on h) := a.tr ((wP_ld a.2.1).cg (by rw [a.2.2.2]))
theorem wP.st {n t : Nat} {r : List Nat} {g h : wG} (a : wP n (w_tl t ++ r) g h) (p : Nat) : wP n r g (w_st t p h) := a.tr (wP_st a.2.1 a.2.2.2)
theorem wP.dup {n t : Nat} {r : List Nat} {g h : wG} (a : wP n (w_tl t ++ r) g h) (ht : 0 < t) : wP n (w_tl t ++ (w_tl t ++ r)) g (w_dup t h) := a.tr (wP_dup ht a.2.1 a.2.2.2)
theorem wP.du {n t x y : Nat} {r : List Nat} {g h : wG} (a : wP n (w_tl t ++ x :: y :: r) g h) (ht : 0 < t) : wP n (w_tl t ++ x :: y :: (w_tl t ++ r)) g (w_du t h) := a.tr (wP_du ht a.2.1 a.2.2.2)
theorem wP.d2 {n x y : Nat} {r : List Nat} {g h : wG} (a : wP n (x :: y :: r) g h) : wP n (x :: y :: x :: y :: r) g (w_d2 h) := a.tr (wP_d2 a.2.1 a.2.2.2)
theorem wP.eld {n x y : Nat} {r : List Nat} {g h : wG} (a : wP n (x :: y :: r) g h) (c : Nat) : wP n (w_tl (w_el c) ++ r) g (w_eld c h) := a.tr (wP_eld a.2.1 a.2.2.2)
theorem wP.est {n c x y : Nat} {r : List Nat} {g h : wG} (a : wP n (w_tl (w_el c) ++ x :: y :: r) g h) : wP n r g (w_est c h) := a.tr (wP_est a.2.1 a.2.2.2)
theorem wP.bin {n k t : Nat} {r u : List Nat} {g h : wG} (a : wP n (u ++ (w_tl t ++ r)) g h) (hu : u.length = bif Nat.ble 18 k then 1 else (w_tl t).length) : wP n (w_tl t ++ r) g (w_bin k t h) := a.tr (wP_bin a.2.1 a.2.2.2 hu)
theorem wP.cut1 {n : Nat} {r : List Nat} {g h : wG} (a : wP n (1 :: r) g h) (c : Bool) : wP n (1 :: r) g (w_cut c h) := a.tr (wP_cut a.2.1 a.2.2.2)
theorem wP.cut {n c : Nat} {r : List Nat} {g h : wG} (a : wP n (w_tl (w_el c) ++ r) g h) : wP n (w_tl (w_el c) ++ r) g (w_cut (Nat.beq c 5) h) := by
  by_cases e : c = 5
  · subst e; exact a.cut1 _
  · have : Nat.beq c 5 = false := by apply Bool.eq_false_iff.mpr; intro q; exact e (Nat.eq_of_beq_eq_true q)
    rw [this]; exact a
theorem wP.inc {n : Nat} {s : List Nat} {g h : wG} (a : wP n s g h) (p : Nat) (v : Int64) : wP n s g (w_inc p v h) := a.tr ((wP_inc a.2.1).cg a.2.2.2)
theorem wP.one {n : Nat} {s : List Nat} {g h : wG} (a : wP n s g h) (t : Nat) : wP n (w_tl t ++ s) g (w_one t h) := a.tr ((wP_one a.2.1).cg (by rw [a.2.2.2]))
theorem wP.k {n : Nat} {s : List Nat} {g h : wG} (a : wP n s g h) (t : Nat) (v : Int64) : wP n (w_tl t ++ s) g (w_k t v h) := a.tr ((wP_k a.2.1).cg (by rw [a.2.2.2]))
theorem wP.cast {n f : Nat} {r : List Nat} {g h : wG} (a : wP n (w_tl f ++ r) g h) (t : Nat) : wP n (w_tl (if 4 < t then 1 else t) ++ r) g (w_cast f t h) := a.tr (wP_cast a.2.1 a.2.2.2)
/-! conditions -/
def wCd (n l : Nat) (g h : wG) : Prop := wX n [l] g h ∧ g_ov h = false ∧ ((g_al h = true ∧ g_L h = g_L g ∧ g_st h = g_st g) ∨ (g_al h = false ∧ g_goes h l = true))
theorem wX_lb {n : Nat} {F : wF} {g : wG} (hn : n ≤ g_nl g) : wX n [] g (w_lb F g) := by
  refine ⟨⟨rfl, rfl, rfl, rfl, rfl, rfl, rfl⟩, ⟨[], rfl⟩, Nat.le_succ _, fun l hl => ?_, Or.inl rfl, Nat.le_refl _, Nat.le_refl _, ⟨[], rfl⟩⟩
  have : l ≠ g_nl g := by omega
  refine ⟨if_neg this, if_neg this, fun _ => if_neg this, fun q => ?_⟩
  show (if l = g_nl g then false else g_goes g l) = true
  rw [if_neg this]; exact q
theorem wX_put {n m : Nat} {g : wG} (hm : n ≤ m) : wX n [] g (w_put m g) := by
  have key : ∀ l, l < n → (if l = m then some (g_it g).length else g_lat g l) = g_lat g l := fun l hl => if_neg (by omega)
  unfold w_put
  cases g_al g
  · simp only [cond_false]
    cases g_goes g m
    · exact ⟨⟨rfl, rfl, rfl, rfl, rfl, rfl, rfl⟩, ⟨[], rfl⟩, Nat.le_refl _, fun l hl => ⟨key l hl, rfl, fun _ => rfl, fun q => q⟩, Or.inl rfl, Nat.le_refl _, Nat.le_refl _, ⟨[], rfl⟩⟩
    · exact ⟨⟨rfl, rfl, rfl, rfl, rfl, rfl, rfl⟩, ⟨[], rfl⟩, Nat.le_refl _, fun l hl => ⟨key l hl, rfl, fun _ => rfl, fun q => q⟩, Or.inl rfl, Nat.le_refl _, Nat.le_refl _, ⟨[], rfl⟩⟩
  · exact ⟨⟨rfl, rfl, rfl, rfl, rfl, rfl, rfl⟩, ⟨[], rfl⟩, Nat.le_refl _, fun l hl => ⟨key l hl, rfl, fun _ => rfl, fun q => q⟩, Or.inl rfl, Nat.le_refl _, Nat.le_refl _, ⟨[], rfl⟩⟩
theorem w_sl_f (b : Bool) (m : Nat) (g : wG) : g_it (w_sl b m g) = g_it g ∧ g_al (w_sl b m g) = g_al g ∧ g_ov (w_sl b m g) = g_ov g ∧ g_L (w_sl b m g) = g_L g ∧ g_st (w_sl b m g) = g_st g ∧ g_goes (w_sl b m g) = g_goes g ∧ g_lF (w_sl b m g) = g_lF g ∧ g_nl (w_sl b m g) = g_nl g ∧ w_q (w_sl b m g) = w_q g ∧ (∀ n tg, wX n tg g (w_sl b m g)) := by
  unfold w_sl
  cases g_goes g m
  · exact ⟨rfl, rfl, rfl, rfl, rfl, rfl, rfl, rfl, rfl, fun n tg => ⟨⟨rfl, rfl, rfl, rfl, rfl, rfl, rfl⟩, ⟨[], rfl⟩, Nat.le_refl _, fun l hl => ⟨rfl, rfl, fun _ => rfl, fun q => q⟩, Or.inl rfl, Nat.le_refl _, Nat.le_refl _, ⟨[], rfl⟩⟩⟩
  · exact ⟨rfl, rfl, rfl, rfl, rfl, rfl, rfl, rfl, rfl, fun n tg => wX.rf _ _ _⟩
theorem wP.sl {n : Nat} {s : List Nat} {g h : wG} (a : wP n s g h) (b : Bool) (m : Nat) : wP n s g (w_sl b m h) := by
  obtain ⟨-, -, -, f4, f5, -, -, -, f9, f10⟩ := w_sl_f b m h
  exact ⟨a.1.tr (f10 n []) (fun _ q => q) (fun l q => by simp at q), by rw [f9]; exact a.2.1, by rw [f4]; exact a.2.2.1, by rw [f5]; exact a.2.2.2⟩
theorem w_put_lb (m : Nat) (g : wG) : g_goes (w_put m g) = g_goes g ∧ g_lF (w_put m g) = g_lF g ∧ g_nl (w_put m g) = g_nl g ∧ g_ov (w_put m g) = g_ov g := by
  unfold w_put
  cases g_al g
  · simp only [cond_false]
    cases g_goes g m <;> exact ⟨rfl, rfl, rfl, rfl⟩
  · exact ⟨rfl, rfl, rfl, rfl⟩
theorem w_put_al {m : Nat} {g : wG} (h : g_al g = true) : g_al (w_put m g) = true ∧ (g_L (w_put m g), g_st (w_put m g)) = g_lF g m := by
  unfold w_put
  rw [h]
  exact ⟨h, rfl⟩
theorem w_put_re {m : Nat} {g : wG} (h : g_al g = false) (h1 : g_goes g m = true) : g_al (w_put m g) = true ∧ (g_L (w_put m g), g_st (w_put m g)) = g_lF g m := by
  unfold w_put
  rw [h, h1]
  exact ⟨rfl, rfl⟩
theorem w_put_no {m : Nat} {g : wG} (h : g_al g = false) (h1 : g_goes g m = false) : g_al (w_put m g) = false := by
  unfold w_put
  rw [h, h1]
  exact h
theorem w_go_q {l : Nat} {g : wG} (hq : w_q g = true) : w_go l g = g := by unfold w_go; rw [hq]; rfl
theorem w_go_f {l : Nat} {g : wG} (hq : w_q g = false) : g_al (w_go l g) = false ∧ g_ov (w_go l g) = false ∧ (g_goes (w_go l g) = fun k => if k = l then true else g_goes g k) ∧ g_lF (w_go l g) = g_lF g ∧ g_lat (w_go l g) = g_lat g ∧ g_nl (w_go l g) = g_nl g := by
  have ho := ((w_q_iff g).mp hq).2
  unfold w_go w_em w_es
  rw [hq]
  exact ⟨rfl, ho, rfl, rfl, rfl, rfl⟩
theorem wX_come {n l : Nat} {tg : List Nat} {g : wG} (hl : n ≤ l ∨ l ∈ tg) : wX n tg g (w_come l g) := by
  refine ⟨⟨rfl, rfl, rfl, rfl, rfl, rfl, rfl⟩, ⟨[], rfl⟩, Nat.le_refl _, fun k hk => ⟨rfl, rfl, fun hn => if_neg (fun q => ?_), fun q => ?_⟩, Or.inl rfl, Nat.le_refl _, Nat.le_refl _, ⟨[], rfl⟩⟩
  · subst q; rcases hl with hl | hl
    · omega
    · exact hn hl
  · show (if k = l then true else g_goes g k) = true
    by_cases e : k = l
    · rw [if_pos e]
    · rw [if_neg e]; exact q
theorem wX_al {n : Nat} {tg : List Nat} {b : Bool} {g : wG} : wX n tg g (s_al b g) := ⟨⟨rfl, rfl, rfl, rfl, rfl, rfl, rfl⟩, ⟨[], rfl⟩, Nat.le_refl _, fun l _ => ⟨rfl, rfl, fun _ => rfl, fun q => q⟩, Or.inl rfl, Nat.le_refl _, Nat.le_refl _, ⟨[], rfl⟩⟩
theorem wX_em {n : Nat} {i : wI} {off : Nat} {on : List Nat} {g : wG} : wX n [] g (w_em i off on g) := by
  unfold w_em
  cases w_q g
  · exact wX_es
  · exact wX.rf _ _ _
theorem wX.t0 {n : Nat} {g h k : wG} (a : wX n [] g h) (b : wX n [] h k) : wX n [] g k := a.tr b (fun _ q => q) (fun l q => by simp at q)
theorem wX.t1 {n : Nat} {tg : List Nat} {g h k : wG} (a : wX n [] g h) (b : wX n tg h k) : wX n tg g k := a.tr b (fun l q => by simp at q) (fun l q _ => q)
theorem wX.t2 {n : Nat} {tg : List Nat} {g h k : wG} (a : wX n tg g h) (b : wX n tg h k) : wX n tg g k := a.tr b (fun _ q => q) (fun l q _ => q)
theorem wX_go {n l : Nat} {tg : List Nat} {g : wG} (hl : n ≤ l ∨ l ∈ tg) : wX n tg g (w_go l g) := by
  unfold w_go
  cases hq : w_q g
  · exact (wX_em.t1 (wX_come hl)).t2 wX_al
  · exact wX.rf _ _ _
theorem wCd_go {n l : Nat} {g : wG} (hq : w_q g = false) : wCd n l g (w_go l g) := by
  obtain ⟨h1, h2, h3, -⟩ := w_go_f (l := l) hq
  exact ⟨wX_go (Or.inr (List.mem_singleton.mpr rfl)), h2, Or.inr ⟨h1, by rw [h3]; exact if_pos rfl⟩⟩
theorem wCd_br {n l op : Nat} {s u : List Nat} {g h : wG} (a : wP n s g h) (e : s = u ++ g_st g) : wCd n l g (w_br op u.length l h) := by
  have b := a.em (21, op, 0, 0, [(0, l)]) u.length []
  have ho := (w_q_iff _).mp b.2.1
  unfold w_br
  rw [a.2.1]
  refine ⟨b.1.t1 (wX_come (Or.inr (List.mem_singleton.mpr rfl))), ho.2, Or.inl ⟨ho.1, b.2.2.1, ?_⟩⟩
  show g_st (w_em (21, op, 0, 0, [(0, l)]) u.length [] h) = _
  rw [b.2.2.2, e, List.drop_left]; rfl
/-- one way or the other -/
theorem wP_dia0 {n l : Nat} {g g1 g2 : wG} {ty : List Nat} {X1 X2 : wG → wG} (hln : n ≤ l) (hX : wX n [] g g1) (hn1 : g_nl g1 = l + 2) (k1 : g_goes g1 l = false) (k2 : g_lF g1 l = (g_L g, g_st g)) (k3 : g_lF g1 (l + 1) = (g_L g, ty ++ g_st g)) (k4 : g_st g1 = g_st g)
    (hc : wCd (l + 2) l g1 g2)
    (q1 : ∀ k, w_q k = true → X1 k = k) (p1 : ∀ k, w_q k = false → l + 2 ≤ g_nl k → wP (l + 2) (ty ++ g_st k) k (X1 k))
    (q2 : ∀ k, w_q k = true → X2 k = k) (p2 : ∀ k, w_q k = false → l + 2 ≤ g_nl k → wP (l + 2) (ty ++ g_st k) k (X2 k)) :
    wP n (ty ++ g_st g) g (w_sl false (l + 1) (w_put (l + 1) (X2 (w_sl false l (w_put l (w_go (l + 1) (X1 g2))))))) := by
  obtain ⟨cX, cov, cc⟩ := hc
  have nl2 : l + 2 ≤ g_nl g2 := by have := cX.2.2.1; omega
  have L2 : ∀ k, k < l + 2 → g_lF g2 k = g_lF g1 k := fun k hk => (cX.2.2.2.1 k hk).2.1
  have X02 : wX n [] g g2 := hX.tr (cX.low (by omega)) (fun _ q => q) (fun k q hk => by have := List.mem_singleton.mp q; omega)
  -- behind the last label
  have fin : ∀ g6, wX n [] g g6 → g_ov g6 = false → g_lF g6 (l + 1) = (g_L g, ty ++ g_st g) → (g_al g6 = true ∨ (g_al g6 = false ∧ g_goes g6 (l + 1) = true)) → wP n (ty ++ g_st g) g (w_sl false (l + 1) (w_put (l + 1) g6)) := by
    intro g6 hX6 ho hlF hh
    obtain ⟨-, -, -, w4⟩ := w_put_lb (l + 1) g6
    have v : g_al (w_put (l + 1) g6) = true ∧ (g_L (w_put (l + 1) g6), g_st (w_put (l + 1) g6)) = g_lF g6 (l + 1) := by
      rcases hh with h1 | ⟨h1, h2⟩
      · exact w_put_al h1
      · exact w_put_re h1 h2
    rw [hlF] at v
    refine wP.sl ?_ _ _
    exact ⟨hX6.t0 (wX_put (by omega)), (w_q_iff _).mpr ⟨v.1, by rw [w4]; exact ho⟩, (Prod.mk.inj v.2).1, (Prod.mk.inj v.2).2⟩
  -- behind the first label, alive
  have mid : ∀ g5, wX n [] g g5 → g_al g5 = true → g_ov g5 = false → g_lF g5 (l + 1) = (g_L g, ty ++ g_st g) → l + 2 ≤ g_nl g5 → wP n (ty ++ g_st g) g (w_sl false (l + 1) (w_put (l + 1) (X2 (w_sl false l g5)))) := by
    intro g5 hX5 ha ho hlF hnl
    obtain ⟨-, f2, f3, -, -, -, f7, f8, -, f10⟩ := w_sl_f false l g5
    obtain ⟨eX, eq, eL, est⟩ := p2 (w_sl false l g5) ((w_q_iff _).mpr ⟨by rw [f2]; exact ha, by rw [f3]; exact ho⟩) (by rw [f8]; exact hnl)
    have eq' := (w_q_iff _).mp eq
    exact fin _ ((hX5.t0 (f10 n [])).t0 (eX.low (by omega))) eq'.2 (by rw [(eX.2.2.2.1 (l + 1) (by omega)).2.1, f7, hlF]) (Or.inl eq'.1)
  rcases cc with ⟨al2, Lg2, st2⟩ | ⟨al2, lk⟩
  · have hq2 : w_q g2 = false := (w_q_iff g2).mpr ⟨al2, cov⟩
    obtain ⟨bX, bq, bL, bst⟩ := p1 g2 hq2 nl2
    obtain ⟨d1, d2, d3, d4, d5, d6⟩ := w_go_f (l := l + 1) bq
    have X04 : wX n [] g (w_go (l + 1) (X1 g2)) := (X02.t0 (bX.low (by omega))).t0 (wX_go (Or.inl (by omega)))
    have k4m : g_goes (w_go (l + 1) (X1 g2)) (l + 1) = true := by
      rw [d3]; show (if l + 1 = l + 1 then true else _) = _
      rw [if_pos rfl]
    have L4 : ∀ k, k < l + 2 → g_lF (w_go (l + 1) (X1 g2)) k = g_lF g1 k := fun k hk => by rw [d4, (bX.2.2.2.1 k hk).2.1, L2 k hk]
    have nl4 : l + 2 ≤ g_nl (w_go (l + 1) (X1 g2)) := by rw [d6]; have := bX.2.2.1; omega
    obtain ⟨u1, u2, u3, u4⟩ := w_put_lb l (w_go (l + 1) (X1 g2))
    have X05 := X04.t0 (wX_put (m := l) hln)
    cases hg : g_goes (w_go (l + 1) (X1 g2)) l
    · have z := w_put_no (m := l) d1 hg
      have hq5 : w_q (w_put l (w_go (l + 1) (X1 g2))) = true := by unfold w_q; rw [z]; rfl
      obtain ⟨-, f2, f3, -, -, f6, f7, -, f9, f10⟩ := w_sl_f false l (w_put l (w_go (l + 1) (X1 g2)))
      rw [q2 _ (by rw [f9]; exact hq5)]
      exact fin _ (X05.t0 (f10 n [])) (by rw [f3, u4, d2]) (by rw [f7, u2, L4 _ (by omega), k3]) (Or.inr ⟨by rw [f2]; exact z, by rw [f6, u1, k4m]⟩)
    · obtain ⟨z1, z2⟩ := w_put_re (m := l) d1 hg
      exact mid _ X05 z1 (by rw [u4, d2]) (by rw [u2, L4 _ (by omega), k3]) (by rw [u3]; exact nl4)
  · have hq2 : w_q g2 = true := by unfold w_q; rw [al2]; rfl
    rw [q1 _ hq2, w_go_q hq2]
    obtain ⟨u1, u2, u3, u4⟩ := w_put_lb l g2
    obtain ⟨z1, z2⟩ := w_put_re (m := l) al2 lk
    exact mid _ (X02.t0 (wX_put hln)) z1 (by rw [u4, cov]) (by rw [u2, L2 _ (by omega), k3]) (by rw [u3]; exact nl2)
theorem wP_dia {n : Nat} {g g2 : wG} {ty : List Nat} {X1 X2 : wG → wG} (hn : n ≤ g_nl g)
    (hc : wCd (g_nl g + 2) (g_nl g) (w_lb (g_L g, ty ++ g_st g) (w_lb (g_L g, g_st g) g)) g2)
    (q1 : ∀ k, w_q k = true → X1 k = k) (p1 : ∀ k, w_q k = false → g_nl g + 2 ≤ g_nl k → wP (g_nl g + 2) (ty ++ g_st k) k (X1 k))
    (q2 : ∀ k, w_q k = true → X2 k = k) (p2 : ∀ k, w_q k = false → g_nl g + 2 ≤ g_nl k → wP (g_nl g + 2) (ty ++ g_st k) k (X2 k)) :
    wP n (ty ++ g_st g) g (w_sl false (g_nl g + 1) (w_put (g_nl g + 1) (X2 (w_sl false (g_nl g) (w_put (g_nl g) (w_go (g_nl g + 1) (X1 g2))))))) := by
  refine wP_dia0 hn ((wX_lb hn).t0 (wX_lb (show n ≤ g_nl g + 1 by omega))) rfl ?_ ?_ ?_ rfl hc q1 p1 q2 p2
  · show (if g_nl g = g_nl g + 1 then false else if g_nl g = g_nl g then false else _) = false
    rw [if_neg (by omega), if_pos rfl]
  · show (if g_nl g = g_nl g + 1 then _ else if g_nl g = g_nl g then (g_L g, g_st g) else _) = _
    rw [if_neg (by omega), if_pos rfl]
  · show (if g_nl g + 1 = g_nl g + 1 then (g_L g, ty ++ g_st g) else _) = _
    rw [if_pos rfl]
/-! the shape of values -/
def wSh (nt : sp_NT) (rec : wR) (c : Int32) : Prop :=
  (∀ g, w_q g = true → rec c 0 0 g = g ∧ ∀ l, rec c 2 l g = g ∧ rec c 3 l g = g) ∧
  ∀ g n, w_q g = false → n ≤ g_nl g → wP n (w_tl (nT nt c) ++ g_st g) g (rec c 0 0 g) ∧ wP n (g_st g) g (rec c 1 0 g) ∧ (nT nt c = 1 → ∀ l, l < g_nl g → wCd n l g (rec c 2 l g) ∧ wCd n l g (rec c 3 l g))
theorem wP.rc {nt : sp_NT} {n : Nat} {s : List Nat} {g h : wG} {rec : wR} {c : Int32} (a : wP n s g h) (hn : n ≤ g_nl g) (R : wSh nt rec c) : wP n (w_tl (nT nt c) ++ s) g (rec c 0 0 h) := a.tr (((R.2 h n a.2.1 (a.n hn)).1).cg (by rw [a.2.2.2]))
theorem w_tl_1 {t : Nat} (h : t = 1 ∨ (5 ≤ t ∧ t ≤ 8)) : w_tl t = [t] := by
  have : t = 1 ∨ t = 5 ∨ t = 6 ∨ t = 7 ∨ t = 8 := by omega
  rcases this with rfl | rfl | rfl | rfl | rfl <;> rfl
theorem w_el_r (a : Nat) : 0 < w_el a ∧ w_el a ≤ 4 := by unfold w_el; split <;> (try split) <;> omega
theorem wE.mono {nt : sp_NT} {N f f' : Nat} {n : Int32} (h : wE nt N f n) (hf : f ≤ f') : wE nt N f' n := ⟨h.1, h.2.1, Nat.le_trans h.2.2 hf⟩
section
variable {nt : sp_NT} {N M : Nat} {res par : Nat → Int32} {f : Nat} {rec : wR}
theorem wE_at' (h : wTb nt N M res par) {x : Int32} (hx : sp_nd N x = true) (hd : nD nt x ≤ f) (e : nK nt x = 8) : wE nt N f (nA nt x) ∧ wE nt N f (nB nt x) ∧ 5 ≤ nT nt (nA nt x) ∧ nT nt (nA nt x) ≤ 8 ∧ nT nt (nB nt x) = 1 ∧ nT nt x = w_el (nT nt (nA nt x)) := by
  cases f with
  | zero => have := (h.d hx).1; omega
  | succ f =>
    obtain ⟨a, b, c⟩ := wE_at h hx hd e
    exact ⟨a.mono (Nat.le_succ _), b.mono (Nat.le_succ _), c⟩
theorem wP_twice (h : wTb nt N M res par) (R : ∀ c, wE nt N f c → wSh nt rec c) {n : Nat} {g : wG} (hq : w_q g = false) (hn : n ≤ g_nl g) {x : Int32} (hx : sp_nd N x = true) (hd : nD nt x ≤ f) (e : nK nt x = 8) :
    wP n (1 :: nT nt (nA nt x) :: g_st g) g (rec (nB nt x) 0 0 (rec (nA nt x) 0 0 g)) := by
  obtain ⟨a, b, a1, a2, b1, -⟩ := wE_at' h hx hd e
  have s1 := (wP_rf (n := n) hq rfl).rc hn (R _ a)
  have s2 := s1.rc hn (R _ b)
  rw [b1, w_tl_1 (Or.inr ⟨a1, a2⟩)] at s2
  exact s2
theorem wP_pe9 (h : wTb nt N M res par) (R : ∀ c, wE nt N f c → wSh nt rec c) {n : Nat} {g : wG} (hq : w_q g = false) (hn : n ≤ g_nl g) {x e : Int32} (hx : sp_nd N x = true) (hd : nD nt x ≤ f) (hk : nK nt x = 8) (he : wE nt N f e) (ht : nT nt e = nT nt x) (want : Bool) :
    wP n ((bif want then w_tl (nT nt x) else []) ++ g_st g) g (w_pe9 nt rec x e want g) := by
  obtain ⟨a, b, a1, a2, b1, t⟩ := wE_at' h hx hd hk
  have s2 := (wP_twice h R hq hn hx hd hk).rc hn (R _ he)
  rw [ht, t] at s2
  have s3 := s2.cut
  unfold w_pe9
  rw [t]
  cases want
  · exact s3.est
  · have s4 := s3.du (w_el_r _).1
    exact (s4.est (r := w_tl (w_el (nT nt (nA nt x))) ++ g_st g))
theorem wP_opd (R : ∀ c, wE nt N f c → wSh nt rec c) {n : Nat} {g k : wG} {s : List Nat} (a : wP n s g k) (hn : n ≤ g_nl g) {e : Int32} (he : ¬ e = -1 → wE nt N f e) (t : Nat) (ht : ¬ e = -1 → nT nt e = t) : wP n (w_tl t ++ s) g (w_opd nt rec e t k) := by
  unfold w_opd
  by_cases q : e = -1
  · rw [if_pos q]; exact a.one t
  · rw [if_neg q, ← ht q]; exact a.rc hn (R _ (he q))
/-- x op= e; of none the 1 -/
theorem wP_chg (h : wTb nt N M res par) (R : ∀ c, wE nt N f c → wSh nt rec c) {n : Nat} {g : wG} (hq : w_q g = false) (hn : n ≤ g_nl g) {x e : Int32} {op : Nat} (hx : sp_nd N x = true) (hd : nD nt x ≤ f) (hk : nK nt x = 6 ∨ nK nt x = 8) (h1 : 1 ≤ nT nt x) (he : ¬ e = -1 → wE nt N f e) (ht : ¬ e = -1 → nT nt e = bif Nat.ble 18 op then 1 else nT nt x) (h18 : e = -1 → Nat.ble 18 op = false) (want : Bool) :
    wP n ((bif want then w_tl (nT nt x) else []) ++ g_st g) g (w_chg nt rec x op e want g) := by
  have opd : ∀ {s : List Nat} {k : wG}, wP n s g k → ∃ u : List Nat, u.length = (bif Nat.ble 18 op then 1 else (w_tl (nT nt x)).length) ∧ wP n (u ++ s) g (w_opd nt rec e (nT nt x) k) := by
    intro s k a
    by_cases q : e = -1
    · refine ⟨w_tl (nT nt x), by rw [h18 q]; rfl, ?_⟩
      unfold w_opd; rw [if_pos q]; exact a.one _
    · refine ⟨w_tl (nT nt e), ?_, ?_⟩
      · rw [ht q]; cases Nat.ble 18 op <;> rfl
      · unfold w_opd; rw [if_neg q]; exact a.rc hn (R _ (he q))
  unfold w_chg
  simp only
  by_cases k6 : nK nt x = 6
  · rw [if_pos k6]
    cases hI : w_isI nt op (nT nt x) e
    · simp only [cond_false]
      obtain ⟨u, hu, s1⟩ := opd (((wP_rf (n := n) hq rfl).ok _).ld (nT nt x) (w_pl g (nA nt x)) (w_tl (nT nt x)))
      have s2 := s1.bin hu
      cases want
      · exact s2.st _
      · exact (s2.dup h1).st _
    · simp only [cond_true]
      have t1 : nT nt x = 1 := by
        unfold w_isI at hI
        simp only [Bool.and_eq_true] at hI
        exact Nat.eq_of_beq_eq_true hI.1.1.1.1.1
      have s1 := ((wP_rf (n := n) hq rfl).ok (g_pl g (nA nt x).toNatClampNeg ≠ none)).inc (w_pl g (nA nt x)) (w_by nt op e)
      cases want
      · exact s1
      · have s2 := s1.ld 1 (w_pl g (nA nt x)) [1]
        rw [t1]; exact s2
  · have k8 : nK nt x = 8 := hk.resolve_left k6
    rw [if_neg k6]
    obtain ⟨a, b, a1, a2, b1, t⟩ := wE_at' h hx hd k8
    obtain ⟨u, hu, s1⟩ := opd ((wP_twice h R hq hn hx hd k8).d2.eld (nT nt (nA nt x)))
    rw [← t] at s1
    have s2 := s1.bin hu
    rw [t] at s2
    have s3 := s2.cut
    rw [t]
    cases want
    · exact s3.est
    · exact ((s3.du (w_el_r _).1).est (r := w_tl (w_el (nT nt (nA nt x))) ++ g_st g))
theorem wP_stp (h : wTb nt N M res par) (R : ∀ c, wE nt N f c → wSh nt rec c) {n : Nat} {g : wG} (hq : w_q g = false) (hn : n ≤ g_nl g) {x how : Int32} (hx : sp_nd N x = true) (hd : nD nt x ≤ f) (hk : nK nt x = 6 ∨ nK nt x = 8) (h1 : 1 ≤ nT nt x) (want : Bool) :
    wP n ((bif want then w_tl (nT nt x) else []) ++ g_st g) g (w_stp nt rec x how want g) := by
  have hop : ∀ b : Prop, [Decidable b] → Nat.ble 18 (if b then 10 else 11) = false := by
    intro b _
    by_cases q : b
    · rw [if_pos q]; rfl
    · rw [if_neg q]; rfl
  unfold w_stp
  simp only
  by_cases k6 : nK nt x = 6 ∧ nT nt x = 1
  · rw [if_pos k6, k6.2]
    cases want
    · exact ((wP_rf (n := n) hq rfl).ok (g_pl g (nA nt x).toNatClampNeg ≠ none)).inc _ _
    · cases decide (2 ≤ how)
      · exact (((wP_rf (n := n) hq rfl).ok (g_pl g (nA nt x).toNatClampNeg ≠ none)).inc _ _).ld 1 _ [1]
      · exact (((wP_rf (n := n) hq rfl).ok (g_pl g (nA nt x).toNatClampNeg ≠ none)).ld 1 _ [1]).inc _ _
  · rw [if_neg k6]
    cases hw : (!want || !decide (2 ≤ how))
    · have hw1 : want = true := by cases want <;> simp_all
      subst hw1
      simp only [cond_false]
      by_cases k7 : nK nt x = 6
      · rw [if_pos k7]
        have s1 := ((((wP_rf (n := n) hq rfl).ok (g_pl g (nA nt x).toNatClampNeg ≠ none)).ld (nT nt x) (w_pl g (nA nt x)) (w_tl (nT nt x))).dup h1).one (nT nt x)
        have s2 := s1.bin (k := if how = 0 ∨ how = 2 then 10 else 11) (by rw [hop]; rfl)
        exact s2.st _
      · have k8 : nK nt x = 8 := hk.resolve_left k7
        rw [if_neg k7]
        obtain ⟨a, b, a1, a2, b1, t⟩ := wE_at' h hx hd k8
        have s1 := (wP_twice h R hq hn hx hd k8).d2.eld (nT nt (nA nt x))
        rw [← t] at s1
        have s2 := ((s1.du h1).one (nT nt x)).bin (k := if how = 0 ∨ how = 2 then 10 else 11) (by rw [hop]; rfl)
        rw [t] at s2
        have s3 := s2.cut
        rw [← t] at s3
        rw [t] at s3 ⊢
        exact s3.est (r := w_tl (w_el (nT nt (nA nt x))) ++ g_st g)
    · simp only [cond_true]
      exact wP_chg h R hq hn hx hd hk h1 (fun q => absurd rfl q) (fun q => absurd rfl q) (fun _ => hop _) want
theorem wP_args (h : wTb nt N M res par) (R : ∀ c, wE nt N f c → wSh nt rec c) {n : Nat} {g : wG} (hn : n ≤ g_nl g) : ∀ (c : List Int32), wCh nt N f 49 c → ∀ {s : List Nat} {k : wG}, wP n s g k → ∃ u, u.length = w_sum nt c ∧ wP n (u ++ s) g (w_args nt rec c k) := by
  intro c
  induction c with
  | nil => intro _ s k a; exact ⟨[], rfl, a⟩
  | cons q r ih =>
    intro hc s k a
    obtain ⟨h1, h2, h3⟩ := hc q (List.mem_cons_self ..)
    have he : wE nt N f (nA nt q) := by
      cases f with
      | zero => have := (h.d h1).1; omega
      | succ f => exact (wE_given h h1 h2 h3).1.1.mono (Nat.le_succ _)
    obtain ⟨u, hu, b⟩ := ih (fun q' hq' => hc q' (List.mem_cons_of_mem _ hq')) (a.rc hn (R _ he))
    refine ⟨u ++ w_tl (nT nt (nA nt q)), by rw [List.length_append, hu]; show _ = (w_tl (nT nt (nA nt q))).length + w_sum nt r; omega, ?_⟩
    rw [List.append_assoc]; exact b
end
