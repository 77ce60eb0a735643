/-! CodeWriter: statements: what is done at a guarded part's end, however it ends -/
/-- what is thrown is kept, the end is written, it is thrown again -/
def w_rth (q : Nat) (g : wG) : wG := bif g_al g then s_al false (w_em (16, 191, 0, 0, []) 1 [] (w_ld 5 q [10] g)) else g
def w_thr3 (L : List Nat) (at_ b sort : Nat) (h2 : wG) : wG := if sort = 4 then s_ok (w_cov (g_it h2) L (b, (g_it h2).length)) (s_rg ((b, (g_it h2).length, at_, 0) :: g_rg h2) h2) else h2
def w_thr (rec : wT) (L : List Nat) (ps : List (Nat × Nat)) (sort : Nat) (c : wC) (nx : Nat) (g : wG) : wG :=
  w_rth nx (w_thr3 L (g_it g).length (g_it (w_ts 5 [10] (w_hd L ps 0 g))).length sort (w_end rec c (w_ts 5 [10] (w_hd L ps 0 g))))
def w_gd (rec : wT) (L : List Nat) (ps : List (Nat × Nat)) (sort : Nat) (c : wC) (nx : Nat) (g : wG) : wG := bif ps.isEmpty || g_ov g then g else w_thr rec L ps sort c nx g
theorem wM_thr3 (L : List Nat) (at_ b sort : Nat) (h : wG) : wM h (w_thr3 L at_ b sort h) := by
  unfold w_thr3
  split
  · exact ⟨fun q => q.1, ⟨[], rfl⟩, fun q => q, Nat.le_refl _, ⟨[_], rfl⟩, wK.rf _, Nat.le_refl _, Nat.le_refl _⟩
  · exact wM.rf h
theorem wM_rth (q : Nat) (h : wG) : wM h (w_rth q h) := by
  unfold w_rth
  exact wM.cond ((((wM.rf h).ld _ _ _).em _ _ _).s_al false) (wM.rf h)
theorem wM_thr {rec : wT} (R : ∀ n k, wM k (rec n k)) (L : List Nat) (ps : List (Nat × Nat)) (sort : Nat) (c : wC) (nx : Nat) (g : wG) : wM (w_hd L ps 0 g) (w_thr rec L ps sort c nx g) :=
  (((wM.rf _).ts 5 [10]).end_ R c).tr ((wM_thr3 _ _ _ _ _).tr (wM_rth _ _))
theorem wM_gd {rec : wT} (R : ∀ n k, wM k (rec n k)) (L : List Nat) (ps : List (Nat × Nat)) (sort : Nat) (c : wC) (nx : Nat) (g : wG) : wM g (w_gd rec L ps sort c nx g) :=
  wM.cond (wM.rf g) (((wM.rf g).hd _ _ _).tr (wM_thr R L ps sort c nx g))
theorem c_gd_over {P : yP} {hp : Nat} {rec : wT} (R : ∀ n k, wM k (rec n k)) {L : List Nat} {ps : List (Nat × Nat)} {sort nx : Nat} {c : wC} {g : wG} (ho : c_over (pH P (hp + ps.length)) g) : c_over (pH P hp) (w_gd rec L ps sort c nx g) := by
  unfold w_gd
  cases hov : g_ov g
  · cases ps with
    | nil => exact ho
    | cons p q =>
      show c_over (pH P hp) (w_thr rec L (p :: q) sort c nx g)
      refine c_over.mono (g := w_hd L (p :: q) 0 g) ?_ (wM_thr R L (p :: q) sort c nx g)
      have h3 := w_hd_ph (g := g) (L := L) (ps := p :: q) (k := 0)
      exact ho.of rfl rfl rfl (by rw [h3]; show p_rf P + (hp + (p :: q).length) + w_ph g ≤ p_rf P + hp + (w_ph g + (p :: q).length); omega) rfl rfl rfl
  · rw [Bool.or_true]
    exact Or.inl (Or.inl hov)
section
variable {nt : sp_NT} {N M : Nat} {P : yP} {hp : Nat} {H V : List wSl} {O : List (Int32 × List (Nat × Nat))} {K u sb : Nat} {C : Nat → Prop} {o : Option Int32} {lm lm' lm1 : Nat → Nat} {lv lv' lv1 ct ct' : Nat → Bool} {x y x1 : mj_X} {g G : wG} {res par : Nat → Int32} {f : Nat} {n : Int32}
theorem k_load2 {d q : Nat} {p : Int32} (hd : 5 ≤ d) (h : Y2 nt N P hp H O K u sb C none V lm lv ct x g) (hpq : x.1 0 29 = 0 → p = nI q ∧ q < 256) : KS nt N P hp H O K u sb (g_nl g) (z_skl V) C ct g (kX0 d 94 [.ref 0, .int p] x) x lm lv (w_rth q g) := by
  obtain ⟨d, rfl⟩ : ∃ e, d = e + 1 := ⟨d - 1, by omega⟩
  rw [eX0_load2]
  by_cases h0 : ¬ x.1 0 29 = 0
  · by_cases a0 : x.1 0 30 = 0
    · rw [if_pos a0]; exact KS.skip h h0 (wM_rth q g) (Nat.le_refl _)
    · rw [if_neg a0, c_ldq (by omega) (Or.inr h0), mj_rV_k, c_codeq (by omega) (Or.inr h0), mj_rV_k]
      have q1 : Y2 nt N P hp H O K u sb C none V lm lv ct (mj_wI x 0 30 0) g := (h.al false).toM (x := mj_wI x 0 30 0) h0 rfl rfl (h.mc h0).2.2
      exact (KS.skip q1 h0 (wM_rth q g) (Nat.le_refl _)).pre ((yfr.rf _ _ x).w _ rfl) (fun w => absurd w h0)
  have h0 : x.1 0 29 = 0 := Decidable.not_not.mp h0
  by_cases a0 : x.1 0 30 = 0
  · have e : w_rth q g = g := by unfold w_rth; rw [(h.dead (Or.inl a0) h0).2.1]; rfl
    rw [if_pos a0, e]; exact KS.id_ h
  · have hl := h.live (fun w => by rcases w with w | w; exact a0 w; exact w h0)
    have hal : g_al g = true := ((w_q_iff g).mp hl.2.2).1
    have e : w_rth q g = s_al false (w_em (16, 191, 0, 0, []) 1 [] (w_ld 5 q [10] g)) := by unfold w_rth; rw [hal]; rfl
    rw [if_neg a0, e]
    refine KS.b (Nat.le_refl _) (Nat.le_refl _) (KS.ldn (d := d) (t := 5) (q := q) (on := [10]) (by omega) (by decide) (by decide) h hpq) (fun V1 C1 lm1 lv1 ct1 x1 q1 v1 c1 l1 f1 mm1 => ?_)
    have m1 : wM g (w_ld 5 q [10] g) := (wM.rf g).ld _ _ _
    refine KS.b m1.nl (Nat.le_refl _) (KS.e1 (d := d) (i := (16, 191, 0, 0, [])) (off := 1) (on := []) (cc := 191) (by omega) q1 ⟨fun _ => rfl, fun _ _ => rfl⟩) (fun V2 C2 lm2 lv2 ct2 x2 q2 v2 c2 l2 f2 mm2 => ?_)
    rw [← v1, ← v2]
    exact KS.ret (y := mj_wI x2 0 30 0) (q2.al false) ((yfr.rf _ _ x2).w _ rfl) (fun w => ⟨w, yT.rf rfl rfl rfl⟩)
/-- pieces are forgotten, places are given back, a label is put -/
theorem k_fpl2 {d e nx6 nx7 : Nat} {v vl a6 w0 : Int32} {ps : List (Nat × Nat)} (hd : 2 ≤ d) (he : e < g_nl g) (hv : lv e = true) (hct : ct e = false) (hvl : vl = nI (lm e)) (hV : ∀ c, c ∈ g_cx g → w_cl e c) (hH : ∀ s, s ∈ H → w_cl e s.2.2) (h7 : x.1 0 29 = 0 → w0 = nI nx7 ∧ nx7 ≤ 8000) (h6 : x.1 0 29 = 0 → a6 = nI nx6 ∧ nx6 ≤ 8000) (h : Y2 nt N P hp H ((v, ps) :: O) K u sb C none V lm lv ct x g) :
    KS nt N P hp H O K u sb e (z_skl V) C ct g (mj_rV (kX0 d 92 [.ref 0, .int v] (mj_wI x 0 32 w0)) fun x1 => mj_rV (kX0 d 70 [.ref 0, .int vl] (mj_wI x1 0 32 a6)) fun x2 => some (none, x2)) x lm lv (w_sl false e (w_put e (s_nx nx6 g))) := by
  have q0 := h.nx (v := w0) (n := nx7) h7
  obtain ⟨y, e1, q1, f1, y2⟩ := q0.forget (d := d) (by omega)
  have y29 : y.1 0 29 = x.1 0 29 := f1.1 0 29 rfl
  have q2 : Y2 nt N P hp H O K u sb C none V lm lv ct (mj_wI y 0 32 a6) (s_nx nx6 g) := q1.nx (v := a6) (n := nx6) (fun w => h6 (by rw [← y29]; exact w))
  rw [e1, mj_rV_k, hvl]
  have f2 : yfr (yw2 P K) (p_pf P) x (mj_wI y 0 32 a6) := (y32w.tr (yg_w f1)).tr y32w
  exact ((KS.pl (d := d) (n := e) (g := s_nx nx6 g) hd false he hv hct (Nat.le_refl _) q2 hV hH).end_).pre f2 (fun w => ⟨by rw [← y29]; exact w, yT.rf rfl (f1.1 0 48 rfl) (f1.1 0 47 rfl)⟩)
set_option maxHeartbeats 4000000 in
theorem k_gd {d e nx nx6 sort : Nat} {L : List Nat} {ps : List (Nat × Nat)} {c : wC} {a1 a2 a3 a5 a6 a7 a8 v : Int32} (hd : 6 * f + 262 ≤ d) (hf : f ≤ 200) (hT : wTb nt N M res par) (R : ∀ m, wA nt N 40 m → kS nt N f m) (hc1 : c.1 = sort) (h3 : 3 ≤ sort) (h4 : sort ≤ 4) (hcok : w_cok nt N c) (hc3 : c.1 = 3 → a3 = c.2.1) (hc7 : x.1 0 29 = 0 → c.1 = 4 → a7 = c.2.1) (h6 : x.1 0 29 = 0 → a6 = nI nx6 ∧ nx6 ≤ 8000) (hnx : g_nx g = nx)
    (he : e < g_nl g) (hv : lv e = true) (hct : ct e = false) (hvl : a5 = nI (lm e)) (hV : ∀ c, c ∈ g_cx g → w_cl e c) (hH : ∀ s, s ∈ H → w_cl e s.2.2) (hC : ∀ c, c ∈ g_cx g → w_cok nt N c) (h : Y2 nt N P (hp + ps.length) H ((v, ps) :: O) K (200 - f) (sb + 1) C none V lm lv ct x g) (hok : g_ok (w_gd (wS nt f) L ps sort c nx g)) :
    KS nt N P hp H O K (200 - f) (sb + 1) e (z_skl V) C ct g (mj_rI (kX0 d 88 [.ref 0, .int v] x) fun v7 x6 =>
      if v7 = 0 then rX0_guarded d (261, [some (.ref 0), some (.int a1), some (.int a2), some (.int a3), some (.int (sp_b (decide (sort = 4)))), some (.int a5), some (.int a6), some (.int a7), some (.int a8), some (.int v), none, none, none, none], [], x6)
      else
       if (x6.1 0 29) = 0 then mj_rV (kX0 d 90 [.ref 0, .int v, .int (x6.1 0 28), .int (0 : Int32)] (mj_wI x6 0 30 (1 : Int32))) fun x8 =>
        mj_rI (kX0 d 33 [.ref 0, .int (5 : Int32)] x8) fun v10 x9 =>
        mj_rV (kX0 d 39 [.ref 0, .int (5 : Int32), .int v10] x9) fun x11 =>
        mj_rV (kX0 d 83 [.ref 0, .int a8, .int (sp_b (decide (sort = 4))), .int a7, .int a3] x11) fun x12 =>
        if (sp_b (decide (sort = 4))) = 0 then mj_rV (kX0 d 94 [.ref 0, .int v10] x12) fun x13 =>
         rX0_guarded d (261, [some (.ref 0), some (.int a1), some (.int a2), some (.int a3), some (.int (sp_b (decide (sort = 4)))), some (.int a5), some (.int a6), some (.int a7), some (.int a8), some (.int v), some (.int (x6.1 0 28)), some (.int (x8.1 0 32)), some (.int v10), some (.int (x11.1 0 28))], [], (mj_wI x13 0 32 (x8.1 0 32)))
        else mj_rV (kX0 d 91 [.ref 0, .int (x11.1 0 28), .int (x12.1 0 28), .int (x6.1 0 28), .int (0 : Int32)] x12) fun x14 =>
         mj_rV (kX0 d 94 [.ref 0, .int v10] x14) fun x15 =>
         rX0_guarded d (261, [some (.ref 0), some (.int a1), some (.int a2), some (.int a3), some (.int (sp_b (decide (sort = 4)))), some (.int a5), some (.int a6), some (.int a7), some (.int a8), some (.int v), some (.int (x6.1 0 28)), some (.int (x8.1 0 32)), some (.int v10), some (.int (x11.1 0 28))], [], (mj_wI x15 0 32 (x8.1 0 32)))
       else rX0_guarded d (261, [some (.ref 0), some (.int a1), some (.int a2), some (.int a3), some (.int (sp_b (decide (sort = 4)))), some (.int a5), some (.int a6), some (.int a7), some (.int a8), some (.int v), none, none, none, none], [], x6)) x lm lv (w_sl false e (w_put e (s_nx nx6 (w_gd (wS nt f) L ps sort c nx g)))) := by
  have mF := wM_gd (wS_mono nt f) L ps sort c nx g
  have nF := mF.nl
  have kF := mF.2.2.2.2.2.1
  obtain ⟨rb, er, hr⟩ := Y2.has (d := d) (by omega) h
  rw [er, mj_rI_k]
  have self32 : mj_wI x 0 32 (x.1 0 32) = x := by
    refine Prod.ext (funext fun k => funext fun j => ?_) rfl
    rw [mj_wI_1]
    by_cases z1 : k = 0
    · by_cases z2 : j = 32
      · rw [if_pos z1, if_pos z2, z1, z2]
      · rw [if_pos z1, if_neg z2, z1]
    · rw [if_neg z1]
  -- no handler
  have endF : (x.1 0 29 = 0 → ps = []) → KS nt N P hp H O K (200 - f) (sb + 1) e (z_skl V) C ct g (rX0_guarded d (261, [some (.ref 0), some (.int a1), some (.int a2), some (.int a3), some (.int (sp_b (decide (sort = 4)))), some (.int a5), some (.int a6), some (.int a7), some (.int a8), some (.int v), none, none, none, none], [], x)) x lm lv (w_sl false e (w_put e (s_nx nx6 (w_gd (wS nt f) L ps sort c nx g)))) := by
    intro hx
    obtain ⟨V9, lm9, lv9, ct9, q9, v9, l9, eF⟩ : ∃ V' lm' lv' ct', Y2 nt N P hp H ((v, ps) :: O) K (200 - f) (sb + 1) C none V' lm' lv' ct' x (w_gd (wS nt f) L ps sort c nx g) ∧ z_skl V' = z_skl V ∧ (∀ l, l < g_nl g → lm' l = lm l ∧ lv' l = lv l ∧ ct' l = ct l) ∧ (x.1 0 29 = 0 → w_gd (wS nt f) L ps sort c nx g = g) := by
      by_cases h0 : x.1 0 29 = 0
      · have hps := hx h0
        subst hps
        exact ⟨V, lm, lv, ct, h, rfl, fun _ _ => ⟨rfl, rfl, rfl⟩, fun _ => rfl⟩
      · have ho := c_gd_over (wS_mono nt f) (L := L) (sort := sort) (nx := nx) (c := c) (h.mc h0).2.2
        obtain ⟨V', lm', lv', ct', q1, v1, l1⟩ := h.skip h0 mF
        exact ⟨V', lm', lv', ct', q1.hpM h0 ho, v1, l1, fun z => absurd z h0⟩
    have le9 := l9 e he
    rw [bX0_guarded_261, ← v9]
    have key := k_fpl2 (d := d) (e := e) (nx6 := nx6) (nx7 := g_nx (w_gd (wS nt f) L ps sort c nx g)) (vl := a5) (a6 := a6) (w0 := x.1 0 32) (by omega) (by omega) (by rw [le9.2.1]; exact hv) (by rw [le9.2.2]; exact hct) (by rw [le9.1]; exact hvl) (w_cl.wK kF hV) hH (fun w => ⟨(q9.ex w).2.2.2.1.1, (q9.ex w).2.2.2.1.2.1⟩) h6 q9
    rw [self32] at key
    exact KS.from (G := w_gd (wS nt f) L ps sort c nx g) key (yfr.rf _ _ _) (fun w => ⟨w, by rw [eF w]; exact yT.rf rfl rfl rfl⟩) (fun l hl => l9 l (by omega))
  cases rb with
  | false =>
    rw [if_pos (show sp_b false = (0 : Int32) from rfl)]
    exact endF (fun z => by have := hr z; cases ps with
      | nil => rfl
      | cons _ _ => exact absurd this (by simp))
  | true =>
  rw [if_neg (show ¬ sp_b true = (0 : Int32) by decide)]
  by_cases x0 : ¬ x.1 0 29 = 0
  · rw [if_neg x0]
    exact endF (fun z => absurd z x0)
  have x0 : x.1 0 29 = 0 := Decidable.not_not.mp x0
  rw [if_pos x0]
  have hne : ps ≠ [] := fun q => by have := hr x0; rw [q] at this; exact absurd this (by decide)
  have hpe : ps.isEmpty = false := by cases ps with
    | nil => exact absurd rfl hne
    | cons _ _ => rfl
  have hov : g_ov g = false := (h.ex x0).2.2.1.1
  have n32 := (h.ex x0).2.2.2.1
  have b28 := (h.ex x0).2.2.1.2.2.2.2.1.1
  have eG : w_gd (wS nt f) L ps sort c nx g = w_thr (wS nt f) L ps sort c nx g := by unfold w_gd; rw [hpe, hov]; rfl
  rw [eG] at hok nF kF ⊢
  clear endF mF eG
  have hmg : wM g (w_hd L ps 0 g) := (wM.rf g).hd _ _ _
  have nla : g_nl (s_al true g) = g_nl g := rfl
  have nlh : g_nl (w_hd L ps 0 g) = g_nl g := rfl
  have nxh : g_nx (w_hd L ps 0 g) = nx := hnx
  have ith : g_it (w_hd L ps 0 g) = g_it g := rfl
  have hqh : w_q (w_hd L ps 0 g) = false := (w_q_iff _).mpr ⟨rfl, hov⟩
  have hS1 : ySame (s_rg (w_reg (g_it g).length 0 ps (g_rg g)) (s_al true g)) (w_hd L ps 0 g) := ⟨rfl, rfl, rfl, rfl, rfl, rfl, rfl, rfl, rfl, rfl⟩
  have hU1 : wU (s_rg (w_reg (g_it g).length 0 ps (g_rg g)) (s_al true g)) (w_hd L ps 0 g) := ⟨rfl, rfl, rfl, rfl, rfl, rfl⟩
  unfold w_thr at hok nF kF ⊢
  generalize hgh : w_hd L ps 0 g = gh at *
  have m1 : wM gh (w_ts 5 [10] gh) := (wM.rf gh).ts _ _
  have hal1 := w_ts_al 5 [10] gh
  have hg1 : ∀ hh, w_ts 5 [10] gh = hh → (g_ok hh → w_q gh = false → 1 ≤ (g_st gh).length ∧ g_nx gh < 250) := fun hh e => by rw [← e]; exact fun q => q.2
  have hcast : ∀ (V : List wSl) (C : Nat → Prop) (lm : Nat → Nat) (lv ct : Nat → Bool) (z : mj_X), Y2 nt N P hp H ((v, ps) :: O) K (200 - f) (sb + 1) C none V lm lv ct z (w_es (3, 5, g_nx gh, 0, []) (g_L gh ++ [10], (g_st gh).drop (w_tl 5).length) (s_tk (w_tl 5).length gh)) → Y2 nt N P hp H ((v, ps) :: O) K (200 - f) (sb + 1) C none V lm lv ct z (w_ts 5 [10] gh) := fun V C lm lv ct z q => q
  have itc : g_it (w_ts 5 [10] gh) = g_it (w_es (3, 5, g_nx gh, 0, []) (g_L gh ++ [10], (g_st gh).drop (w_tl 5).length) (s_tk (w_tl 5).length gh)) := rfl
  generalize hh1 : w_ts 5 [10] gh = h1 at *
  have m2 : wM h1 (w_end (wS nt f) c h1) := (wM.rf h1).end_ (wS_mono nt f) c
  generalize hh2 : w_end (wS nt f) c h1 = h2 at *
  have m3 := wM_thr3 L (g_it g).length (g_it h1).length sort h2
  have m4 := wM_rth nx (w_thr3 L (g_it g).length (g_it h1).length sort h2)
  have ok3 := m4.1 hok
  have ok2 : g_ok h2 := m3.1 ok3
  have ok1 : g_ok h1 := m2.1 ok2
  have h250 := (hg1 h1 rfl ok1 hqh).2
  have nl1 := m1.nl
  have nl2 := m2.nl
  have nl3 := m3.nl
  have nl4 := m4.nl
  -- the handler begins
  obtain ⟨V2, lm2, lv2, ct2, y, ey, qy, vy, ly, fy, y2, ty⟩ := Y2.reg (d := d) (m0 := ps.length) (k := 0) (ve := x.1 0 28) (x := mj_wI x 0 30 1) (g := s_al true g) (by omega) (Nat.le_refl _) (h.al true) (fun _ => by show x.1 0 28 = nI (w_at (p_w P) (g_it g) (g_it g).length); rw [b28, w_at_len])
  have qy : Y2 nt N P hp H ((v, ps) :: O) K (200 - f) (sb + 1) C none V2 lm2 lv2 ct2 y gh := qy.same hS1 hU1
  have fa : yfr (yw2 P K) (p_pf P) x y := ((yfr.rf _ _ x).w _ rfl).tr (yr_w fy)
  have y48 : y.1 0 48 = x.1 0 48 := fy.1 0 48 rfl
  have y47 : y.1 0 47 = x.1 0 47 := fy.1 0 47 rfl
  have y32 : y.1 0 29 = 0 → y.1 0 32 = nI nx ∧ nx ≤ 8000 := fun w => by rw [← nxh]; exact ⟨(qy.ex w).2.2.2.1.1, (qy.ex w).2.2.2.1.2.1⟩
  rw [ey, mj_rV_k, e_takeX (by omega), mj_rI_k, ← vy]
  refine KS.from (G := gh) ?_ fa (fun w => ⟨x0, yT.rf ith y48 y47⟩) (fun l hl => ly l (by omega))
  have q4 : Y2 nt N P hp H ((v, ps) :: O) K (200 - f) (sb + 1) C none V2 lm2 lv2 ct2 (mj_wI (mj_wI y 0 32 (y.1 0 32 + sp_pl 5)) 0 33 (mj_max (y.1 0 33) (y.1 0 32 + sp_pl 5))) (s_tk (w_tl 5).length gh) := qy.tk (t := 5) (by decide) (fun _ => h250)
  have f4 : yfr (yw2 P K) (p_pf P) y (mj_wI (mj_wI y 0 32 (y.1 0 32 + sp_pl 5)) 0 33 (mj_max (y.1 0 33) (y.1 0 32 + sp_pl 5))) := yo4_w (((yfr.rf _ _ y).w _ rfl).w _ rfl)
  have js := KS.stn (d := d) (t := 5) (p := y.1 0 32) (q := g_nx gh) (F := (g_L gh ++ [10], (g_st gh).drop (w_tl 5).length)) (by omega) (by decide) (by decide) q4 (fun w => ⟨by rw [nxh]; exact (y32 w).1, by omega⟩)
  refine KS.pre (KS.b (n1 := g_nl gh) (by omega) (Nat.le_refl _) js (fun V5 C5 lm5 lv5 ct5 x5 q5 v5 c5 l5 f5 mm5 => ?_)) f4 (fun w => ⟨w, yT.rf rfl rfl rfl⟩)
  have q5 := hcast _ _ _ _ _ _ q5
  have back5 : x5.1 0 29 = 0 → x.1 0 29 = 0 := fun _ => x0
  have by5 : x5.1 0 29 = 0 → y.1 0 29 = 0 := fun w => mm5 w
  have k1 := (hmg.tr m1).2.2.2.2.2.1
  have je := k_end (d := d) (c := c) (a1 := a8) (a2 := sp_b (decide (sort = 4))) (va3 := a7) (va4 := a3) (by omega) hf (by omega) (by omega) (by rw [hc1]) hcok hT R (w_cok.wK k1 hC) q5 (fun w => ⟨hc3, hc7 (back5 w)⟩) (by rw [hh2]; exact ok2)
  rw [hh2] at je
  have je' : KS nt N P hp H ((v, ps) :: O) K (200 - f) (sb + 1) (g_nl h1) (z_skl V5) C5 ct5 (w_es (3, 5, g_nx gh, 0, []) (g_L gh ++ [10], (g_st gh).drop (w_tl 5).length) (s_tk (w_tl 5).length gh)) (kX0 d 83 [.ref 0, .int a8, .int (sp_b (decide (sort = 4))), .int a7, .int a3] x5) x5 lm5 lv5 h2 := by
    obtain ⟨V1, C1, lm1, lv1, ct1, x1, e, q, v, c, l, f, t⟩ := je
    exact ⟨V1, C1, lm1, lv1, ct1, x1, e, q, v, c, l, f, fun w => ⟨(t w).1, (yT.rf itc rfl rfl : yT x5 _ x5 h1).tr (t w).2⟩⟩
  refine KS.b (n1 := g_nl h1) (by omega) (Nat.le_refl _) je' (fun V6 C6 lm6 lv6 ct6 x6 q6 v6 c6 l6 f6 mm6 => ?_)
  have e6 : lm6 e = lm e ∧ lv6 e = lv e ∧ ct6 e = ct e := by
    have a := l6 e (by omega)
    have b := l5 e (by omega)
    have c := ly e he
    exact ⟨a.1.trans (b.1.trans c.1), a.2.1.trans (b.2.1.trans c.2.1), a.2.2.trans (b.2.2.trans c.2.2)⟩
  -- the end of it
  have fin : ∀ (h3 : wG) (V7 : List wSl) (C7 : Nat → Prop) (lm7 : Nat → Nat) (lv7 ct7 : Nat → Bool) (x7 : mj_X) (o1 o2 o3 o4 : Option Value), h3 = w_thr3 L (g_it g).length (g_it h1).length sort h2 → (x7.1 0 29 = 0 → y.1 0 29 = 0) → (lm7 e = lm e ∧ lv7 e = lv e ∧ ct7 e = ct e) → Y2 nt N P hp H ((v, ps) :: O) K (200 - f) (sb + 1) C7 none V7 lm7 lv7 ct7 x7 h3 →
      KS nt N P hp H O K (200 - f) (sb + 1) e (z_skl V7) C7 ct7 h3 (mj_rV (kX0 d 94 [.ref 0, .int (y.1 0 32)] x7) fun x13 => rX0_guarded d (261, [some (.ref 0), some (.int a1), some (.int a2), some (.int a3), some (.int (sp_b (decide (sort = 4)))), some (.int a5), some (.int a6), some (.int a7), some (.int a8), some (.int v), o1, o2, o3, o4], [], (mj_wI x13 0 32 (y.1 0 32)))) x7 lm7 lv7 (w_sl false e (w_put e (s_nx nx6 (w_rth nx h3)))) := by
    intro h3 V7 C7 lm7 lv7 ct7 x7 o1 o2 o3 o4 eh b7 le7 q7
    have nh3 : g_nl g ≤ g_nl h3 := by rw [eh]; omega
    have m4' : wM h3 (w_rth nx h3) := wM_rth nx h3
    have nh4 := m4'.nl
    have k4 : wK (g_cx g) (g_cx (w_rth nx h3)) := by
      have : wM g h3 := by rw [eh]; exact ((hmg.tr m1).tr m2).tr m3
      exact (this.tr m4').2.2.2.2.2.1
    refine KS.b (n1 := g_nl h3) (by omega) (Nat.le_refl _) (k_load2 (d := d) (q := nx) (by omega) q7 (fun w => ⟨(y32 (b7 w)).1, by have := h250; omega⟩)) (fun V8 C8 lm8 lv8 ct8 x8 q8 v8 c8 l8 f8 mm8 => ?_)
    have le8 := l8 e (by omega)
    rw [bX0_guarded_261, ← v8]
    exact k_fpl2 (d := d) (e := e) (nx6 := nx6) (nx7 := nx) (vl := a5) (a6 := a6) (w0 := y.1 0 32) (by omega) (by omega) (by rw [le8.2.1, le7.2.1]; exact hv) (by rw [le8.2.2, le7.2.2]; exact hct) (by rw [le8.1, le7.1]; exact hvl) (w_cl.wK k4 hV) hH (fun w => y32 (b7 (mm8 w))) (fun w => h6 x0) q8
  rw [← v5, ← v6]
  by_cases q4' : sort = 4
  · rw [if_neg (show ¬ sp_b (decide (sort = 4)) = (0 : Int32) by rw [decide_eq_true q4']; decide)]
    have eh3 : w_thr3 L (g_it g).length (g_it h1).length sort h2 = s_ok (w_cov (g_it h2) L ((g_it h1).length, (g_it h2).length)) (s_rg (((g_it h1).length, (g_it h2).length, (g_it g).length, 0) :: g_rg h2) h2) := by unfold w_thr3; rw [if_pos q4']
    obtain ⟨i1, hi1⟩ := m2.2.1
    obtain ⟨i2, hi2⟩ := m1.2.1
    obtain ⟨y7, e7, q7, f7, y72, t7⟩ := Y2.rng (hp2 := hp) (d := d) (a := (g_it h1).length) (b := (g_it h2).length) (e := (g_it g).length) (k := 0) (va := x5.1 0 28) (vb := x6.1 0 28) (ve := x.1 0 28) (by omega) (Nat.le_succ _) q6 (fun w => by
      have w5 := mm6 w
      have a5 := (q5.ex w5).2.2.1.2.2.2.2.1.1
      have a6 := (q6.ex w).2.2.1.2.2.2.2.1.1
      refine ⟨⟨?_, ?_, ?_⟩, by rw [hi1, List.length_append]; omega, Nat.le_refl _, by rw [hi1, hi2, ith, List.length_append, List.length_append]; omega⟩
      · rw [a5, hi1, w_at_app _ _ _ (Nat.le_refl _), w_at_len]
      · rw [a6, w_at_len]
      · rw [b28, hi1, hi2, ith, w_at_app _ _ _ (by rw [List.length_append]; omega), w_at_app _ _ _ (Nat.le_refl _), w_at_len])
    rw [e7, mj_rV_k]
    have q7 : Y2 nt N P hp H ((v, ps) :: O) K (200 - f) (sb + 1) C6 none V6 lm6 lv6 ct6 y7 (w_thr3 L (g_it g).length (g_it h1).length sort h2) := by rw [eh3]; exact q7
    exact (fin _ V6 C6 lm6 lv6 ct6 y7 _ _ _ _ rfl (fun w => by5 (mm6 (t7 w))) e6 q7).pre (yr_w f7) (fun w => ⟨t7 w, yT.rf (by rw [eh3]; rfl) (f7.1 0 48 rfl) (f7.1 0 47 rfl)⟩)
  · rw [if_pos (show sp_b (decide (sort = 4)) = (0 : Int32) by rw [decide_eq_false q4']; rfl)]
    have eh3 : w_thr3 L (g_it g).length (g_it h1).length sort h2 = h2 := by unfold w_thr3; rw [if_neg q4']
    have := fin h2 V6 C6 lm6 lv6 ct6 x6 (some (.int (x.1 0 28))) (some (.int (y.1 0 32))) (some (.int (y.1 0 32))) (some (.int (x5.1 0 28))) eh3.symm (fun w => by5 (mm6 w)) e6 q6
    rw [eh3]; exact this
end
