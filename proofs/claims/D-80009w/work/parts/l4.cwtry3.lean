/-! CodeWriter: statements: tries -/
section
variable {nt : sp_NT} {N M : Nat} {P : yP} {hp : Nat} {H V : List wSl} {O : List (Int32 × List (Nat × Nat))} {K u sb : Nat} {C : Nat → Prop} {o : Option Int32} {lm lm' lm1 : Nat → Nat} {lv lv' lv1 ct ct' : Nat → Bool} {x y x1 : mj_X} {g G : wG} {res par : Nat → Int32} {f : Nat} {n : Int32}
theorem KS.subC {k : Nat} {S : List (Nat × Int32)} {r : mj_R} {C1 : Nat → Prop} (h : KS nt N P hp H O K u sb k S C1 ct g r x lm lv G) (hc : ∀ k, C k → C1 k) : KS nt N P hp H O K u sb k S C ct g r x lm lv G := by
  obtain ⟨V1, C2, lm1, lv1, ct1, x1, e, q, v, c, l, f, t⟩ := h
  exact ⟨V1, C2, lm1, lv1, ct1, x1, e, q, v, fun k hk => c k (hc k hk), l, f, t⟩
/-- S goes on to what is behind all handlers -/
theorem Y2.toF {e m0 : Nat} {L : List Nat} {ps : List (Nat × Nat)} {v q : Int32} {r : List Int32} (hm0 : m0 ≤ ps.length) (h : Y2 nt N P (hp + m0) H ((v, ps) :: O) K u sb C none V lm lv ct x g) (hx : x.1 0 29 = 0 → ps = []) :
    ∃ V' lm' lv' ct', Y2 nt N P hp H ((v, ps) :: O) K u sb C none V' lm' lv' ct' x (w_ctc nt (wS nt f) L ps e (q :: r) g) ∧ z_skl V' = z_skl V ∧ (∀ l, l < g_nl g → lm' l = lm l ∧ lv' l = lv l ∧ ct' l = ct l) ∧ (x.1 0 29 = 0 → w_ctc nt (wS nt f) L ps e (q :: r) g = g) := by
  by_cases h0 : x.1 0 29 = 0
  · have hps := hx h0
    have e1 : w_ctc nt (wS nt f) L ps e (q :: r) g = g := by
      show (bif g_ov g || ps.isEmpty then g else _) = g
      rw [hps]
      show (bif g_ov g || true then g else _) = g
      rw [Bool.or_true]; rfl
    have hm : m0 = 0 := by rw [hps] at hm0; exact Nat.le_zero.mp hm0
    subst hm
    refine ⟨V, lm, lv, ct, ?_, rfl, fun _ _ => ⟨rfl, rfl, rfl⟩, fun _ => e1⟩
    rw [e1]; exact h
  · have ho := c_ctc_over (nt := nt) (wS_mono nt f) (L := L) (e := e) (q := q) (r := r) hm0 (h.mc h0).2.2
    obtain ⟨V', lm', lv', ct', q1, v1, l1⟩ := h.skip h0 (wM.ctc (wS_mono nt f) L ps e (q :: r) (wM.rf g))
    exact ⟨V', lm', lv', ct', q1.hpM h0 ho, v1, l1, fun z => absurd z h0⟩
theorem k_ctc {d e : Nat} {a1 a2 a4 v vl : Int32} {L : List Nat} {ps : List (Nat × Nat)} (hd : 6 * f + 262 ≤ d) (hf : f ≤ 200) (hT : wTb nt N M res par) (R : ∀ m, wA nt N 40 m → kS nt N f m) (hps : ps ≠ []) (hH : ∀ s, s ∈ H → w_cl e s.2.2) :
    ∀ (l : List Int32) (q : Int32) (m0 : Nat) (V : List wSl) (C : Nat → Prop) (lm : Nat → Nat) (lv ct : Nat → Bool) (x : mj_X) (g : wG), sp_Ch nt N 76 l q → wCh nt N 40 76 l → m0 ≤ ps.length → (l = [] → m0 = 0) → e < g_nl g → lv e = true → ct e = false → vl = nI (lm e) → (∀ c, c ∈ g_cx g → w_cok nt N c) → (∀ c, c ∈ g_cx g → w_cl e c) → Y2 nt N P (hp + m0) H ((v, ps) :: O) K (200 - f) (sb + 1) C none V lm lv ct x g → g_ok (w_ctc nt (wS nt f) L ps e l g) →
      KS nt N P hp H O K (200 - f) (sb + 1) e (z_skl V) C ct g (rX0_tries d (63, [some (.ref 0), some (.int a1), some (.int a2), some (.int vl), some (.int a4), some (.int v), some (.int q)], [], x)) x lm lv (w_sl false e (w_put e (w_ctc nt (wS nt f) L ps e l g))) := by
  intro l
  induction l with
  | nil =>
    intro q m0 V C lm lv ct x g hl hch hm0 hl0 he hv hct hvl hC hV h hok
    have : m0 = 0 := hl0 rfl
    subst this
    rw [bX0_tries_63, if_pos (show q = -1 from hl)]
    exact k_fpl (by omega) he hv hct hvl hV hH h
  | cons p r ih =>
    intro q m0 V C lm lv ct x g hl hch hm0 hl0 he hv hct hvl hC hV h hok
    obtain ⟨e1, e2, e3, e4, e5⟩ := hl
    subst e1
    by_cases h0 : ¬ x.1 0 29 = 0
    · have mF : wM g (w_ctc nt (wS nt f) L ps e (q :: r) g) := wM.ctc (wS_mono nt f) L ps e (q :: r) (wM.rf g)
      obtain ⟨V', lm', lv', ct', q1, v1, l1, -⟩ := Y2.toF (f := f) (L := L) (e := e) (q := q) (r := r) hm0 h (fun z => absurd z h0)
      have le := l1 e he
      have hn := mF.nl
      have := k_ctcM (d := d) (e := e) (a1 := a1) (a2 := a2) (a4 := a4) (v := v) (vl := vl) (by omega) hT hok (by omega) (w_cl.wK mF.2.2.2.2.2.1 hV) hH (q :: r) q V' C lm' lv' ct' x ⟨rfl, e2, e3, e4, e5⟩ hch (by rw [le.2.1]; exact hv) (by rw [le.2.2]; exact hct) (by rw [le.1]; exact hvl) h0 q1
      rw [← v1]
      exact KS.from this (yfr.rf _ _ _) (fun w => absurd w h0) (fun l hl => l1 l (by omega))
    have h0 : x.1 0 29 = 0 := Decidable.not_not.mp h0
    obtain ⟨-, hdq, -⟩ := hch q (List.mem_cons_self ..)
    obtain ⟨⟨n1, n2', n3⟩, -⟩ := wE_catches (f := 40) hT e2 (by omega) e3
    have hov : g_ov g = false := (h.ex h0).2.2.1.1
    have hpe : ps.isEmpty = false := by cases ps with
      | nil => exact absurd rfl hps
      | cons _ _ => rfl
    obtain ⟨cl, hcl⟩ : ∃ cl, cl = bif decide (nK nt (nA nt q) = 78) then nB nt (nA nt q) else nA nt q := ⟨_, rfl⟩
    obtain ⟨g2, hg2⟩ : ∃ g2, g2 = bif decide (nK nt (nA nt q) = 78) then s_pl (nA nt (nA nt q)).toNatClampNeg (g_nx (w_hd L ps (nA nt cl) g)) (w_ts 1 [1] (w_pe 15 72 0 1 [1] (w_hd L ps (nA nt cl) g))) else w_em (7, 87, 0, 0, []) 1 [] (w_hd L ps (nA nt cl) g) := ⟨_, rfl⟩
    have E : w_ctc nt (wS nt f) L ps e (q :: r) g = w_ctc nt (wS nt f) L ps e r (w_go e (s_nx (g_nx g) (w_aln (wS nt f) (nB nt cl) g2))) := by
      show (bif g_ov g || ps.isEmpty then g else _) = _
      rw [hov, hpe, hg2, hcl]; rfl
    rw [E] at hok ⊢
    have m2 : wM g g2 := by
      rw [hg2]
      exact wM.cond ((((wM.rf g).hd _ _ _).pe _ _ _ _ _ |>.ts _ _).s_pl _ _) (((wM.rf g).hd _ _ _).em _ _ _)
    have m3 : wM g2 (s_nx (g_nx g) (w_aln (wS nt f) (nB nt cl) g2)) := ((wM.rf g2).aln (wS_mono nt f) _).s_nx _
    have m4 : wM (s_nx (g_nx g) (w_aln (wS nt f) (nB nt cl) g2)) (w_go e (s_nx (g_nx g) (w_aln (wS nt f) (nB nt cl) g2))) := (wM.rf _).go _
    have m5 : wM (w_go e (s_nx (g_nx g) (w_aln (wS nt f) (nB nt cl) g2))) (w_ctc nt (wS nt f) L ps e r (w_go e (s_nx (g_nx g) (w_aln (wS nt f) (nB nt cl) g2)))) := wM.ctc (wS_mono nt f) L ps e r (wM.rf _)
    have okA : g_ok (w_aln (wS nt f) (nB nt cl) g2) := m4.1 (m5.1 hok)
    have nl3 := (m2.tr m3).nl
    have nl4 := m4.nl
    have kk := ((m2.tr m3).tr m4).2.2.2.2.2.1
    rw [bX0_tries_63, if_neg (nd_n1 e2), h.nd e2, show x.1 2 q.toNatClampNeg = nA nt q by rw [h.T.2.1]]
    refine KS.b (n1 := g_nl g) (by omega) (Nat.le_refl _) (k_hand1 (d := d) (L := L) hd hf hT R hC n1 n2' n3 h0 hm0 hcl hg2 h okA) (fun V1 C1 lm1 lv1 ct1 x1 q1 v1 c1 l1 f1 mm1 => ?_)
    have le := l1 e he
    have jg := KS.go (d := d) (l := e) (by omega) (by omega) (by rw [le.2.1]; exact hv) q1
    rw [le.1, ← hvl] at jg
    refine KS.b (n1 := g_nl (s_nx (g_nx g) (w_aln (wS nt f) (nB nt cl) g2))) (by omega) (Nat.le_refl _) jg (fun V2 C2 lm2 lv2 ct2 x2 q2 v2 c2 l2 f2 mm2 => ?_)
    have le2 := l2 e (by omega)
    rw [q2.nd e2, show x2.1 3 q.toNatClampNeg = nB nt q by rw [q2.T.2.2.1], ← v1, ← v2]
    exact ih (nB nt q) 0 V2 C2 lm2 lv2 ct2 x2 _ e5 (fun k hk => hch k (List.mem_cons_of_mem _ hk)) (Nat.zero_le _) (fun _ => rfl) (by omega) (by rw [le2.2.1, le.2.1]; exact hv) (by rw [le2.2.2, le.2.2]; exact hct) (by rw [le2.1, le.1]; exact hvl) (w_cok.wK kk hC) (w_cl.wK kk hV) q2 hok
set_option maxHeartbeats 4000000 in
theorem k_tries {d : Nat} {a b : Int32} (hd : 6 * f + 263 ≤ d) (hf : f ≤ 200) (hT : wTb nt N M res par) (sa : wA nt N 40 a) (nb : sp_nd N b = true) (kb : nK nt b = 76) (x0 : x.1 0 29 = 0) (R : ∀ m, wA nt N 40 m → kS nt N f m) (hC : ∀ c, c ∈ g_cx g → w_cok nt N c) (hKu : K + 1 ≤ 200 - f) (hs : sb + 1 ≤ 2000000000) (h : Y2 nt N P hp H O K (200 - f) sb C none V lm lv ct x g)
    (hok : g_ok (w_try nt (wS nt f) a b g)) :
    KS nt N P hp H O K (200 - f) (sb + 1) (g_nl g) (z_skl V) C ct g (kX0 d 87 [.ref 0, .int a, .int b] x) x lm lv (w_try nt (wS nt f) a b g) := by
  obtain ⟨d, rfl⟩ : ∃ e, d = e + 1 := ⟨d - 1, by omega⟩
  obtain ⟨hcl, hclH⟩ := h.cl x0
  obtain ⟨l, l1, l2⟩ := hT.chain (Or.inr (Or.inl rfl)) (Or.inr ⟨nb, kb⟩)
  have hch : wCh nt N 40 76 l := by rw [← l2]; exact hT.ch (Or.inr (Or.inl rfl)) 4001 (Or.inr ⟨nb, (hT.d nb).2, kb⟩)
  obtain ⟨q0, r0, rfl⟩ : ∃ q r, l = q :: r := by
    cases l with
    | nil => exact absurd (show b = -1 from l1) (nd_n1 nb)
    | cons q r => exact ⟨q, r, rfl⟩
  have m2 : wM (w_ctx 2 0 0 0 (w_lb (g_L g, []) g)) (w_aln (wS nt f) a (w_ctx 2 0 0 0 (w_lb (g_L g, []) g))) := (wM.rf _).aln (wS_mono nt f) _
  obtain ⟨-, dd, r, hcx, hwk, hwr⟩ := wM.in_ (g := w_lb (g_L g, []) g) (c := (2, 0, 0, 0, g_nx (w_lb (g_L g, []) g), (g_it (w_lb (g_L g, []) g)).length, [])) m2
  have E : w_try nt (wS nt f) a b g = w_sl false (g_nl g) (w_put (g_nl g) (w_ctc nt (wS nt f) (g_L g) (c_ps (w_pc (g_it (w_aln (wS nt f) a (w_ctx 2 0 0 0 (w_lb (g_L g, []) g)))).length dd)) (g_nl g) (q0 :: r0) (w_go (g_nl g) (w_shut (w_aln (wS nt f) a (w_ctx 2 0 0 0 (w_lb (g_L g, []) g))))))) := by
    unfold w_try
    simp only [hcx, l2]
  rw [E] at hok ⊢
  clear E
  have n1 : g_nl (w_lb (g_L g, []) g) = g_nl g + 1 := rfl
  have nx1 : g_nx (w_lb (g_L g, []) g) = g_nx g := rfl
  have it1 : g_it (w_lb (g_L g, []) g) = g_it g := rfl
  have cx1 : g_cx (w_lb (g_L g, []) g) = g_cx g := rfl
  have lb := fun okl => Y2.lb (d := d) (F := (g_L g, [])) (by omega) h x0 okl
  generalize hg1 : w_lb (g_L g, []) g = g1 at *
  have ctxok : g_ok (w_ctx 2 0 0 0 g1) → g_ok g1 := fun q => q
  have hgu := fun {y lm lv ct V C hr} (q2 : Y2 nt N P hp H O (K + 1) (200 - f) (sb + 1) C none ((K, hr, (2, 0, 0, 0, g_nx g1, (g_it g1).length, [])) :: V) lm lv ct y (w_ctx 2 0 0 0 g1)) okG => k_guard (d := d) (sort := 2) (node := 0) (by omega) hf (by decide) sa ⟨fun q => absurd q (show ¬ (2 : Nat) = 3 by decide), fun q => absurd q (show ¬ (2 : Nat) = 4 by decide)⟩ R (by rw [cx1]; exact hC) q2 okG
  have m2n : g_nl g1 ≤ g_nl (w_aln (wS nt f) a (w_ctx 2 0 0 0 g1)) := m2.nl
  generalize hG : w_aln (wS nt f) a (w_ctx 2 0 0 0 g1) = G at *
  have mS : wM (w_shut G) (w_go (g_nl g) (w_shut G)) := (wM.rf _).go _
  have cxS : g_cx (w_shut G) = r := by show (g_cx G).tail = r; rw [hcx]; rfl
  have cxg : g_cx (w_go (g_nl g) (w_shut G)) = r := (wU_go _ _).2.2.2.2.1.trans cxS
  have nlg : g_nl (w_go (g_nl g) (w_shut G)) = g_nl G := w_go_nl _ _
  have hGo := fun {V lm lv ct x C O hp} (hv : lv (g_nl g) = true) (q : Y2 nt N P hp H O K (200 - f) (sb + 1) C none V lm lv ct x (w_shut G)) => KS.go (d := d) (l := g_nl g) (g := w_shut G) (by omega) (show g_nl g < g_nl G by omega) hv q
  generalize hg5 : w_go (g_nl g) (w_shut G) = g5 at *
  generalize hps : c_ps (w_pc (g_it G).length dd) = ps at *
  have mF : wM g5 (w_ctc nt (wS nt f) (g_L g) ps (g_nl g) (q0 :: r0) g5) := wM.ctc (wS_mono nt f) _ _ _ (q0 :: r0) (wM.rf g5)
  have mZ : wM (w_ctc nt (wS nt f) (g_L g) ps (g_nl g) (q0 :: r0) g5) (w_sl false (g_nl g) (w_put (g_nl g) (w_ctc nt (wS nt f) (g_L g) ps (g_nl g) (q0 :: r0) g5))) := ((wM.rf _).put _).sl _ _
  have okF := mZ.1 hok
  have ok5 : g_ok g5 := mF.1 okF
  have okG : g_ok G := mS.1 ok5
  have ok1 : g_ok g1 := ctxok (m2.1 okG)
  have clr : ∀ c, c ∈ g_cx g5 → w_cl (g_nl g) c := by rw [cxg]; exact w_cl.wK hwr (by rw [cx1]; exact hcl)
  have ckr : ∀ c, c ∈ g_cx g5 → w_cok nt N c := by rw [cxg]; exact w_cok.wK hwr (by rw [cx1]; exact hC)
  have hK2 : K < 2000 := by omega
  obtain ⟨i, lm1, lv1, ct1, x1, e1, q1, a1, c1, z1, f1, t1⟩ := lb ok1
  have f1 : yfr (yw (p_pf P) (p_lf P)) (p_pf P) x x1 := f1
  rw [eX0_tries, e1, mj_rI_k, e_openX (by omega) hK2 _ _ q1.2.1.2.1, mj_rI_k, n2 hK2, nI_clamp (by omega)]
  obtain ⟨y, hy⟩ : ∃ y, y = (mj_wI (mj_wI (mj_wI (mj_wI (mj_wI (mj_wI (mj_wI (mj_wI (mj_wI x1 0 58 (nI (K + 1))) 50 K 2) 53 K (-1)) 51 K (x1.1 0 59)) 56 K (x1.1 0 32)) 58 K (x1.1 0 28)) 0 66 (x1.1 0 66 + 1)) 52 K (x1.1 0 66)) 0 59 (nI K)) := ⟨_, rfl⟩
  rw [← hy]
  have fy : yfr (yk K) (p_pf P) x1 y := by
    rw [hy]
    exact (((((((((yfr.rf _ _ x1).w _ rfl).w _ (ykk K 50 rfl)).w _ (ykk K 53 rfl)).w _ (ykk K 51 rfl)).w _ (ykk K 56 rfl)).w _ (ykk K 58 rfl)).w _ rfl).w _ (ykk K 52 rfl)).w _ rfl
  have q2 : Y2 nt N P hp H O (K + 1) (200 - f) (sb + 1) C none ((K, x1.1 0 59, (2, 0, 0, 0, g_nx g1, (g_it g1).length, [])) :: V) lm1 lv1 ct1 y (w_ctx 2 0 0 0 g1) := by
    refine Y2.open_ (node := 0) q1 fy (by rw [hy]; rfl) hKu (by rw [hy]; rfl) (by rw [hy]; rfl) (by rw [hy]; rfl) ?_ (by decide) ?_ ?_ hs (fun _ => ⟨?_, ?_, fun q => absurd q (by decide), fun q => absurd q (by decide), fun q => absurd q (by decide), fun q => absurd q (by decide)⟩)
    · rw [hy]; exact pk_us
    · rw [hy]; exact pk_us
    · rw [hy]; exact pk_us
    · rw [hy]; exact pk_us
    · rw [hy]; exact pk_us
  obtain ⟨V3, C3, lm3, lv3, ct3, x7, c0, rr, run, hc0, hw0, hr0, q7, v7, cc7, l7, f7, t7⟩ := hgu q2 okG
  rw [hcx] at hc0
  have hdd : c0 = dd := by injection hc0 with a b; exact a.symm
  rw [hdd, hps] at q7
  rw [run (fun x7 => _)]
  have y29 : y.1 0 29 = x1.1 0 29 := fy.1 0 29 rfl
  have ffx : yfr (yw2 P K) (p_pf P) x x7 := (f1.up.tr (yk_w fy)).tr f7
  have e0 : lm3 (g_nl g) = i ∧ lv3 (g_nl g) = true ∧ ct3 (g_nl g) = false := by
    have a := l7 (g_nl g) (by omega)
    exact ⟨a.1.trans a1.1, a.2.1.trans a1.2.1, a.2.2.trans a1.2.2⟩
  refine KS.subC (C1 := C3) ?_ cc7
  rw [← v7]
  refine KS.from (G := w_shut G) (lm' := lm3) (lv' := lv3) (ct' := ct3) ?_ ffx (fun w => ?_) (fun l hl => ?_)
  · have jg := hGo e0.2.1 q7
    rw [e0.1] at jg
    have jg : KS nt N P (hp + ps.length) H ((y.1 52 K, ps) :: O) K (200 - f) (sb + 1) (g_nl G) (z_skl V3) C3 ct3 (w_shut G) (kX0 d 66 [.ref 0, .int (nI i)] x7) x7 lm3 lv3 g5 := jg
    refine KS.b (n1 := g_nl G) (by omega) (Nat.le_refl _) jg (fun V8 C8 lm8 lv8 ct8 x8 q8 v8 c8 l8 f8 mm8 => ?_)
    have le := l8 (g_nl g) (by omega)
    rw [← v8]
    obtain ⟨rb, er, hr⟩ := Y2.has (d := d) (by omega) q8
    rw [er, mj_rI_k]
    have endF : (x8.1 0 29 = 0 → ps = []) → KS nt N P hp H O K (200 - f) (sb + 1) (g_nl g) (z_skl V8) C8 ct8 g5 (mj_rV (kX0 d 92 [.ref 0, .int (y.1 52 K)] x8) fun x1 => mj_rV (kX0 d 70 [.ref 0, .int (nI i)] x1) fun x2 => some (none, x2)) x8 lm8 lv8 (w_sl false (g_nl g) (w_put (g_nl g) (w_ctc nt (wS nt f) (g_L g) ps (g_nl g) (q0 :: r0) g5))) := by
      intro hx
      obtain ⟨V9, lm9, lv9, ct9, q9, v9, l9, eF⟩ := Y2.toF (f := f) (L := g_L g) (e := g_nl g) (q := q0) (r := r0) (Nat.le_refl _) q8 hx
      have le9 := l9 (g_nl g) (by omega)
      rw [← v9]
      have nF := mF.nl
      refine KS.from (G := w_ctc nt (wS nt f) (g_L g) ps (g_nl g) (q0 :: r0) g5) (k_fpl (d := d) (by omega) (by omega) (by rw [le9.2.1, le.2.1]; exact e0.2.1) (by rw [le9.2.2, le.2.2]; exact e0.2.2) (by rw [le9.1, le.1, e0.1]) (w_cl.wK mF.2.2.2.2.2.1 clr) hclH q9) (yfr.rf _ _ _) (fun w => ⟨w, by rw [eF w]; exact yT.rf rfl rfl rfl⟩) (fun l hl => l9 l (by omega))
    cases rb with
    | false =>
      rw [if_pos (show sp_b false = (0 : Int32) from rfl)]
      exact endF (fun z => by have := hr z; cases ps with
        | nil => rfl
        | cons _ _ => exact absurd this (by simp))
    | true =>
      rw [if_neg (show ¬ sp_b true = (0 : Int32) by decide)]
      by_cases z8 : x8.1 0 29 = 0
      · rw [if_pos z8]
        have hne : ps ≠ [] := fun q => by have := hr z8; rw [q] at this; exact absurd this (by decide)
        exact k_ctc (d := d) (by omega) hf hT R hne hclH (q0 :: r0) b ps.length V8 C8 lm8 lv8 ct8 x8 g5 l1 hch (Nat.le_refl _) (fun q => by cases q) (by omega) (by rw [le.2.1]; exact e0.2.1) (by rw [le.2.2]; exact e0.2.2) (by rw [le.1, e0.1]) ckr clr q8 okF
      · rw [if_neg z8]
        exact endF (fun z => absurd z z8)
  · obtain ⟨w1, w2⟩ := t7 w
    have tz : yT x1 g1 y (w_ctx 2 0 0 0 g1) := yT.rf rfl (fy.1 0 48 rfl) (fy.1 0 47 rfl)
    exact ⟨x0, (t1.tr tz).tr w2⟩
  · have a := l7 l (by omega)
    have b := c1 l hl
    exact ⟨a.1.trans b.1, a.2.1.trans b.2.1, a.2.2.trans b.2.2⟩
theorem k_s75 {d : Nat} (hd : 6 * f + 263 ≤ d) (hT : wTb nt N M res par) (hA : wA nt N 40 n) (hk : nK nt n = 75) (hf : f + 1 ≤ 200) (x0 : x.1 0 29 = 0) (R : ∀ m, wA nt N 40 m → kS nt N f m) (hC : ∀ c, c ∈ g_cx g → w_cok nt N c) (hK : K ≤ 200 - (f + 1)) (hs : sb + 1 ≤ 2000000000) (h : Y2 nt N P hp H O K (200 - f) sb C none V lm lv ct x g) (hok : g_ok (w_bd nt (wV nt 40) (wS nt f) n g)) :
    KS nt N P hp H O K (200 - (f + 1)) (sb + 1) (g_nl g) (z_skl V) C ct g (rX0_act d (490, [some (.ref 0), some (.int n), some (.int (nA nt n)), some (.int (nB nt n)), none, none, none], [], x)) x lm lv (w_bd nt (wV nt 40) (wS nt f) n g) := by
  have e : w_bd nt (wV nt 40) (wS nt f) n g = w_try nt (wS nt f) (nA nt n) (nB nt n) g := by unfold w_bd; simp only [hk]; rfl
  rw [e] at hok ⊢
  obtain ⟨sa, b1, b2, b3⟩ := wE_try (f := 39) hT hA.1 hA.2.2 hk
  exact KS.wrap (bX0_act_490 _ _ _ _ _) (k_tries hd (by omega) hT ⟨sa.1, sa.2.1, by have := sa.2.2; omega⟩ b1 b3 x0 R hC (by omega) hs h hok) hs hK hf
end
