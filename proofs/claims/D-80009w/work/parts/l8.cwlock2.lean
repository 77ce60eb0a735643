/-! CodeWriter: statements: locks, all of it -/
def w_lk2 (nt : sp_NT) (a : Int32) (g : wG) : wG := w_es (7, 89, 0, 0, []) (g_L (wV nt 40 a 0 0 g), 12 :: 12 :: (g_st (wV nt 40 a 0 0 g)).drop 1) (wV nt 40 a 0 0 g)
def w_lk5 (nt : sp_NT) (a : Int32) (g : wG) : wG := w_es (16, 194, 0, 0, []) ((g_L (w_ts 5 [12] (w_lk2 nt a g))).take (g_nx (w_lk2 nt a g)) ++ [11], (g_st (w_ts 5 [12] (w_lk2 nt a g))).drop 1) (w_ts 5 [12] (w_lk2 nt a g))
theorem w_es_al (i : wI) (F : wF) (g : wG) : g_al (w_es i F g) = g_al g ∧ g_ov (w_es i F g) = g_ov g := by unfold w_es; cases w_q g <;> exact ⟨rfl, rfl⟩
section
variable {nt : sp_NT} {N M : Nat} {P : yP} {X : List (Nat × Bool)} {b hp : Nat} {H V : List wSl} {O : List (Int32 × List (Nat × Nat))} {K u sb : Nat} {C : Nat → Prop} {o : Option Int32} {lm lm' lm1 : Nat → Nat} {lv lv' lv1 ct ct' : Nat → Bool} {x y x1 : mj_X} {g G : wG} {res par : Nat → Int32} {f : Nat} {n : Int32}
theorem w_lk_f (hT : wTb nt N M res par) {a : Int32} (ea : wE nt N 40 a) (hq : w_q g = false) : w_q (w_lk2 nt a g) = false ∧ g_nx (w_lk2 nt a g) = g_nx g ∧ (g_nx (w_lk5 nt a g) = g_nx g + 1 ∧ g_mx (w_lk5 nt a g) = max (g_mx g) (g_nx g + 1) ∧ g_ac (w_lk5 nt a g) = g_ac g ∧ g_rg (w_lk5 nt a g) = g_rg g ∧ g_cx (w_lk5 nt a g) = g_cx g ∧ g_pl (w_lk5 nt a g) = g_pl g) := by
  have sh := ((wV_sh hT 40 _ ea).2 g 0 hq (Nat.zero_le _)).1
  obtain ⟨v0, v1, v2, v3, v4, v5, v6⟩ := sh.1.1
  have hq1 := sh.2.1
  unfold w_lk5 w_lk2
  generalize wV nt 40 a 0 0 g = g1 at *
  have u2 := wU_es (7, 89, 0, 0, []) (g_L g1, 12 :: 12 :: (g_st g1).drop 1) (g := g1)
  have a2 := w_es_al (7, 89, 0, 0, []) (g_L g1, 12 :: 12 :: (g_st g1).drop 1) g1
  generalize w_es (7, 89, 0, 0, []) (g_L g1, 12 :: 12 :: (g_st g1).drop 1) g1 = g2 at *
  obtain ⟨p1, p2, p3, p4, p5, p6⟩ := u2
  have u3 : wU (s_tk (w_tl 5).length g2) (w_ts 5 [12] g2) := wU_es (3, 5, g_nx g2, 0, []) (g_L g2 ++ [12], (g_st g2).drop (w_tl 5).length) (g := s_tk (w_tl 5).length g2)
  obtain ⟨r1, r2, r3, r4, r5, r6⟩ := u3
  generalize w_ts 5 [12] g2 = g3 at *
  obtain ⟨s1, s2, s3, s4, s5, s6⟩ := wU_es (16, 194, 0, 0, []) ((g_L g3).take (g_nx g2) ++ [11], (g_st g3).drop 1) (g := g3)
  have t1 : g_nx (s_tk (w_tl 5).length g2) = g_nx g2 + 1 := rfl
  have t2 : g_mx (s_tk (w_tl 5).length g2) = max (g_mx g2) (g_nx g2 + 1) := rfl
  refine ⟨?_, p1.trans v1, s1.trans (r1.trans (by rw [t1, p1, v1])), s2.trans (r2.trans (by rw [t2, p2, p1, v1, v2])), s3.trans (r3.trans (p3.trans v3)), s4.trans (r4.trans (p4.trans v4)), s5.trans (r5.trans (p5.trans v5)), s6.trans (r6.trans (p6.trans v6))⟩
  unfold w_q at hq1 ⊢
  rw [a2.1, a2.2]; exact hq1
theorem wM_lk5 (nt : sp_NT) (a : Int32) (g : wG) : wM g (w_lk5 nt a g) := by
  unfold w_lk5 w_lk2
  exact (((wV_mono nt 40 a 0 0 g).es _ _).ts 5 [12]).es _ _
set_option maxHeartbeats 4000000 in
theorem k_lockpre {d : Nat} {a : Int32} (hd : 253 ≤ d) (hT : wTb nt N M res par) (ea : wE nt N 40 a) (hq : w_q g = false) (hX : X.length ≤ 1) (q : Y1 nt N P X 45500 lm lv x g) (x32 : x.1 0 32 = nI (g_nx g)) (x33 : x.1 0 33 = nI (g_mx g)) (hmx : g_mx g ≤ 252) (hok : g_ok (w_lk5 nt a g)) :
    ∃ lm8 lv8 x8, (∀ kk : Int32 → mj_X → mj_R, (mj_rV (kX0 d 35 [.ref 0, .int a, .int (1 : Int32)] x) fun x3 => mj_rV (kX0 d 37 [.ref 0, .int (89 : Int32)] x3) fun x4 => mj_rI (kX0 d 33 [.ref 0, .int (5 : Int32)] x4) fun v6 x5 => mj_rV (kX0 d 39 [.ref 0, .int (5 : Int32), .int v6] x5) fun x7 => mj_rV (kX0 d 37 [.ref 0, .int (194 : Int32)] x7) fun x8 => kk v6 x8) = kk (nI (g_nx g)) x8)
      ∧ Y1 nt N P X 45500 lm8 lv8 x8 (w_lk5 nt a g) ∧ (∀ l, l < g_nl g → lm8 l = lm l ∧ lv8 l = lv l) ∧ yfr (ylk (p_pf P) (p_lf P)) (p_pf P) x x8 ∧ x8.1 0 32 = nI (g_nx g + 1) ∧ x8.1 0 33 = nI (max (g_mx g) (g_nx g + 1)) ∧ g_nx g < 250 ∧ (x8.1 0 29 = 0 → x.1 0 29 = 0 ∧ yT x g x8 (w_lk5 nt a g)) := by
  obtain ⟨hq2, nx2, -⟩ := w_lk_f (g := g) hT ea hq
  have m1 := wV_mono nt 40 a 0 0 g
  unfold w_lk5 at hok ⊢
  unfold w_lk2 at hok hq2 nx2 ⊢
  have j1 := (kV_all hT 40 a ea P X 45500 lm lv x g d (by omega) (by omega) q).1
  generalize wV nt 40 a 0 0 g = g1 at *
  have m2 : wM g1 (w_es (7, 89, 0, 0, []) (g_L g1, 12 :: 12 :: (g_st g1).drop 1) g1) := (wM.rf g1).es _ _
  have c2 := fun {lm lv x} (q1 : Y1 nt N P X 45500 lm lv x g1) => c_es1 (d := d) (n := g_nl g1) (F := (g_L g1, 12 :: 12 :: (g_st g1).drop 1)) (i := (7, 89, 0, 0, [])) (cc := 89) (by omega) q1 ⟨fun _ => rfl, fun _ _ => rfl⟩
  generalize w_es (7, 89, 0, 0, []) (g_L g1, 12 :: 12 :: (g_st g1).drop 1) g1 = g2 at *
  have m3 : wM g2 (w_ts 5 [12] g2) := (wM.rf g2).ts _ _
  have hts : g_ok (w_ts 5 [12] g2) → g_nx g2 < 250 := fun z => (z.2 hq2).2
  have hS3 : ySame (w_es (3, 5, g_nx g2, 0, []) (g_L g2 ++ [12], (g_st g2).drop (w_tl 5).length) (s_tk (w_tl 5).length g2)) (w_ts 5 [12] g2) := ⟨rfl, rfl, rfl, rfl, rfl, rfl, rfl, rfl, rfl, rfl⟩
  have hP3 : g_pl (w_ts 5 [12] g2) = g_pl (w_es (3, 5, g_nx g2, 0, []) (g_L g2 ++ [12], (g_st g2).drop (w_tl 5).length) (s_tk (w_tl 5).length g2)) := rfl
  have hH3 : w_ph (w_ts 5 [12] g2) = w_ph (w_es (3, 5, g_nx g2, 0, []) (g_L g2 ++ [12], (g_st g2).drop (w_tl 5).length) (s_tk (w_tl 5).length g2)) := rfl
  have hn3 : g_nl (w_es (3, 5, g_nx g2, 0, []) (g_L g2 ++ [12], (g_st g2).drop (w_tl 5).length) (s_tk (w_tl 5).length g2)) = g_nl (w_ts 5 [12] g2) := rfl
  have hi3 : g_it (w_ts 5 [12] g2) = g_it (w_es (3, 5, g_nx g2, 0, []) (g_L g2 ++ [12], (g_st g2).drop (w_tl 5).length) (s_tk (w_tl 5).length g2)) := rfl
  generalize hg3 : w_ts 5 [12] g2 = g3 at *
  have m5 : wM g3 (w_es (16, 194, 0, 0, []) ((g_L g3).take (g_nx g2) ++ [11], (g_st g3).drop 1) g3) := (wM.rf g3).es _ _
  have ok3 := m5.1 hok
  have ok2 := m3.1 ok3
  have ok1 := m2.1 ok2
  have h250 := hts ok3
  have nl1 := m1.nl
  have nl2 := m2.nl
  have nl3 := m3.nl
  obtain ⟨lm1, lv1, x3, e1, q1, l1, f1, t1⟩ := j1 ok1
  obtain ⟨lm2, lv2, x4, e2, q2, l2, f2, t2⟩ := c2 q1
  have x432 : x4.1 0 32 = nI (g_nx g) := ((yU.of f2).1 32 rfl).trans (((yU.of f1).1 32 rfl).trans x32)
  have x433 : x4.1 0 33 = nI (g_mx g) := ((yU.of f2).1 33 rfl).trans (((yU.of f1).1 33 rfl).trans x33)
  have f5 : yfr yo4 (p_pf P) x4 (mj_wI (mj_wI x4 0 32 (x4.1 0 32 + sp_pl 5)) 0 33 (mj_max (x4.1 0 33) (x4.1 0 32 + sp_pl 5))) := ((yfr.rf _ _ x4).w _ rfl).w _ rfl
  have q3 := q2.num (G := s_tk (w_tl 5).length g2) f5 rfl ⟨rfl, rfl, rfl, rfl, rfl, rfl, rfl, rfl, rfl, rfl⟩ rfl rfl
  obtain ⟨d, rfl⟩ : ∃ e, d = e + 1 := ⟨d - 1, by omega⟩
  have js : KJ nt N P X 45500 (g_nl g2) (s_tk (w_tl 5).length g2) (kX0 (d + 1) 39 [.ref 0, .int (nI 5), .int (nI (g_nx g2))] (mj_wI (mj_wI x4 0 32 (x4.1 0 32 + sp_pl 5)) 0 33 (mj_max (x4.1 0 33) (x4.1 0 32 + sp_pl 5)))) (mj_wI (mj_wI x4 0 32 (x4.1 0 32 + sp_pl 5)) 0 33 (mj_max (x4.1 0 33) (x4.1 0 32 + sp_pl 5))) lm2 lv2 (w_es (3, 5, g_nx g2, 0, []) (g_L g2 ++ [12], (g_st g2).drop (w_tl 5).length) (s_tk (w_tl 5).length g2)) := by
    rw [eX0_store]
    exact (c_acc2 (far := 54) (near := 59) (by omega) (Or.inr ⟨rfl, rfl, rfl⟩) (by decide) (by decide) (by omega) q3).end_
  obtain ⟨lm3, lv3, x7, e3, q4, l3, f3, t3⟩ := js
  have q5 := q4.num (G := g3) (yfr.rf _ _ _) rfl hS3 hP3 hH3
  obtain ⟨lm5, lv5, x8, e5, q6, l5, f6, t5⟩ := c_es1 (d := d + 1) (n := g_nl g3) (F := ((g_L g3).take (g_nx g2) ++ [11], (g_st g3).drop 1)) (i := (16, 194, 0, 0, [])) (cc := 194) (by omega) q5 ⟨fun _ => rfl, fun _ _ => rfl⟩
  have f45 : yfr (ylk (p_pf P) (p_lf P)) (p_pf P) x4 (mj_wI (mj_wI x4 0 32 (x4.1 0 32 + sp_pl 5)) 0 33 (mj_max (x4.1 0 33) (x4.1 0 32 + sp_pl 5))) := ((yfr.rf _ _ x4).w _ (show (_ || true) = true from Bool.or_true _)).w _ (show (_ || true) = true from Bool.or_true _)
  have k32 : ∀ j, j = 32 ∨ j = 33 → x8.1 0 j = (mj_wI (mj_wI x4 0 32 (x4.1 0 32 + sp_pl 5)) 0 33 (mj_max (x4.1 0 33) (x4.1 0 32 + sp_pl 5))).1 0 j := by
    intro j hj
    rcases hj with rfl | rfl
    · exact ((yU.of f6).1 32 rfl).trans ((yU.of f3).1 32 rfl)
    · exact ((yU.of f6).1 33 rfl).trans ((yU.of f3).1 33 rfl)
  have s5 : sp_pl 5 = nI 1 := rfl
  refine ⟨lm5, lv5, x8, fun kk => ?_, q6, fun l hl => ?_, ((((ylk_of f1).tr (ylk_of f2)).tr f45).tr (ylk_of f3)).tr (ylk_of f6), ?_, ?_, by omega, fun w => ?_⟩
  · rw [e1, mj_rV_k, e2, mj_rV_k, e_takeX (by omega), mj_rI_k]
    have e3' : kX0 (d + 1) 39 [.ref 0, .int (5 : Int32), .int (x4.1 0 32)] (mj_wI (mj_wI x4 0 32 (x4.1 0 32 + sp_pl 5)) 0 33 (mj_max (x4.1 0 33) (x4.1 0 32 + sp_pl 5))) = some (none, x7) := by
      rw [x432, ← nx2] at *; exact e3
    rw [e3', mj_rV_k, e5, mj_rV_k, x432]
  · have a := l1 l hl
    have b := l2 l (by omega)
    have c := l3 l (by omega)
    have e := l5 l (by omega)
    exact ⟨e.1.trans (c.1.trans (b.1.trans a.1)), e.2.trans (c.2.trans (b.2.trans a.2))⟩
  · rw [k32 32 (Or.inl rfl)]
    show x4.1 0 32 + sp_pl 5 = _
    rw [x432, s5, nI_add]
  · rw [k32 33 (Or.inr rfl)]
    show mj_max (x4.1 0 33) (x4.1 0 32 + sp_pl 5) = _
    rw [x433, x432, s5, nI_add, nI_max (by omega) (by omega)]
  · obtain ⟨w5, u5⟩ := t5 w
    obtain ⟨w3, u3⟩ := t3 w5
    obtain ⟨w2, u2⟩ := t2 w3
    obtain ⟨w1, u1⟩ := t1 w2
    have a : yT x4 g2 (mj_wI (mj_wI x4 0 32 (x4.1 0 32 + sp_pl 5)) 0 33 (mj_max (x4.1 0 33) (x4.1 0 32 + sp_pl 5))) (s_tk (w_tl 5).length g2) := yT.rf rfl rfl rfl
    have b : yT x7 (w_es (3, 5, g_nx g2, 0, []) (g_L g2 ++ [12], (g_st g2).drop (w_tl 5).length) (s_tk (w_tl 5).length g2)) x7 g3 := yT.rf hi3 rfl rfl
    exact ⟨w1, ((((u1.tr u2).tr a).tr u3).tr b).tr u5⟩
set_option maxHeartbeats 4000000 in
theorem k_s80 {d : Nat} (hd : 6 * f + 263 ≤ d) (hT : wTb nt N M res par) (hA : wA nt N 40 n) (hk : nK nt n = 80) (hf : f + 1 ≤ 200) (x0 : x.1 0 29 = 0) (hq : w_q g = false) (R : ∀ m, wA nt N 40 m → kS nt N f m) (hC : ∀ c, c ∈ g_cx g → w_cok nt N c) (hK : K ≤ 200 - (f + 1)) (hs : sb + 1 ≤ 2000000000) (h : Y2 nt N P hp H O K (200 - f) sb C none V lm lv ct x g) (hok : g_ok (w_bd nt (wV nt 40) (wS nt f) n g)) :
    KS nt N P hp H O K (200 - (f + 1)) (sb + 1) (g_nl g) (z_skl V) C ct g (rX0_act d (499, [some (.ref 0), some (.int n), some (.int (nA nt n)), some (.int (nB nt n)), none, none, none], [], x)) x lm lv (w_bd nt (wV nt 40) (wS nt f) n g) := by
  have e : w_bd nt (wV nt 40) (wS nt f) n g = s_nx (g_nx g) (s_L ((g_L (w_ended (wS nt f) 4 (nB nt n) (nI (g_nx (w_lk2 nt (nA nt n) g))) (w_lk5 nt (nA nt n) g))).take (g_nx g)) (w_ended (wS nt f) 4 (nB nt n) (nI (g_nx (w_lk2 nt (nA nt n) g))) (w_lk5 nt (nA nt n) g))) := by unfold w_bd; simp only [hk]; rfl
  rw [e] at hok ⊢
  clear e
  obtain ⟨ea, ta5, ta8, sB⟩ := wE_lock (f := 39) hT hA.1 hA.2.2 hk
  have ea := ea.mono (show 39 ≤ 40 by omega)
  have sb1 : wA nt N 40 (nB nt n) := ⟨sB.1, sB.2.1, by have := sB.2.2; omega⟩
  obtain ⟨hcl, hclH⟩ := h.cl x0
  obtain ⟨d, rfl⟩ : ∃ e, d = e + 1 := ⟨d - 1, by omega⟩
  obtain ⟨hq2, nx2, nx5, mx5, ac5, rg5, cx5, pl5⟩ := w_lk_f (g := g) hT ea hq
  have m5 := wM_lk5 nt (nA nt n) g
  rw [nx2] at hok ⊢
  have n32 := (h.ex x0).2.2.2.1
  have pre := fun {x i} (q : Y1 nt N (pH P hp) [(i, true)] 45500 lm lv x g) a b okl => k_lockpre (nt := nt) (N := N) (M := M) (P := pH P hp) (X := [(i, true)]) (lm := lm) (lv := lv) (x := x) (g := g) (res := res) (par := par) (d := d) (a := nA nt n) (by omega) hT ea hq (by simp) q a b n32.2.2.2.1 okl
  generalize hg5 : w_lk5 nt (nA nt n) g = g5 at *
  -- S behind it
  have m2 : wM (w_ctx 4 (nI (g_nx g)) 0 0 (w_lb (g_L g5, []) g5)) (w_aln (wS nt f) (nB nt n) (w_ctx 4 (nI (g_nx g)) 0 0 (w_lb (g_L g5, []) g5))) := (wM.rf _).aln (wS_mono nt f) _
  obtain ⟨-, dd, r, hcx, hwk, hwr⟩ := wM.in_ (g := w_lb (g_L g5, []) g5) (c := (4, nI (g_nx g), 0, 0, g_nx (w_lb (g_L g5, []) g5), (g_it (w_lb (g_L g5, []) g5)).length, [])) m2
  have E : w_ended (wS nt f) 4 (nB nt n) (nI (g_nx g)) g5 = w_sl false (g_nl g5) (w_put (g_nl g5) (s_nx (g_nx g5) (w_gd (wS nt f) (g_L g5) (c_ps (w_pc (g_it (w_aln (wS nt f) (nB nt n) (w_ctx 4 (nI (g_nx g)) 0 0 (w_lb (g_L g5, []) g5)))).length dd)) 4 (4, nI (g_nx g), 0, 0, g_nx g5, 0, []) (g_nx g5) (w_eg (wS nt f) (g_nl g5) (g_nx g5) (4, nI (g_nx g), 0, 0, g_nx g5, 0, []) (w_shut (w_aln (wS nt f) (nB nt n) (w_ctx 4 (nI (g_nx g)) 0 0 (w_lb (g_L g5, []) g5)))))))) := by
    unfold w_ended
    simp only [hcx]
    rfl
  rw [E, w_put_nx, w_sl_nx] at hok ⊢
  clear E
  have nL1 : g_nl (w_lb (g_L g5, []) g5) = g_nl g5 + 1 := rfl
  have nxL : g_nx (w_lb (g_L g5, []) g5) = g_nx g5 := rfl
  have mxL : g_mx (w_lb (g_L g5, []) g5) = g_mx g5 := rfl
  have acL : g_ac (w_lb (g_L g5, []) g5) = g_ac g5 := rfl
  have rgL : g_rg (w_lb (g_L g5, []) g5) = g_rg g5 := rfl
  have cxL : g_cx (w_lb (g_L g5, []) g5) = g_cx g5 := rfl
  have plL : g_pl (w_lb (g_L g5, []) g5) = g_pl g5 := rfl
  have itL : g_it (w_lb (g_L g5, []) g5) = g_it g5 := rfl
  have mL : wM g5 (w_lb (g_L g5, []) g5) := (wM.rf g5).lb _
  have ad := fun {i lm lv x} (q : Y1 nt N (pH P hp) [(i, true)] 45500 lm lv x g5) okl => Y1.adopt (F := (g_L g5, [])) q okl
  generalize hgL : w_lb (g_L g5, []) g5 = gL at *
  have mD := wM_gd (wS_mono nt f) (g_L g5) (c_ps (w_pc (g_it (w_aln (wS nt f) (nB nt n) (w_ctx 4 (nI (g_nx g)) 0 0 gL))).length dd)) 4 (4, nI (g_nx g), 0, 0, g_nx g5, 0, []) (g_nx g5) (w_eg (wS nt f) (g_nl g5) (g_nx g5) (4, nI (g_nx g), 0, 0, g_nx g5, 0, []) (w_shut (w_aln (wS nt f) (nB nt n) (w_ctx 4 (nI (g_nx g)) 0 0 gL))))
  have mE := wM_eg (wS_mono nt f) (g_nl g5) (g_nx g5) (4, nI (g_nx g), 0, 0, g_nx g5, 0, []) (w_shut (w_aln (wS nt f) (nB nt n) (w_ctx 4 (nI (g_nx g)) 0 0 gL)))
  have mZ := ((wM.rf (w_gd (wS nt f) (g_L g5) (c_ps (w_pc (g_it (w_aln (wS nt f) (nB nt n) (w_ctx 4 (nI (g_nx g)) 0 0 gL))).length dd)) 4 (4, nI (g_nx g), 0, 0, g_nx g5, 0, []) (g_nx g5) (w_eg (wS nt f) (g_nl g5) (g_nx g5) (4, nI (g_nx g), 0, 0, g_nx g5, 0, []) (w_shut (w_aln (wS nt f) (nB nt n) (w_ctx 4 (nI (g_nx g)) 0 0 gL)))))).put (g_nl g5)).sl false (g_nl g5)
  have okD := mZ.1 hok
  have okL : g_ok gL := m2.1 (mE.1 (mD.1 okD))
  have ok5 : g_ok g5 := mL.1 okL
  have n5 := m5.nl
  -- the label that is held, the value, the lock
  have q0 : Y1 nt N (pH P hp) [] 45500 lm lv x g := h.vx x0 (by omega) (by omega)
  obtain ⟨i, x1, e1, q1, f1, z1, t1⟩ := c_lbX (d := d) (by omega) q0 x0 (by simp)
  have f1 : yfr (yw (p_pf P) (p_lf P)) (p_pf P) x x1 := f1
  have x132 : x1.1 0 32 = nI (g_nx g) := ((yU.of f1).1 32 rfl).trans n32.1
  have x133 : x1.1 0 33 = nI (g_mx g) := ((yU.of f1).1 33 rfl).trans n32.2.2.1
  obtain ⟨lm8, lv8, x8, run, q8, l8, f8, x832, x833, h250, t8⟩ := pre q1 x132 x133 ok5
  have q9 := ad q8 okL
  have fx8 : yfr (ylk (p_pf P) (p_lf P)) (p_pf P) x x8 := (ylk_of f1).tr f8
  have x860 : x8.1 0 60 = nI (g_ac g) := (fx8.1 0 60 rfl).trans n32.2.2.2.2.1
  have qL := h.lift (nl := g_nl g) x0 q9 (by omega) (m5.tr mL) (acL.trans ac5) (rgL.trans rg5) (cxL.trans cx5) (plL.trans pl5) rfl fx8 (fun l hl => ⟨(if_neg (by omega)).trans (l8 l hl).1, (if_neg (by omega)).trans (l8 l hl).2⟩) (fun _ => by
    unfold yNn
    rw [nxL, nx5, mxL, mx5, acL, ac5]
    exact ⟨x832, by omega, x833, by have := n32.2.2.2.1; omega, x860, n32.2.2.2.2.2⟩)
  have hk1 : x.1 1 n.toNatClampNeg = 80 := by rw [h.T.1]; exact hk
  refine KS.wrap (bX0_act_499 _ _ _ _ _) ?_ hs hK hf
  rw [eX0_guarded, h.nd hA.1, hk1, if_pos rfl, bX0_guarded_16, e1, mj_rI_k, if_neg (by decide), run (fun v6 x8 => _), bX0_guarded_71, if_neg (by decide), if_neg (by decide)]
  have key := k_from92 (d := d) (e := g_nl g5) (nx6 := g_nx g) (sort := 4) (node := nI (g_nx g)) (sx := nB nt n) (a1 := n) (a2 := nA nt n) (a3 := nB nt n) (a5 := nI i) (a6 := x1.1 0 32) (a7 := nI (g_nx g)) (s2 := -1) (L := g_L g5) (by omega) (by omega) hT R (by decide) (by decide) sb1 (fun _ _ => ⟨fun q => absurd q (show ¬ (4 : Nat) = 3 by decide), fun _ => ⟨g_nx g, by omega, rfl⟩⟩) rfl (fun q => absurd q (by decide)) (fun _ _ => rfl) (fun _ => ⟨x132, n32.2.1⟩) (by rw [cxL, cx5]; exact hC) (by omega) hs (by omega) (if_pos rfl) (if_neg (by omega)) (by rw [if_pos rfl]) (by
    rw [cxL, cx5]
    exact fun c hc => ⟨fun z => by have := (hcl c hc).1 z; omega, fun z => by have := (hcl c hc).2 z; omega⟩) (fun s hs' => ⟨fun z => by have := (hclH s hs').1 z; omega, fun z => by have := (hclH s hs').2 z; omega⟩) qL hcx (by rw [nxL]; exact okD)
  rw [nxL, w_put_nx, w_sl_nx] at key
  have key2 := (KS.le key n5).from (x := x) (lm := lm) (lv := lv) (ct := ct) (g := g) (ylk_w fx8) (fun w => by
    obtain ⟨w1, w2⟩ := t8 w
    exact ⟨x0, (t1.tr w2).tr (yT.rf itL rfl rfl)⟩) (fun l hl => ⟨(if_neg (by omega)).trans (l8 l hl).1, (if_neg (by omega)).trans (l8 l hl).2, if_pos hl⟩)
  obtain ⟨V9, C9, lm9, lv9, ct9, x9, e9, q9', v9, c9, l9, f9, t9⟩ := key2
  exact ⟨V9, C9, lm9, lv9, ct9, x9, e9, q9'.same ⟨rfl, rfl, rfl, rfl, rfl, rfl, rfl, rfl, rfl, rfl⟩ ⟨rfl, rfl, rfl, rfl, rfl, rfl⟩, v9, c9, l9, f9, fun w => ⟨(t9 w).1, (t9 w).2.tr (yT.rf rfl rfl rfl)⟩⟩
end
