/-! CodeWriter: a switch as a statement; every statement -/
theorem w_cl.up {n m : Nat} {c : wC} (h : w_cl n c) (hm : n ≤ m) : w_cl m c := ⟨fun q => Nat.lt_of_lt_of_le (h.1 q) hm, fun q => Nat.lt_of_lt_of_le (h.2 q) hm⟩
section
variable {nt : sp_NT} {N M : Nat} {P : yP} {hp : Nat} {H V : List wSl} {O : List (Int32 × List (Nat × Nat))} {K u sb : Nat} {C C1 : Nat → Prop} {o : Option Int32} {lm lm' lm1 : Nat → Nat} {lv lv' lv1 ct ct' : Nat → Bool} {x y x1 : mj_X} {g G : wG} {res par : Nat → Int32} {f : Nat} {n : Int32}
theorem KS.less {k : Nat} {S : List (Nat × Int32)} {r : mj_R} (h : KS nt N P hp H O K u sb k S C1 ct g r x lm lv G) (hc : ∀ i, C i → C1 i) : KS nt N P hp H O K u sb k S C ct g r x lm lv G := by
  obtain ⟨V', C', lm', lv', ct', x', e, q, v, c, r⟩ := h
  exact ⟨V', C', lm', lv', ct', x', e, q, v, fun i hi => c i (hc i hi), r⟩
theorem k_choose {d : Nat} (hd : 6 * f + 263 ≤ d) (hf : f + 1 ≤ 200) {a b : Int32} (hT : wTb nt N M res par) (ea : wE nt N 40 a) (nb : sp_nd N b = true) (kb : nK nt b = 82) (x0 : x.1 0 29 = 0) (hq : w_q g = false) (R : ∀ m, wA nt N 40 m → kS nt N f m) (hC : ∀ c, c ∈ g_cx g → w_cok nt N c) (hKu : K ≤ 200 - (f + 1)) (hsb : sb + 1 ≤ 2000000000) (h : Y2 nt N P hp H O K (200 - f) sb C none V lm lv ct x g)
    (hok : g_ok (w_swt nt (wV nt 40) (wS nt f) a b g)) :
    KS nt N P hp H O K (200 - f) (sb + 1) (g_nl g) (z_skl V) C ct g (kX0 d 84 [.ref 0, .int a, .int b] x) x lm lv (w_swt nt (wV nt 40) (wS nt f) a b g) := by
  obtain ⟨d, rfl⟩ : ∃ c, d = c + 1 := ⟨d - 1, by omega⟩
  obtain ⟨l, l1, l2⟩ := hT.chain (K := 82) (Or.inr (Or.inr (Or.inl rfl))) (Or.inr ⟨nb, kb⟩)
  have hlen : l.length ≤ 40 := ch82_len hT l b 40 l1 (Or.inr (hT.d nb).2)
  have hmem := sp_Ch_mem l b l1
  have uq := hT.uniq l b l1 (by omega)
  have hkk : ∀ p, p ∈ l → nK nt (nA nt p) = 83 ∨ nK nt (nA nt p) = 84 := by
    intro p hp
    have hch : wCh nt N 40 82 l := by rw [← l2]; exact hT.ch (K := 82) (Or.inr (Or.inr (Or.inl rfl))) 4001 (Or.inr ⟨nb, (hT.d nb).2, kb⟩)
    obtain ⟨p1, p2, p3⟩ := hch p hp
    exact (wE_cases hT p1 (show nD nt p ≤ 39 + 1 by omega) p3).1.2.2
  obtain ⟨hcl, hclH⟩ := h.cl x0
  have mv := wV_mono nt 40 a 0 0 g
  have sh := ((wV_sh hT 40 a ea).2 g 0 hq (Nat.zero_le _)).1
  have E : w_swt nt (wV nt 40) (wS nt f) a b g = (let g1 := wV nt 40 a 0 0 g
    let cs := w_csl nt (g_nl g1 + 1) l
    let G2 := w_sw2 (g_L g1, (g_st g1).drop 1) cs (w_lb (g_L g1, (g_st g1).drop 1) g1)
    let i := w_swi (w_oth nt (g_nl g1) cs) (w_keys nt cs)
    w_sl false (g_nl g1) (w_put (g_nl g1) (w_shut (w_cses nt (wS nt f) cs (s_cx ((1, 0, g_nl g1, 0, g_nx G2, (g_it G2).length, []) :: g_cx G2) (s_al false (w_comes i.2.2.2.2 (w_em i 1 [] G2)))))))) := by
    unfold w_swt
    simp only [l2]
    rw [show w_lbs (g_L (wV nt 40 a 0 0 g), (g_st (wV nt 40 a 0 0 g)).drop 1) ((w_csl nt (g_nl (wV nt 40 a 0 0 g) + 1) l).length + 1) (wV nt 40 a 0 0 g) = w_lbs (g_L (wV nt 40 a 0 0 g), (g_st (wV nt 40 a 0 0 g)).drop 1) (w_csl nt (g_nl (wV nt 40 a 0 0 g) + 1) l).length (w_lb (g_L (wV nt 40 a 0 0 g), (g_st (wV nt 40 a 0 0 g)).drop 1) (wV nt 40 a 0 0 g)) from rfl, w_sw2_eq]
    generalize w_sw2 (g_L (wV nt 40 a 0 0 g), (g_st (wV nt 40 a 0 0 g)).drop 1) (w_csl nt (g_nl (wV nt 40 a 0 0 g) + 1) l) (w_lb (g_L (wV nt 40 a 0 0 g), (g_st (wV nt 40 a 0 0 g)).drop 1) (wV nt 40 a 0 0 g)) = G2
    unfold w_ctx
    rw [w_em_cx, w_comes_cx]
    rfl
  rw [E] at hok ⊢
  clear E
  simp only at hok ⊢
  have okV : g_ok (wV nt 40 a 0 0 g) → True := fun _ => trivial
  have hval := k_valB (d := d) (by omega) hT ea hq x0 h
  have hwu : wU g (wV nt 40 a 0 0 g) := sh.1.1.2
  have hq1 : w_q (wV nt 40 a 0 0 g) = false := sh.2.1
  generalize hg1 : wV nt 40 a 0 0 g = g1 at *
  generalize hF : ((g_L g1, (g_st g1).drop 1) : wF) = F at *
  have hokp := ((wM.rf _).sl false (g_nl g1)).1 hok
  have hcsl := w_csl_s nt l (g_nl g1 + 1)
  have hcsd : (w_csl nt (g_nl g1 + 1) l).Pairwise (fun a b => a.1.toNatClampNeg ≠ b.1.toNatClampNeg) := by
    have : ((w_csl nt (g_nl g1 + 1) l).map (fun q => q.1)).Pairwise (fun a b => a.toNatClampNeg ≠ b.toNatClampNeg) := by
      rw [hcsl.1, List.pairwise_map]
      refine List.Pairwise.imp_of_mem (fun {p q} hp hq' hh e => ?_) uq
      have ep := sp_nd_eq hT.2.2 (hmem p hp).2
      have eq := sp_nd_eq hT.2.2 (hmem q hq').2
      have e1 : nA nt p = nA nt q := ep.trans ((congrArg nI e).trans eq.symm)
      exact (sp_nw_k hh (by rw [e1])).1 (by rw [e1])
    exact (List.pairwise_map (f := fun q : Int32 × Nat => q.1)).mp this
  have hoth : z_of nt (g_nl g1) (w_csl nt (g_nl g1 + 1) l) = w_oth nt (g_nl g1) (w_csl nt (g_nl g1 + 1) l) := by
    refine z_of_oth _ _ ?_
    have : ((w_csl nt (g_nl g1 + 1) l).map (fun q => q.1)).Pairwise (fun a b => ¬ (nK nt a = 84 ∧ nK nt b = 84)) := by
      rw [hcsl.1, List.pairwise_map]
      exact uq.imp (fun {p q} hh (e : nK nt (nA nt p) = 84 ∧ nK nt (nA nt q) = 84) => (sp_nw_k hh (by rw [e.1, e.2])).2 e.1)
    exact (List.pairwise_map (f := fun q : Int32 × Nat => q.1)).mp this
  have mL : wM g1 (w_lb F g1) := (wM.rf g1).lb F
  have nL : g_nl (w_lb F g1) = g_nl g1 + 1 := rfl
  have cx0 : g_cx (w_lb F g1) = g_cx g1 := rfl
  have aov0 : g_al (w_lb F g1) = g_al g1 ∧ g_ov (w_lb F g1) = g_ov g1 := ⟨rfl, rfl⟩
  have f2 := w_sw2_f F (w_csl nt (g_nl g1 + 1) l) (w_lb F g1)
  have get2 := w_sw2_get F (w_csl nt (g_nl g1 + 1) l) (w_lb F g1) hcsd
  have hsw := fun (i : Nat) => k_swL (nt := nt) (N := N) (P := P) (hp := hp) (H := H) (V := V) (O := O) (K := K) (u := 200 - f) (sb := sb) (d := d) (a1 := a) (a2 := b) (a3 := nI i) (F := F) (by omega) hT l b (0, 0, 0) (g_nl g1) 45501 C
  obtain ⟨m23, al2, ov2, -, -, n22, cx2, -⟩ := f2
  rw [nL] at n22
  have q2f : w_q (w_sw2 F (w_csl nt (g_nl g1 + 1) l) (w_lb F g1)) = false := (w_q_iff _).mpr ⟨by rw [al2, aov0.1]; exact ((w_q_iff g1).mp hq1).1, by rw [ov2, aov0.2]; exact ((w_q_iff g1).mp hq1).2⟩
  have ecs : w_csl nt (g_nl (w_lb F g1)) l = w_csl nt (g_nl g1 + 1) l := rfl
  have hcases := fun (a3 a4 a5 a6 a7 a8 a9 hr : Int32) (V' : List wSl) => k_swC (nt := nt) (N := N) (P := P) (hp := hp) (H := H) (V := V') (O := O) (K := K) (sb := sb) (f := f) (d := d) (e := g_nl g1) (a1 := a) (a2 := b) (a3 := a3) (a4 := a4) (a5 := a5) (a6 := a6) (a7 := a7) (a8 := a8) (a9 := a9) (hr := hr) (by omega) (by omega) hT R (fun s hs => (hclH s hs).up mv.nl) l b (g_nl g1 + 1)
  generalize hcs : w_csl nt (g_nl g1 + 1) l = cs at *
  generalize hG2 : w_sw2 F cs (w_lb F g1) = G2 at *
  have htab := fun (oth : Nat) (C' : Nat → Prop) (lm' : Nat → Nat) (lv' ct' : Nat → Bool) (x' : mj_X) (i : Nat) (o9 : Option Value) => k_tab2 (nt := nt) (N := N) (P := P) (hp := hp) (H := H) (V := V) (O := O) (K := K) (u := 200 - f) (sb := sb) (C := C') (lm := lm') (lv := lv') (ct := ct') (x := x') (G := G2) (d := d) (oth := oth) (a1 := a) (a3 := nI i) (o9 := o9) (by omega) hT l1 hlen hkk hcsl.1 get2 q2f
  generalize hi : w_swi (w_oth nt (g_nl g1) cs) (w_keys nt cs) = i at *
  have m24 : wM G2 (s_al false (w_comes i.2.2.2.2 (w_em i 1 [] G2))) := (wM.comes _ ((wM.rf _).em _ _ _)).s_al _
  have u24 : wU G2 (s_al false (w_comes i.2.2.2.2 (w_em i 1 [] G2))) := wU_comes _ _ _ _ _
  -- the state with the context
  have hG5 : ∀ Y : wG, g_nx Y = g_nx G2 → g_cx Y = g_cx G2 → s_cx (w_from (g_it G2).length (1, 0, g_nl g1, 0, g_nx Y, (g_it Y).length, []) :: (g_cx (w_ctx 1 0 (g_nl g1) 0 Y)).tail) (w_ctx 1 0 (g_nl g1) 0 Y) = s_cx ((1, 0, g_nl g1, 0, g_nx G2, (g_it G2).length, []) :: g_cx G2) Y := by
    intro Y e1 e2
    rw [← e1, ← e2]; rfl
  have hG5 := hG5 _ u24.1 u24.2.2.2.2.1
  have okc : ∀ (c : List wC) (Y : wG), g_ok (s_cx c Y) → g_ok Y := fun _ _ z => z
  have nl5 : ∀ (c : List wC) (Y : wG), g_nl (s_cx c Y) = g_nl Y := fun _ _ => rfl
  have cx5 : ∀ (c : List wC) (Y : wG), g_cx (s_cx c Y) = c := fun _ _ => rfl
  have m5 : wM (s_cx ((1, 0, g_nl g1, 0, g_nx G2, (g_it G2).length, []) :: g_cx G2) (s_al false (w_comes i.2.2.2.2 (w_em i 1 [] G2)))) (w_cses nt (wS nt f) cs (s_cx ((1, 0, g_nl g1, 0, g_nx G2, (g_it G2).length, []) :: g_cx G2) (s_al false (w_comes i.2.2.2.2 (w_em i 1 [] G2))))) := wM.cses (wS_mono nt f) _ (wM.rf _)
  have ok5 : g_ok (w_cses nt (wS nt f) cs (s_cx ((1, 0, g_nl g1, 0, g_nx G2, (g_it G2).length, []) :: g_cx G2) (s_al false (w_comes i.2.2.2.2 (w_em i 1 [] G2))))) := by
    have := ((wM.rf (w_shut (w_cses nt (wS nt f) cs (s_cx ((1, 0, g_nl g1, 0, g_nx G2, (g_it G2).length, []) :: g_cx G2) (s_al false (w_comes i.2.2.2.2 (w_em i 1 [] G2))))))).put (g_nl g1)).1 hokp
    exact this
  have ok4 := okc _ _ (m5.1 ok5)
  have ok2 := m24.1 ok4
  have okl := m23.1 ok2
  have ok1 := mL.1 okl
  have nl4 : g_nl G2 ≤ g_nl (s_al false (w_comes i.2.2.2.2 (w_em i 1 [] G2))) := m24.nl
  have hT45 : ∀ (z : mj_X) (c : List wC), yT z (s_al false (w_comes i.2.2.2.2 (w_em i 1 [] G2))) z (s_cx c (s_al false (w_comes i.2.2.2.2 (w_em i 1 [] G2)))) := fun z c => yT.rf rfl rfl rfl
  generalize hG4 : s_al false (w_comes i.2.2.2.2 (w_em i 1 [] G2)) = G4 at *
  -- the walk
  rw [eX0_choose]
  obtain ⟨lmv, lvv, ctv, xv, ev, qv, lv_, fv, tv, hLv⟩ := hval ok1
  have fv : yfr (yw (p_pf P) (p_lf P)) (p_pf P) x xv := fv
  rw [ev, mj_rV_k]
  obtain ⟨i0, lm2, lv2, ct2, x2, e2, q2, a2', c2, z2, fr2, hL2, t2⟩ := Y2.lb2 (F := F) (d := d) (by omega) qv hLv (by omega) okl
  have fr2 : yfr (yw (p_pf P) (p_lf P)) (p_pf P) xv x2 := fr2
  rw [e2, mj_rI_k]
  obtain ⟨C3, lm3, lv3, ct3, x3, o9, e3, q3, cC, c3, p3, fr3, z3, t3, ho3⟩ := hsw i0 lm2 lv2 ct2 x2 (w_lb F g1) none l1 hkk (by show 0 + l.length < 4000; omega) (by omega) (by rw [nL]; omega) q2 hL2 (by rw [ecs, hG2]; exact ok2)
  rw [ecs] at e3 p3
  rw [ecs, hG2] at q3 t3
  rw [hoth] at e3
  have ee : nI (lm2 (g_nl g1)) = nI i0 := by rw [a2'.1]
  rw [ee] at e3
  rw [show rX0_choose d (26, [some (.ref 0), some (.int a), some (.int b), some (.int (nI i0)), some (.int (0 : Int32)), some (.int (0 : Int32)), some (.int (0 : Int32)), some (.int (nI i0)), some (.int b), none, none, none, none, none], [], x2) = _ from e3]
  have oth1 : w_oth nt (g_nl g1) cs < g_nl G2 ∧ lv3 (w_oth nt (g_nl g1) cs) = true := by
    rw [← hoth, n22]
    rcases z_of_mem (nt := nt) cs (g_nl g1) with z | ⟨p, z1, z2'⟩
    · rw [z]
      exact ⟨by omega, (c3 _ (by rw [nL]; omega)).2.1.trans a2'.2.1⟩
    · rw [z2']
      have := (hcsl.2.2 p z1).2
      have := hcsl.2.1
      exact ⟨by omega, (p3 p z1).2.1⟩
  obtain ⟨z, v, s0, o12, o13, ct4, e4, q4, c4, fr4, t4⟩ := htab (w_oth nt (g_nl g1) cs) C3 lm3 lv3 ct3 x3 i0 o9 oth1.1 oth1.2 q3
  rw [hi, hG4] at q4 t4
  have fr4 : yfr (yw (p_pf P) (p_lf P)) (p_pf P) x3 (mj_wI z 0 30 0) := fr4
  rw [e4]
  have hK2 : K < 2000 := by have := h.2.1.2.2.2.1; have := h.2.1.2.2.1; omega
  obtain ⟨y, hy⟩ : ∃ y, y = mj_wI z 0 30 0 := ⟨_, rfl⟩
  have q4' : Y2 nt N P hp H O K (200 - f) sb C3 none V lm3 lv3 ct4 y G4 := by rw [hy]; exact q4
  have y58 : y.1 0 58 = nI K := q4'.2.1.2.1
  have fr5 : yfr (yw (p_pf P) (p_lf P)) (p_pf P) x3 y := by rw [hy]; exact fr4
  have t5 : y.1 0 29 = 0 → x3.1 0 29 = 0 ∧ yT x3 G2 y G4 := fun w => by rw [hy] at w ⊢; exact t4 w
  rw [bX0_choose_413, ← hy, e_openX (K := K) (by omega) hK2 1 (-1) y58, mj_rI_k, n2 hK2, nI_clamp (by omega)]
  have ce : lm3 (g_nl g1) = i0 ∧ lv3 (g_nl g1) = true ∧ ct3 (g_nl g1) = false := by
    have := c3 (g_nl g1) (by rw [nL]; omega)
    exact ⟨this.1.trans a2'.1, this.2.1.trans a2'.2.1, this.2.2.trans a2'.2.2⟩
  have nn2 : g_nl g1 < g_nl G2 := by omega
  have fz : yfr (yk K) (p_pf P) y (mj_wI (mj_wI (mj_wI (mj_wI (mj_wI (mj_wI (mj_wI (mj_wI (mj_wI (mj_wI y 0 58 (nI (K + 1))) 50 K 1) 53 K (-1)) 51 K (y.1 0 59)) 56 K (y.1 0 32)) 58 K (y.1 0 28)) 0 66 (y.1 0 66 + 1)) 52 K (y.1 0 66)) 0 59 (nI K)) 54 K (nI i0)) :=
    ((((((((((yfr.rf _ _ y).w _ rfl).w _ (ykk K 50 rfl)).w _ (ykk K 53 rfl)).w _ (ykk K 51 rfl)).w _ (ykk K 56 rfl)).w _ (ykk K 58 rfl)).w _ rfl).w _ (ykk K 52 rfl)).w _ rfl).w _ (ykk K 54 rfl)
  have q5 : Y2 nt N P hp H O (K + 1) (200 - f) (sb + 1) C3 none ((K, y.1 0 59, (1, 0, g_nl g1, 0, g_nx G4, (g_it G4).length, [])) :: V) lm3 lv3 ct4 (mj_wI (mj_wI (mj_wI (mj_wI (mj_wI (mj_wI (mj_wI (mj_wI (mj_wI (mj_wI y 0 58 (nI (K + 1))) 50 K 1) 53 K (-1)) 51 K (y.1 0 59)) 56 K (y.1 0 32)) 58 K (y.1 0 28)) 0 66 (y.1 0 66 + 1)) 52 K (y.1 0 66)) 0 59 (nI K)) 54 K (nI i0)) (w_ctx 1 0 (g_nl g1) 0 G4) := by
    refine Y2.open_ (sort := 1) (b := g_nl g1) (cc := 0) (node := 0) q4' fz rfl (by omega) rfl rfl rfl ?_ (by decide) ?_ ?_ hsb (fun _ => ⟨?_, ?_, fun _ => ⟨by omega, ce.2.1, ?_⟩, fun q => absurd q (by decide), fun q => absurd q (by decide), fun q => absurd q (by decide)⟩)
    · exact pk_us
    · exact pk_us
    · exact pk_us
    · exact pk_us
    · exact pk_us
    · rw [ce.1]; exact pk_us
  have q6 := q5.vfrom (m := (g_it G2).length) (Nat.le_refl 1)
  rw [show s_cx (w_from (g_it G2).length (K, y.1 0 59, (1, 0, g_nl g1, 0, g_nx G4, (g_it G4).length, [])).2.2 :: (g_cx (w_ctx 1 0 (g_nl g1) 0 G4)).tail) (w_ctx 1 0 (g_nl g1) 0 G4) = _ from hG5] at q6
  generalize hz5 : mj_wI (mj_wI (mj_wI (mj_wI (mj_wI (mj_wI (mj_wI (mj_wI (mj_wI (mj_wI y 0 58 (nI (K + 1))) 50 K 1) 53 K (-1)) 51 K (y.1 0 59)) 56 K (y.1 0 32)) 58 K (y.1 0 28)) 0 66 (y.1 0 66 + 1)) 52 K (y.1 0 66)) 0 59 (nI K)) 54 K (nI i0) = z5 at *
  have clG : ∀ c, c ∈ g_cx G2 → w_cl (g_nl g1) c := by
    intro c hc
    rw [cx2, cx0, hwu.2.2.2.2.1] at hc
    exact (hcl c hc).up mv.nl
  have ckG : ∀ c, c ∈ g_cx (s_cx ((1, 0, g_nl g1, 0, g_nx G2, (g_it G2).length, []) :: g_cx G2) G4) → w_cok nt N c := by
    intro c hc
    rcases List.mem_cons.mp (show c ∈ (1, 0, g_nl g1, 0, g_nx G2, (g_it G2).length, []) :: g_cx G2 from hc) with rfl | hc
    · exact ⟨fun q => absurd q (by show ¬ (1 : Nat) = 3; decide), fun q => absurd q (by show ¬ (1 : Nat) = 4; decide)⟩
    · rw [cx2, cx0, hwu.2.2.2.2.1] at hc
      exact hC c hc
  have hCl : ∀ k, k ∈ l → C3 (nA nt k).toNatClampNeg := by
    intro k hk
    have : nA nt k ∈ cs.map (fun q => q.1) := by rw [hcsl.1]; exact List.mem_map.mpr ⟨k, hk, rfl⟩
    obtain ⟨p, p1, p2⟩ := List.mem_map.mp this
    rw [← p2]; exact (p3 p p1).1
  have j := hcases (nI i0) (nI (y_lg nt (0, 0, 0) (l.map (fun k => nA nt k))).1) (y_lg nt (0, 0, 0) (l.map (fun k => nA nt k))).2.1 (y_lg nt (0, 0, 0) (l.map (fun k => nA nt k))).2.2 (nI (lm3 (w_oth nt (g_nl g1) cs))) (x3.1 0 28) s0 (y.1 0 59) V _ C3 lm3 lv3 ct4 z5 _ o12 o13 l1 hCl rfl ⟨_, _, rfl, Nat.le_refl 1, rfl, clG⟩ (by rw [nl5]; omega) ce.2.1 (by rw [c4 _ nn2]; exact ce.2.2) (by rw [ce.1]) ckG q6 ok5
  have mvn := mv.nl
  refine KS.from (y := z5) (lm' := lm3) (lv' := lv3) (ct' := ct4) ((j.less (fun k hk => cC k hk)).le mvn) (fv.up.tr (fr2.up.tr (fr3.tr (fr5.up.tr (yk_w fz))))) (fun w => ?_) (fun k hk => ?_)
  · have wy : y.1 0 29 = 0 := by rw [← fz.1 0 29 rfl]; exact w
    obtain ⟨w3, ty⟩ := t5 wy
    have w2 : x2.1 0 29 = 0 := by rw [← z3]; exact w3
    have wv : xv.1 0 29 = 0 := by rw [← z2]; exact w2
    exact ⟨x0, (tv wv).tr ((t2 w2).tr ((t3 w3).tr (ty.tr (yT.rf rfl (fz.1 0 48 rfl) (fz.1 0 47 rfl)))))⟩
  · have p1 := lv_ k hk
    have p2 := c2 k (by omega)
    have p3 := c3 k (by rw [nL]; omega)
    have p4 := c4 k (by omega)
    exact ⟨p3.1.trans (p2.1.trans p1.1), p3.2.1.trans (p2.2.1.trans p1.2.1), p4.trans (p3.2.2.trans (p2.2.2.trans p1.2.2))⟩
end
theorem k_81 {nt : sp_NT} {N M : Nat} {res par : Nat → Int32} (hT : wTb nt N M res par) : k81 nt N := by
  intro f n P hp H O K sb C V lm lv ct x g d hd hA hk hf x0 hq R hC hK hs h hok
  have e : w_bd nt (wV nt 40) (wS nt f) n g = w_swt nt (wV nt 40) (wS nt f) (nA nt n) (nB nt n) g := by unfold w_bd; simp only [hk]; rfl
  rw [e] at hok ⊢
  obtain ⟨ea, ta, b1, b2, b3⟩ := wE_switch hT hA.1 hA.2.2 hk
  exact KS.wrap (bX0_act_481 _ _ _ _ _) (k_choose (f := f) hd hf hT (ea.mono (by omega)) b1 b3 x0 hq R hC hK hs h hok) hs hK hf
/-- every statement of CodeWriter -/
theorem kS_all {nt : sp_NT} {N M : Nat} {res par : Nat → Int32} (hT : wTb nt N M res par) (f : Nat) (n : Int32) (hf : f ≤ 200) (hA : wA nt N 40 n) : kS nt N f n := kS_of hT (k_81 hT) f n hf hA
