/-! CodeWriter: statements: what is guarded, from its context on -/
def w_eg (rec : wT) (e nx : Nat) (c : wC) (g2 : wG) : wG := s_nx nx (bif g_al g2 then w_go e (w_end rec c (s_nx nx g2)) else g2)
theorem wM_eg {rec : wT} (R : ∀ n k, wM k (rec n k)) (e nx : Nat) (c : wC) (g2 : wG) : wM g2 (w_eg rec e nx c g2) := by
  unfold w_eg
  exact (wM.cond ((((wM.rf g2).s_nx nx).end_ R c).go e) (wM.rf g2)).s_nx nx
section
variable {nt : sp_NT} {N M : Nat} {P : yP} {hp : Nat} {H V : List wSl} {O : List (Int32 × List (Nat × Nat))} {K u sb : Nat} {C : Nat → Prop} {o : Option Int32} {lm lm' lm1 : Nat → Nat} {lv lv' lv1 ct ct' : Nat → Bool} {x y x1 : mj_X} {g G : wG} {res par : Nat → Int32} {f : Nat} {n : Int32}
/-- a KS as what it says -/
theorem KS.out {k : Nat} {S : List (Nat × Int32)} {r : mj_R} (h : KS nt N P hp H O K u sb k S C ct g r x lm lv G) : ∃ V' C' lm' lv' ct' x', r = some (none, x') ∧ Y2 nt N P hp H O K u sb C' none V' lm' lv' ct' x' G ∧ z_skl V' = S ∧ (∀ k, C k → C' k) ∧ (∀ l, l < k → lm' l = lm l ∧ lv' l = lv l ∧ ct' l = ct l) ∧ yfr (yw2 P K) (p_pf P) x x' ∧ (x'.1 0 29 = 0 → x.1 0 29 = 0 ∧ yT x g x' G) := h
/-- the end of what is guarded, and behind it -/
theorem k_eg {d e nx : Nat} {c : wC} {a1 a2 a5 va3 va4 : Int32} (hd : 6 * f + 262 ≤ d) (hf : f ≤ 200) (h3 : 3 ≤ c.1) (h4 : c.1 ≤ 4) (ha2 : a2 = sp_b (decide (c.1 = 4))) (hcok : w_cok nt N c) (hT : wTb nt N M res par) (R : ∀ m, wA nt N 40 m → kS nt N f m) (hC : ∀ c, c ∈ g_cx g → w_cok nt N c) (hnx : g_nx g = nx) (he : e < g_nl g) (hv : lv e = true) (hvl : a5 = nI (lm e)) (h : Y2 nt N P hp H O K (200 - f) (sb + 1) C none V lm lv ct x g)
    (hx : x.1 0 29 = 0 → (c.1 = 3 → va4 = c.2.1) ∧ (c.1 = 4 → va3 = c.2.1)) (hok : g_ok (w_eg (wS nt f) e nx c g)) :
    KS nt N P hp H O K (200 - f) (sb + 1) (g_nl g) (z_skl V) C ct g (mj_rV (kX0 d 83 [.ref 0, .int a1, .int a2, .int va3, .int va4] x) fun x4 => kX0 d 66 [.ref 0, .int a5] x4) x lm lv (w_eg (wS nt f) e nx c g) := by
  have hself : s_nx nx g = g := by rw [← hnx]; rfl
  by_cases h0 : ¬ x.1 0 29 = 0
  · have go : ∀ z : mj_X, Y2 nt N P hp H O K (200 - f) (sb + 1) C none V lm lv ct z g → ¬ z.1 0 29 = 0 → yfr (yw2 P K) (p_pf P) x z → KS nt N P hp H O K (200 - f) (sb + 1) (g_nl g) (z_skl V) C ct g (kX0 d 66 [.ref 0, .int a5] z) x lm lv (w_eg (wS nt f) e nx c g) := by
      intro z qz z0 fz
      have jg := (KS.go (d := d) (l := e) (by omega) he hv qz).back (g2 := g) z0 (wU_go e g).2.2.2.2.1.symm (w_go_nl e g).symm (qz.mc z0).2.2
      rw [← hvl] at jg
      obtain ⟨V1, C1, lm1, lv1, ct1, x1, e1, q1, v1, c1, l1, f1, t1⟩ := jg
      have z1 : ¬ x1.1 0 29 = 0 := fun w => z0 (t1 w).1
      obtain ⟨V2, lm2, lv2, ct2, q2, v2, l2⟩ := q1.skip z1 (wM_eg (wS_mono nt f) e nx c g)
      exact ⟨V2, C1, lm2, lv2, ct2, x1, e1, q2, v2.trans v1, c1, fun l hl => ⟨(l2 l hl).1.trans (l1 l hl).1, (l2 l hl).2.1.trans (l1 l hl).2.1, (l2 l hl).2.2.trans (l1 l hl).2.2⟩, fz.tr f1, fun w => absurd w z1⟩
    rcases k_finM (d := d) (by omega) h0 a1 a2 va3 va4 with e1 | e1
    · rw [e1, mj_rV_k]; exact go x h h0 (yfr.rf _ _ _)
    · rw [e1, mj_rV_k]; exact go _ (h.nxM h0) h0 y32w
  have h0 : x.1 0 29 = 0 := Decidable.not_not.mp h0
  by_cases a0 : x.1 0 30 = 0
  · obtain ⟨-, hal, hq⟩ := h.dead (Or.inl a0) h0
    have e1 : w_eg (wS nt f) e nx c g = g := by unfold w_eg; rw [hal]; exact hself
    rw [e1]
    have e2 : kX0 d 83 [.ref 0, .int a1, .int a2, .int va3, .int va4] x = some (none, x) := by
      obtain ⟨d, rfl⟩ : ∃ e, d = e + 1 := ⟨d - 1, by omega⟩
      rw [eX0_finish, if_pos a0]
    have jg := KS.go (d := d) (l := e) (by omega) he hv h
    rw [w_go_qq hq, ← hvl] at jg
    rw [e2, mj_rV_k]; exact jg
  · have hl := h.live (fun w => by rcases w with w | w; exact a0 w; exact w h0)
    have hal : g_al g = true := ((w_q_iff g).mp hl.2.2).1
    have e1 : w_eg (wS nt f) e nx c g = s_nx nx (w_go e (w_end (wS nt f) c g)) := by unfold w_eg; rw [hal, hself]; rfl
    rw [e1] at hok ⊢
    have m1 : wM g (w_end (wS nt f) c g) := (wM.rf g).end_ (wS_mono nt f) c
    have m2 : wM (w_end (wS nt f) c g) (w_go e (w_end (wS nt f) c g)) := (wM.rf _).go e
    have nl1 := m1.nl
    refine KS.b (n1 := g_nl g) (Nat.le_refl _) (Nat.le_refl _) (k_end (d := d) hd hf h3 h4 ha2 hcok hT R hC h hx (m2.1 hok)) (fun V1 C1 lm1 lv1 ct1 x1 q1 v1 c1 l1 f1 mm1 => ?_)
    have le := l1 e he
    have jg := KS.go (d := d) (l := e) (by omega) (by omega) (by rw [le.2.1]; exact hv) q1
    rw [le.1, ← hvl] at jg
    obtain ⟨V2, C2, lm2, lv2, ct2, x2, e2, q2, v2, c2, l2, f2, t2⟩ := jg
    refine ⟨V2, C2, lm2, lv2, ct2, x2, e2, ?_, v2.trans v1, c2, fun l hl => l2 l (by omega), f2, fun w => ⟨(t2 w).1, (t2 w).2.tr (yT.rf rfl rfl rfl)⟩⟩
    refine q2.same ⟨rfl, rfl, rfl, rfl, rfl, rfl, rfl, rfl, rfl, rfl⟩ ⟨?_, rfl, rfl, rfl, rfl, rfl⟩
    show nx = g_nx (w_go e (w_end (wS nt f) c g))
    rw [(wU_go e _).1]
    -- the end leaves the places alone
    have : g_nx (w_end (wS nt f) c g) = g_nx g := by
      unfold w_end
      split
      · exact (wU_em (16, 195, 0, 0, []) 1 [] (g := w_ld 5 c.2.1.toNatClampNeg [11] g)).1.trans (wU_em (2, 5, c.2.1.toNatClampNeg, 0, []) 0 [11] (g := g)).1
      · rfl
    rw [this, hnx]
set_option maxHeartbeats 4000000 in
/-- the whole: from the context on -/
theorem k_from92 {d e nx6 sort : Nat} {node sx a1 a2 a3 a5 a6 a7 s2 : Int32} {L : List Nat} (hd : 6 * f + 262 ≤ d) (hf : f ≤ 200) (hT : wTb nt N M res par) (R : ∀ m, wA nt N 40 m → kS nt N f m) (h3 : 3 ≤ sort) (h4 : sort ≤ 4) (sa : wA nt N 40 sx) (hnode : ∀ nx len, w_cok nt N (sort, node, 0, 0, nx, len, [])) (hsx : sx = if sort = 4 then a3 else a2) (hs2 : sort = 3 → s2 = node ∧ a3 = node) (h7 : x.1 0 29 = 0 → sort = 4 → a7 = node) (h6 : x.1 0 29 = 0 → a6 = nI nx6 ∧ nx6 ≤ 8000)
    (hC : ∀ c, c ∈ g_cx g → w_cok nt N c) (hKu : K + 1 ≤ 200 - f) (hs : sb + 1 ≤ 2000000000) (he : e < g_nl g) (hv : lv e = true) (hct : ct e = false) (hvl : a5 = nI (lm e)) (hV : ∀ c, c ∈ g_cx g → w_cl e c) (hH : ∀ s, s ∈ H → w_cl e s.2.2) (h : Y2 nt N P hp H O K (200 - f) sb C none V lm lv ct x g)
    {dd : wC} {r : List wC} (hcx : g_cx (w_aln (wS nt f) sx (w_ctx sort node 0 0 g)) = dd :: r)
    (hok : g_ok (w_gd (wS nt f) L (c_ps (w_pc (g_it (w_aln (wS nt f) sx (w_ctx sort node 0 0 g))).length dd)) sort (sort, node, 0, 0, g_nx g, 0, []) (g_nx g) (w_eg (wS nt f) e (g_nx g) (sort, node, 0, 0, g_nx g, 0, []) (w_shut (w_aln (wS nt f) sx (w_ctx sort node 0 0 g)))))) :
    KS nt N P hp H O K (200 - f) (sb + 1) e (z_skl V) C ct g (rX0_guarded d (92, [some (.ref 0), some (.int a1), some (.int a2), some (.int a3), some (.int (sp_b (decide (sort = 4)))), some (.int a5), some (.int a6), some (.int a7), none, none, none, none, none, none], [.int s2, .int (nI sort), .ref 0], x)) x lm lv (w_sl false e (w_put e (s_nx nx6 (w_gd (wS nt f) L (c_ps (w_pc (g_it (w_aln (wS nt f) sx (w_ctx sort node 0 0 g))).length dd)) sort (sort, node, 0, 0, g_nx g, 0, []) (g_nx g) (w_eg (wS nt f) e (g_nx g) (sort, node, 0, 0, g_nx g, 0, []) (w_shut (w_aln (wS nt f) sx (w_ctx sort node 0 0 g)))))))) := by
  have hK2 : K < 2000 := by omega
  have m2 : wM (w_ctx sort node 0 0 g) (w_aln (wS nt f) sx (w_ctx sort node 0 0 g)) := (wM.rf _).aln (wS_mono nt f) _
  obtain ⟨-, dd', r', hcx', hwk, hwr⟩ := wM.in_ (g := g) (c := (sort, node, 0, 0, g_nx g, (g_it g).length, [])) m2
  rw [hcx] at hcx'
  obtain ⟨rfl, rfl⟩ : dd = dd' ∧ r = r' := by injection hcx' with a b; exact ⟨a, b⟩
  have nxG : g_nx (w_shut (w_aln (wS nt f) sx (w_ctx sort node 0 0 g))) = g_nx g := rfl
  have hgu := fun {y V hr} (q2 : Y2 nt N P hp H O (K + 1) (200 - f) (sb + 1) C none ((K, hr, (sort, node, 0, 0, g_nx g, (g_it g).length, [])) :: V) lm lv ct y (w_ctx sort node 0 0 g)) okG => k_guard (d := d) (sort := sort) (node := node) (by omega) hf (by omega) sa (hnode _ _) R hC q2 okG
  have nlG : g_nl g ≤ g_nl (w_aln (wS nt f) sx (w_ctx sort node 0 0 g)) := m2.nl
  generalize hG : w_aln (wS nt f) sx (w_ctx sort node 0 0 g) = G at *
  generalize hps : c_ps (w_pc (g_it G).length dd) = ps at *
  have mE := wM_eg (wS_mono nt f) e (g_nx g) (sort, node, 0, 0, g_nx g, 0, []) (w_shut G)
  have nxE : g_nx (w_eg (wS nt f) e (g_nx g) (sort, node, 0, 0, g_nx g, 0, []) (w_shut G)) = g_nx g := rfl
  have cxE : g_cx (w_shut G) = r := by show (g_cx G).tail = r; rw [hcx]; rfl
  have je0 := fun {V C lm lv ct x O hp} => k_eg (nt := nt) (N := N) (M := M) (P := P) (hp := hp) (H := H) (O := O) (V := V) (K := K) (sb := sb) (C := C) (lm := lm) (lv := lv) (ct := ct) (x := x) (g := w_shut G) (res := res) (par := par) (f := f) (d := d) (e := e) (nx := g_nx g) (c := (sort, node, 0, 0, g_nx g, 0, [])) (a1 := nI K) (a2 := sp_b (decide (sort = 4))) (a5 := a5) (va3 := a7) (va4 := a3) (by omega) hf h3 h4 rfl (hnode _ _) hT R
  generalize hE : w_eg (wS nt f) e (g_nx g) (sort, node, 0, 0, g_nx g, 0, []) (w_shut G) = gE at *
  have mD := wM_gd (wS_mono nt f) L ps sort (sort, node, 0, 0, g_nx g, 0, []) (g_nx g) gE
  have okE : g_ok gE := mD.1 hok
  have okG : g_ok G := mE.1 okE
  rw [bX0_guarded_92, e_openX (by omega) hK2 _ _ h.2.1.2.1, mj_rI_k, n2 hK2, n2 hK2, nI_clamp (by omega)]
  obtain ⟨y, hy⟩ : ∃ y, y = mj_wI (mj_wI (mj_wI (mj_wI (mj_wI (mj_wI (mj_wI (mj_wI (mj_wI (mj_wI x 0 58 (nI (K + 1))) 50 K (nI sort)) 53 K s2) 51 K (x.1 0 59)) 56 K (x.1 0 32)) 58 K (x.1 0 28)) 0 66 (x.1 0 66 + 1)) 52 K (x.1 0 66)) 0 59 (nI K)) 57 K a7 := ⟨_, rfl⟩
  have fy : yfr (yk K) (p_pf P) x y := by
    rw [hy]
    exact ((((((((((yfr.rf _ _ x).w _ rfl).w _ (ykk K 50 rfl)).w _ (ykk K 53 rfl)).w _ (ykk K 51 rfl)).w _ (ykk K 56 rfl)).w _ (ykk K 58 rfl)).w _ rfl).w _ (ykk K 52 rfl)).w _ rfl).w _ (ykk K 57 rfl)
  have q2 : Y2 nt N P hp H O (K + 1) (200 - f) (sb + 1) C none ((K, x.1 0 59, (sort, node, 0, 0, g_nx g, (g_it g).length, [])) :: V) lm lv ct y (w_ctx sort node 0 0 g) := by
    refine Y2.open_ (node := node) h fy (by rw [hy]; rfl) hKu (by rw [hy]; rfl) (by rw [hy]; rfl) (by rw [hy]; rfl) ?_ (by omega) ?_ ?_ hs (fun x0 => ⟨?_, ?_, fun q => absurd q (by omega), fun q => absurd q (by omega), fun q => ?_, fun q => ?_⟩)
    · rw [hy]; exact pk_us
    · rw [hy]; exact pk_us
    · rw [hy]; exact pk_us
    · rw [hy]; exact pk_us
    · rw [hy]; exact pk_us
    · rw [hy]; exact pk_us.trans (hs2 q).1
    · rw [hy]; exact pk_us.trans (h7 x0 q)
  obtain ⟨V3, C3, lm3, lv3, ct3, x7, c0, rr, run, hc0, hw0, hr0, q7, v7, cc7, l7, f7, t7⟩ := hgu q2 okG
  have hc0 : dd :: r = c0 :: rr := by rw [← hcx]; exact hc0
  have hdd : c0 = dd := by injection hc0 with a b; exact a.symm
  rw [hdd, hps] at q7
  have e52 : (mj_wI (mj_wI (mj_wI (mj_wI (mj_wI (mj_wI (mj_wI (mj_wI (mj_wI x 0 58 (nI (K + 1))) 50 K (nI sort)) 53 K s2) 51 K (x.1 0 59)) 56 K (x.1 0 32)) 58 K (x.1 0 28)) 0 66 (x.1 0 66 + 1)) 52 K (x.1 0 66)) 0 59 (nI K)).1 52 K = y.1 52 K := by rw [hy]; rfl
  rw [e52, ← hy]
  have y29 : y.1 0 29 = x.1 0 29 := fy.1 0 29 rfl
  have ffx : yfr (yw2 P K) (p_pf P) x x7 := (yk_w fy).tr f7
  have le3 := l7 e he
  have x07 : x7.1 0 29 = 0 → x.1 0 29 = 0 := fun w => by rw [← y29]; exact (t7 w).1
  -- the rest, once the statement is known
  have rest : KS nt N P hp H O K (200 - f) (sb + 1) e (z_skl V) C ct g (rX0_guarded d (126, [some (.ref 0), some (.int a1), some (.int a2), some (.int a3), some (.int (sp_b (decide (sort = 4)))), some (.int a5), some (.int a6), some (.int a7), some (.int (nI K)), some (.int (y.1 52 K)), none, none, none, none], [.int sx, .ref 0], y)) x lm lv (w_sl false e (w_put e (s_nx nx6 (w_gd (wS nt f) L ps sort (sort, node, 0, 0, g_nx g, 0, []) (g_nx g) gE)))) := by
    rw [bX0_guarded_126, run (fun x3 => _)]
    refine KS.subC (C1 := C3) ?_ cc7
    rw [← v7]
    refine KS.from (G := w_shut G) (lm' := lm3) (lv' := lv3) (ct' := ct3) ?_ ffx (fun w => ⟨x07 w, ?_⟩) (fun l hl => l7 l (by omega))
    · have je := je0 (V := V3) (C := C3) (lm := lm3) (lv := lv3) (ct := ct3) (x := x7) (O := (y.1 52 K, ps) :: O) (hp := hp + ps.length) (by rw [cxE]; exact w_cok.wK hwr hC) nxG (show e < g_nl G by omega) (by rw [le3.2.1]; exact hv) (by rw [le3.1]; exact hvl) q7 (fun w => ⟨fun q => (hs2 q).2, fun q => h7 (x07 w) q⟩) okE
      obtain ⟨V8, C8, lm8, lv8, ct8, x8, e8, q8, v8, c8, l8, f8, t8⟩ := je
      have l8 : ∀ l, l < g_nl G → lm8 l = lm3 l ∧ lv8 l = lv3 l ∧ ct8 l = ct3 l := l8
      have le8 := l8 e (by omega)
      have x08 : x8.1 0 29 = 0 → x.1 0 29 = 0 := fun w => x07 (t8 w).1
      have erun : ∀ kk : mj_X → mj_R, (mj_rV (kX0 d 83 [.ref 0, .int (nI K), .int (sp_b (decide (sort = 4))), .int a7, .int a3] x7) fun x4 => mj_rV (kX0 d 66 [.ref 0, .int a5] x4) kk) = kk x8 := by
        intro kk
        cases hz : kX0 d 83 [.ref 0, .int (nI K), .int (sp_b (decide (sort = 4))), .int a7, .int a3] x7 with
        | none => rw [hz] at e8; cases e8
        | some p =>
          obtain ⟨w, z⟩ := p
          cases w with
          | none =>
            rw [hz, mj_rV_k] at e8
            rw [mj_rV_k, e8, mj_rV_k]
          | some w => rw [hz] at e8; cases e8
      rw [erun (fun x5 => _)]
      refine KS.subC (C1 := C8) ?_ c8
      rw [← v8]
      refine KS.from (G := gE) (lm' := lm8) (lv' := lv8) (ct' := ct8) ?_ f8 t8 (fun l hl => l8 l (by omega))
      have kE : wK (g_cx g) (g_cx gE) := by
        have a := mE.2.2.2.2.2.1
        rw [cxE] at a
        exact hwr.tr a
      have nE := mE.nl
      have nE : g_nl G ≤ g_nl gE := nE
      exact k_gd (d := d) (e := e) (nx := g_nx g) (nx6 := nx6) (sort := sort) (L := L) (ps := ps) (c := (sort, node, 0, 0, g_nx g, 0, [])) (by omega) hf hT R rfl h3 h4 (hnode _ _) (fun q => (hs2 q).2) (fun w q => h7 (x08 w) q) (fun w => h6 (x08 w)) nxE (by omega) (by rw [le8.2.1, le3.2.1]; exact hv) (by rw [le8.2.2, le3.2.2]; exact hct) (by rw [le8.1, le3.1]; exact hvl) (w_cl.wK kE hV) hH (w_cok.wK kE hC) q8 hok
    · obtain ⟨w1, w2⟩ := t7 w
      have tz : yT x g y (w_ctx sort node 0 0 g) := yT.rf rfl (fy.1 0 48 rfl) (fy.1 0 47 rfl)
      exact tz.tr w2
  by_cases q4 : sort = 4
  · have hb : ¬ sp_b (decide (sort = 4)) = (0 : Int32) := by rw [decide_eq_true q4]; decide
    rw [if_neg hb]
    rw [if_pos q4] at hsx
    rw [hsx] at rest; exact rest
  · have hb : sp_b (decide (sort = 4)) = (0 : Int32) := by rw [decide_eq_false q4]; rfl
    rw [if_pos hb]
    rw [if_neg q4] at hsx
    rw [hsx] at rest; exact rest
theorem k_s79 {d : Nat} (hd : 6 * f + 263 ≤ d) (hT : wTb nt N M res par) (hA : wA nt N 40 n) (hk : nK nt n = 79) (hf : f + 1 ≤ 200) (x0 : x.1 0 29 = 0) (R : ∀ m, wA nt N 40 m → kS nt N f m) (hC : ∀ c, c ∈ g_cx g → w_cok nt N c) (hK : K ≤ 200 - (f + 1)) (hs : sb + 1 ≤ 2000000000) (h : Y2 nt N P hp H O K (200 - f) sb C none V lm lv ct x g) (hok : g_ok (w_bd nt (wV nt 40) (wS nt f) n g)) :
    KS nt N P hp H O K (200 - (f + 1)) (sb + 1) (g_nl g) (z_skl V) C ct g (rX0_act d (499, [some (.ref 0), some (.int n), some (.int (nA nt n)), some (.int (nB nt n)), none, none, none], [], x)) x lm lv (w_bd nt (wV nt 40) (wS nt f) n g) := by
  have e : w_bd nt (wV nt 40) (wS nt f) n g = w_ended (wS nt f) 3 (nA nt n) (nB nt n) g := by unfold w_bd; simp only [hk]; rfl
  rw [e] at hok ⊢
  obtain ⟨sa, sB⟩ := wE_fin (f := 39) hT hA.1 hA.2.2 hk
  have sa1 : wA nt N 40 (nA nt n) := ⟨sa.1, sa.2.1, by have := sa.2.2; omega⟩
  obtain ⟨hcl, hclH⟩ := h.cl x0
  obtain ⟨d, rfl⟩ : ∃ e, d = e + 1 := ⟨d - 1, by omega⟩
  have m2 : wM (w_ctx 3 (nB nt n) 0 0 (w_lb (g_L g, []) g)) (w_aln (wS nt f) (nA nt n) (w_ctx 3 (nB nt n) 0 0 (w_lb (g_L g, []) g))) := (wM.rf _).aln (wS_mono nt f) _
  obtain ⟨-, dd, r, hcx, hwk, hwr⟩ := wM.in_ (g := w_lb (g_L g, []) g) (c := (3, nB nt n, 0, 0, g_nx (w_lb (g_L g, []) g), (g_it (w_lb (g_L g, []) g)).length, [])) m2
  have E : w_ended (wS nt f) 3 (nA nt n) (nB nt n) g = w_sl false (g_nl g) (w_put (g_nl g) (s_nx (g_nx g) (w_gd (wS nt f) (g_L g) (c_ps (w_pc (g_it (w_aln (wS nt f) (nA nt n) (w_ctx 3 (nB nt n) 0 0 (w_lb (g_L g, []) g)))).length dd)) 3 (3, nB nt n, 0, 0, g_nx g, 0, []) (g_nx g) (w_eg (wS nt f) (g_nl g) (g_nx g) (3, nB nt n, 0, 0, g_nx g, 0, []) (w_shut (w_aln (wS nt f) (nA nt n) (w_ctx 3 (nB nt n) 0 0 (w_lb (g_L g, []) g)))))))) := by
    unfold w_ended
    simp only [hcx]
    rfl
  rw [E] at hok ⊢
  clear E
  have n1 : g_nl (w_lb (g_L g, []) g) = g_nl g + 1 := rfl
  have nx1 : g_nx (w_lb (g_L g, []) g) = g_nx g := rfl
  have cx1 : g_cx (w_lb (g_L g, []) g) = g_cx g := rfl
  have mD := wM_gd (wS_mono nt f) (g_L g) (c_ps (w_pc (g_it (w_aln (wS nt f) (nA nt n) (w_ctx 3 (nB nt n) 0 0 (w_lb (g_L g, []) g)))).length dd)) 3 (3, nB nt n, 0, 0, g_nx g, 0, []) (g_nx g) (w_eg (wS nt f) (g_nl g) (g_nx g) (3, nB nt n, 0, 0, g_nx g, 0, []) (w_shut (w_aln (wS nt f) (nA nt n) (w_ctx 3 (nB nt n) 0 0 (w_lb (g_L g, []) g)))))
  have mE := wM_eg (wS_mono nt f) (g_nl g) (g_nx g) (3, nB nt n, 0, 0, g_nx g, 0, []) (w_shut (w_aln (wS nt f) (nA nt n) (w_ctx 3 (nB nt n) 0 0 (w_lb (g_L g, []) g))))
  have mZ := (((wM.rf (w_gd (wS nt f) (g_L g) (c_ps (w_pc (g_it (w_aln (wS nt f) (nA nt n) (w_ctx 3 (nB nt n) 0 0 (w_lb (g_L g, []) g)))).length dd)) 3 (3, nB nt n, 0, 0, g_nx g, 0, []) (g_nx g) (w_eg (wS nt f) (g_nl g) (g_nx g) (3, nB nt n, 0, 0, g_nx g, 0, []) (w_shut (w_aln (wS nt f) (nA nt n) (w_ctx 3 (nB nt n) 0 0 (w_lb (g_L g, []) g))))))).s_nx (g_nx g)).put (g_nl g)).sl false (g_nl g)
  have okD := mZ.1 hok
  have ok1 : g_ok (w_lb (g_L g, []) g) := m2.1 (mE.1 (mD.1 okD))
  have lb := Y2.lb (d := d) (F := (g_L g, [])) (by omega) h x0 ok1
  generalize hg1 : w_lb (g_L g, []) g = g1 at *
  obtain ⟨i, lm1, lv1, ct1, x1, e1, q1, a1, c1, z1, f1, t1⟩ := lb
  have f1 : yfr (yw (p_pf P) (p_lf P)) (p_pf P) x x1 := f1
  have n32 := (h.ex x0).2.2.2.1
  have x132 : x1.1 0 32 = nI (g_nx g) := ((yU.of f1).1 32 rfl).trans n32.1
  have hk1 : x.1 1 n.toNatClampNeg = 79 := by rw [h.T.1]; exact hk
  refine KS.wrap (bX0_act_499 _ _ _ _ _) ?_ hs hK hf
  rw [eX0_guarded, h.nd hA.1, hk1, if_neg (by decide), bX0_guarded_16, e1, mj_rI_k, if_pos rfl, bX0_guarded_71, if_pos rfl, if_pos rfl]
  have key := k_from92 (d := d) (e := g_nl g) (nx6 := g_nx g) (sort := 3) (node := nB nt n) (sx := nA nt n) (a1 := n) (a2 := nA nt n) (a3 := nB nt n) (a5 := nI i) (a6 := x1.1 0 32) (a7 := -1) (s2 := nB nt n) (L := g_L g) (by omega) (by omega) hT R (by decide) (by decide) sa1 (fun _ _ => ⟨fun _ => ⟨39, sB⟩, fun q => absurd q (show ¬ (3 : Nat) = 4 by decide)⟩) rfl (fun _ => ⟨rfl, rfl⟩) (fun _ q => absurd q (by decide)) (fun _ => ⟨x132, n32.2.1⟩) (by rw [cx1]; exact hC) (by omega) hs (by omega) a1.2.1 a1.2.2 (by rw [a1.1]) (by rw [cx1]; exact hcl) hclH q1 hcx (by rw [nx1]; exact okD)
  rw [nx1] at key
  exact KS.from (G := g1) key f1.up (fun w => ⟨x0, t1⟩) c1
end
