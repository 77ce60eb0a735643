/-! CodeWriter: statements: handlers while all is exact, tries -/
theorem c_ctc_over {nt : sp_NT} {P : yP} {hp m0 : Nat} {rec : wT} (R : ∀ n k, wM k (rec n k)) {L : List Nat} {ps : List (Nat × Nat)} {e : Nat} {q : Int32} {r : List Int32} {g : wG} (hm : m0 ≤ ps.length) (ho : c_over (pH P (hp + m0)) g) : c_over (pH P hp) (w_ctc nt rec L ps e (q :: r) g) := by
  rcases ho with ho | ho
  · refine Or.inl (w_ctc_over R ?_)
    exact ho.of rfl rfl rfl (by show p_rf P + (hp + m0) + w_ph g ≤ p_rf P + (hp + ps.length) + w_ph g; omega)
  · exact c_over.mono (P := pH P hp) (Or.inr ho) (wM.ctc R L ps e (q :: r) (wM.rf g))
section
variable {nt : sp_NT} {N M : Nat} {P : yP} {hp : Nat} {H V : List wSl} {O : List (Int32 × List (Nat × Nat))} {K u sb : Nat} {C : Nat → Prop} {o : Option Int32} {lm lm' lm1 : Nat → Nat} {lv lv' lv1 ct ct' : Nat → Bool} {x y x1 : mj_X} {g G : wG} {res par : Nat → Int32} {f : Nat} {n : Int32}
/-- pieces are forgotten, a label is put -/
theorem k_fpl {d e : Nat} {v vl : Int32} {ps : List (Nat × Nat)} (hd : 2 ≤ d) (he : e < g_nl g) (hv : lv e = true) (hct : ct e = false) (hvl : vl = nI (lm e)) (hV : ∀ c, c ∈ g_cx g → w_cl e c) (hH : ∀ s, s ∈ H → w_cl e s.2.2) (h : Y2 nt N P hp H ((v, ps) :: O) K u sb C none V lm lv ct x g) :
    KS nt N P hp H O K u sb e (z_skl V) C ct g (mj_rV (kX0 d 92 [.ref 0, .int v] x) fun x1 => mj_rV (kX0 d 70 [.ref 0, .int vl] x1) fun x2 => some (none, x2)) x lm lv (w_sl false e (w_put e g)) := by
  obtain ⟨y, e1, q1, f1, y2⟩ := h.forget (d := d) (by omega)
  rw [e1, mj_rV_k, hvl]
  have y29 : y.1 0 29 = x.1 0 29 := f1.1 0 29 rfl
  exact ((KS.pl (d := d) (n := e) hd false he hv hct (Nat.le_refl _) q1 hV hH).end_).pre (yg_w f1) (fun w => ⟨by rw [← y29]; exact w, yT.rf rfl (f1.1 0 48 rfl) (f1.1 0 47 rfl)⟩)
/-- all handlers, when it was much -/
theorem k_ctcM {d e : Nat} {a1 a2 a4 v vl : Int32} {ps : List (Nat × Nat)} (hd : 8 ≤ d) (hT : wTb nt N M res par) (hG : g_ok G) (he : e < g_nl G) (hV : ∀ c, c ∈ g_cx G → w_cl e c) (hH : ∀ s, s ∈ H → w_cl e s.2.2) :
    ∀ (l : List Int32) (q : Int32) (V : List wSl) (C : Nat → Prop) (lm : Nat → Nat) (lv ct : Nat → Bool) (x : mj_X), sp_Ch nt N 76 l q → wCh nt N 40 76 l → lv e = true → ct e = false → vl = nI (lm e) → ¬ x.1 0 29 = 0 → Y2 nt N P hp H ((v, ps) :: O) K u sb C none V lm lv ct x G →
      KS nt N P hp H O K u sb e (z_skl V) C ct G (rX0_tries d (63, [some (.ref 0), some (.int a1), some (.int a2), some (.int vl), some (.int a4), some (.int v), some (.int q)], [], x)) x lm lv (w_sl false e (w_put e G)) := by
  intro l
  induction l with
  | nil =>
    intro q V C lm lv ct x hl hch hv hct hvl h0 h
    rw [bX0_tries_63, if_pos (show q = -1 from hl)]
    exact k_fpl (by omega) he hv hct hvl hV hH h
  | cons p r ih =>
    intro q V C lm lv ct x hl hch hv hct hvl h0 h
    obtain ⟨e1, e2, e3, e4, e5⟩ := hl
    subst e1
    have ho := (h.mc h0).2.2
    obtain ⟨-, hdq, -⟩ := hch q (List.mem_cons_self ..)
    obtain ⟨⟨n1, n2', n3⟩, -⟩ := wE_catches (f := 40) hT e2 (by omega) e3
    rw [bX0_tries_63, if_neg (nd_n1 e2), h.nd e2, show x.1 2 q.toNatClampNeg = nA nt q by rw [h.T.2.1]]
    refine KS.b (n1 := g_nl G) (by omega) (Nat.le_refl _) (k_handM (by omega) hT n1 n2' n3 h0 hG h) (fun V1 C1 lm1 lv1 ct1 x1 q1 v1 c1 l1 f1 m1 => ?_)
    have z1 : ¬ x1.1 0 29 = 0 := fun w => h0 (m1 w)
    have le := l1 e he
    have jg := (KS.go (d := d) (l := e) (by omega) he (by rw [le.2.1]; exact hv) q1).back (g2 := G) z1 (wU_go e G).2.2.2.2.1.symm (w_go_nl e G).symm ho
    have jg : KS nt N P hp H ((v, ps) :: O) K u sb (g_nl G) (z_skl V1) C1 ct1 G (kX0 d 66 [.ref 0, .int vl] x1) x1 lm1 lv1 G := by
      rw [hvl, ← le.1]
      obtain ⟨V1, C1, lm1, lv1, ct1, x1, e, q, v, c, l, f, t⟩ := jg
      exact ⟨V1, C1, lm1, lv1, ct1, x1, e, q, v, c, l, f, fun w => absurd (t w).1 z1⟩
    refine KS.b (n1 := g_nl G) (by omega) (Nat.le_refl _) jg (fun V2 C2 lm2 lv2 ct2 x2 q2 v2 c2 l2 f2 m2 => ?_)
    have z2 : ¬ x2.1 0 29 = 0 := fun w => z1 (m2 w)
    have le2 := l2 e he
    rw [q2.nd e2, show x2.1 3 q.toNatClampNeg = nB nt q by rw [q2.T.2.2.1], ← v1, ← v2]
    exact ih (nB nt q) V2 C2 lm2 lv2 ct2 x2 e5 (fun k hk => hch k (List.mem_cons_of_mem _ hk)) (by rw [le2.2.1, le.2.1]; exact hv) (by rw [le2.2.2, le.2.2]; exact hct) (by rw [le2.1, le.1]; exact hvl) z2 q2
/-- one handler -/
theorem k_hand1 {d m0 : Nat} {q v : Int32} {L : List Nat} {ps : List (Nat × Nat)} (hd : 6 * f + 262 ≤ d) (hf : f ≤ 200) (hT : wTb nt N M res par) (R : ∀ m, wA nt N 40 m → kS nt N f m) (hC : ∀ c, c ∈ g_cx g → w_cok nt N c) (nq : sp_nd N q = true) (dq : nD nt q ≤ 40) (kq : nK nt q = 77 ∨ nK nt q = 78) (x0 : x.1 0 29 = 0) (hm0 : m0 ≤ ps.length)
    {cl : Int32} (hcl : cl = bif decide (nK nt q = 78) then nB nt q else q) {g2 : wG} (hg2 : g2 = bif decide (nK nt q = 78) then s_pl (nA nt q).toNatClampNeg (g_nx (w_hd L ps (nA nt cl) g)) (w_ts 1 [1] (w_pe 15 72 0 1 [1] (w_hd L ps (nA nt cl) g))) else w_em (7, 87, 0, 0, []) 1 [] (w_hd L ps (nA nt cl) g))
    (h : Y2 nt N P (hp + m0) H ((v, ps) :: O) K (200 - f) (sb + 1) C none V lm lv ct x g) (hok : g_ok (w_aln (wS nt f) (nB nt cl) g2)) :
    KS nt N P hp H ((v, ps) :: O) K (200 - f) (sb + 1) (g_nl g) (z_skl V) C ct g (kX0 d 89 [.ref 0, .int q, .int v] x) x lm lv (s_nx (g_nx g) (w_aln (wS nt f) (nB nt cl) g2)) := by
  obtain ⟨d, rfl⟩ : ∃ e, d = e + 1 := ⟨d - 1, by omega⟩
  have hov : g_ov g = false := (h.ex x0).2.2.1.1
  have n32 := (h.ex x0).2.2.2.1
  have b28 := (h.ex x0).2.2.1.2.2.2.2.1.1
  have ncl : sp_nd N cl = true ∧ nK nt cl = 77 := by
    rcases kq with k7 | k8
    · rw [hcl, decide_eq_false (show ¬ nK nt q = 78 by rw [k7]; decide)]; exact ⟨nq, k7⟩
    · obtain ⟨w1, w2, w3, w4, w5, w6⟩ := wE_with (f := 39) hT nq dq k8
      rw [hcl, decide_eq_true k8]; exact ⟨w4, w6⟩
  obtain ⟨ncl, k77⟩ := ncl
  have hdk := (hT.d ncl).2
  obtain ⟨-, -, sB⟩ := wE_catch (f := 39) hT ncl (by omega) k77
  have sB : wA nt N 40 (nB nt cl) := ⟨sB.1, sB.2.1, by have := sB.2.2; omega⟩
  have m3 : wM g2 (w_aln (wS nt f) (nB nt cl) g2) := (wM.rf g2).aln (wS_mono nt f) _
  have hmg : wM g (w_hd L ps (nA nt cl) g) := (wM.rf g).hd _ _ _
  have nlh : g_nl (w_hd L ps (nA nt cl) g) = g_nl g := rfl
  have nxh : g_nx (w_hd L ps (nA nt cl) g) = g_nx g := rfl
  have hqh : w_q (w_hd L ps (nA nt cl) g) = false := (w_q_iff _).mpr ⟨rfl, hov⟩
  have hS1 : ySame (s_rg (w_reg (g_it g).length (nA nt cl) ps (g_rg g)) (s_al true g)) (w_hd L ps (nA nt cl) g) := ⟨rfl, rfl, rfl, rfl, rfl, rfl, rfl, rfl, rfl, rfl⟩
  have hU1 : wU (s_rg (w_reg (g_it g).length (nA nt cl) ps (g_rg g)) (s_al true g)) (w_hd L ps (nA nt cl) g) := ⟨rfl, rfl, rfl, rfl, rfl, rfl⟩
  have itT : ∀ z : mj_X, yT z (w_hd L ps (nA nt cl) g) z g := fun z => yT.rf rfl rfl rfl
  generalize hgh : w_hd L ps (nA nt cl) g = gh at *
  -- the statement, and the end
  have tail : ∀ (a3 : Int32) (z z2 : mj_X) (V2 : List wSl) (lm2 : Nat → Nat) (lv2 ct2 : Nat → Bool) (C2 : Nat → Prop), g_nl g ≤ g_nl g2 → wK (g_cx g) (g_cx g2) → (z2.1 0 29 = 0 → z.1 0 29 = 0) → (z.1 0 29 = 0 → z.1 0 32 = nI (g_nx g)) → Y2 nt N P hp H ((v, ps) :: O) K (200 - f) (sb + 1) C2 none V2 lm2 lv2 ct2 z2 g2 → KS nt N P hp H ((v, ps) :: O) K (200 - f) (sb + 1) (g_nl g) (z_skl V2) C2 ct2 g2 (rX0_handler d (112, [some (.ref 0), some (.int q), some (.int v), some (.int a3), some (.int cl), some (.int (z.1 0 32))], [], z2)) z2 lm2 lv2 (s_nx (g_nx g) (w_aln (wS nt f) (nB nt cl) g2)) := by
    intro a3 z z2 V2 lm2 lv2 ct2 C2 nn kk back z32 qz
    rw [bX0_handler_112, qz.nd ncl, show z2.1 3 cl.toNatClampNeg = nB nt cl by rw [qz.T.2.2.1]]
    refine KS.b nn (Nat.le_refl _) (KS.alone (R _ sB) (d := d) (by omega) (by omega) qz (w_cok.wK kk hC) hok) (fun V3 C3 lm3 lv3 ct3 x3 q3 v3 c3 l3 f3 mm3 => ?_)
    rw [← v3]
    exact KS.ret (q3.nx (n := g_nx g) (fun w => ⟨z32 (back (mm3 w)), n32.2.1⟩)) y32w (fun w => ⟨w, yT.rf rfl rfl rfl⟩)
  have e31 : ∀ (a3 : Int32), (a3 = 0 ↔ ¬ nK nt q = 78) → KS nt N P hp H ((v, ps) :: O) K (200 - f) (sb + 1) (g_nl g) (z_skl V) C ct g (rX0_handler d (31, [some (.ref 0), some (.int q), some (.int v), some (.int a3), none, none], [.int cl], x)) x lm lv (s_nx (g_nx g) (w_aln (wS nt f) (nB nt cl) g2)) := by
    intro a3 ha3
    rw [bX0_handler_31, h.nd ncl, show x.1 2 cl.toNatClampNeg = nA nt cl by rw [h.T.2.1]]
    obtain ⟨V2, lm2, lv2, ct2, y, ey, qy, vy, ly, fy, y2, ty⟩ := Y2.reg (d := d) (m0 := m0) (k := nA nt cl) (ve := x.1 0 28) (x := mj_wI x 0 30 1) (g := s_al true g) (by omega) hm0 (h.al true) (fun _ => by show x.1 0 28 = nI (w_at (p_w P) (g_it g) (g_it g).length); rw [b28, w_at_len])
    have qy : Y2 nt N P hp H ((v, ps) :: O) K (200 - f) (sb + 1) C none V2 lm2 lv2 ct2 y gh := qy.same hS1 hU1
    have fa : yfr (yw2 P K) (p_pf P) x y := ((yfr.rf _ _ x).w _ rfl).tr (yr_w fy)
    have y48 : y.1 0 48 = x.1 0 48 := fy.1 0 48 rfl
    have y47 : y.1 0 47 = x.1 0 47 := fy.1 0 47 rfl
    have ith : g_it gh = g_it g := by rw [← hgh]; rfl
    have y32 : y.1 0 29 = 0 → y.1 0 32 = nI (g_nx g) := fun w => by rw [← nxh]; exact (qy.ex w).2.2.2.1.1
    rw [ey, mj_rV_k, ← vy]
    refine KS.from (G := gh) ?_ fa (fun w => ⟨x0, yT.rf ith y48 y47⟩) (fun l hl => ly l hl)
    by_cases q8 : nK nt q = 78
    · rw [if_neg (fun w => (ha3.mp w) q8)]
      have hg2 : g2 = s_pl (nA nt q).toNatClampNeg (g_nx gh) (w_ts 1 [1] (w_pe 15 72 0 1 [1] gh)) := by rw [hg2, decide_eq_true q8]; rfl
      obtain ⟨w1, w2, w3, w4, w5, w6⟩ := wE_with (f := 39) hT nq dq q8
      have mp : wM gh (w_pe 15 72 0 1 [1] gh) := (wM.rf gh).pe _ _ _ _ _
      have mt : wM (w_pe 15 72 0 1 [1] gh) (w_ts 1 [1] (w_pe 15 72 0 1 [1] gh)) := (wM.rf _).ts _ _
      have okT : g_ok (w_ts 1 [1] (w_pe 15 72 0 1 [1] gh)) := by have := m3.1 hok; rw [hg2] at this; exact this
      have okP : g_ok (w_pe 15 72 0 1 [1] gh) := mt.1 okT
      have hqp : w_q (w_pe 15 72 0 1 [1] gh) = false := (wP_pe (n := 0) hqh).2.1
      have nxp : g_nx (w_pe 15 72 0 1 [1] gh) = g_nx gh := (wP_pe (n := 0) hqh).1.1.2.1
      obtain ⟨p5, p6⟩ := okT.2 hqp
      have ji := KS.inv (d := d) (s := 72) (off := 1) (v := 0) (on := [1]) (by omega) (by omega) qy okP
      refine KS.b (n1 := g_nl gh) (by omega) (Nat.le_refl _) ji (fun V3 C3 lm3 lv3 ct3 x3 q3 v3 c3 l3 f3 mm3 => ?_)
      have nlp : g_nl g ≤ g_nl (w_pe 15 72 0 1 [1] gh) := by have := mp.nl; omega
      generalize hgp : w_pe 15 72 0 1 [1] gh = gp at *
      have hx32 : x3.1 0 29 = 0 → x3.1 0 32 = nI (g_nx gp) := fun w => (q3.ex w).2.2.2.1.1
      have q4 : Y2 nt N P hp H ((v, ps) :: O) K (200 - f) (sb + 1) C3 none V3 lm3 lv3 ct3 (mj_wI (mj_wI x3 0 32 (x3.1 0 32 + sp_pl 1)) 0 33 (mj_max (x3.1 0 33) (x3.1 0 32 + sp_pl 1))) (s_tk (w_tl 1).length gp) := q3.tk (t := 1) (by decide) (fun _ => p6)
      have q5 := q4.plw (v := nA nt q) (p := x3.1 0 32) (q := g_nx gp) (Nat.lt_of_lt_of_le (sp_nd_lt q3.T.2.2.2.2 w1) q3.T.2.2.2.2) w2 (fun w => ⟨hx32 w, by omega⟩)
      have e2' : (mj_wI (mj_wI x3 0 32 (x3.1 0 32 + sp_pl 1)) 0 33 (mj_max (x3.1 0 33) (x3.1 0 32 + sp_pl 1))).1 2 q.toNatClampNeg = nA nt q := by show x3.1 2 _ = _; rw [q3.T.2.1]
      have hpl : (mj_wI (mj_wI (mj_wI x3 0 32 (x3.1 0 32 + sp_pl 1)) 0 33 (mj_max (x3.1 0 33) (x3.1 0 32 + sp_pl 1))) 35 (nA nt q).toNatClampNeg (x3.1 0 32)).1 35 (nA nt q).toNatClampNeg = x3.1 0 32 := by
        show upd (x3.1 35) (nA nt q).toNatClampNeg (x3.1 0 32) (nA nt q).toNatClampNeg = _; rw [pk_us]
      rw [q3.nd nq, e_takeX (by omega), mj_rI_k, show x3.1 2 q.toNatClampNeg = nA nt q by rw [q3.T.2.1], e2', q3.nd w1, q3.nd nq, q3.nd w1, hpl]
      have js := KS.stn (d := d) (t := 1) (p := x3.1 0 32) (q := g_nx gp) (F := (g_L gp ++ [1], (g_st gp).drop (w_tl 1).length)) (by omega) (by decide) (by decide) q5 (fun w => ⟨hx32 w, by omega⟩)
      rw [w_es_pl] at js
      have f5 : yfr (yw2 P K) (p_pf P) x3 (mj_wI (mj_wI (mj_wI x3 0 32 (x3.1 0 32 + sp_pl 1)) 0 33 (mj_max (x3.1 0 33) (x3.1 0 32 + sp_pl 1))) 35 (nA nt q).toNatClampNeg (x3.1 0 32)) := (yo4_w (((yfr.rf _ _ x3).w _ rfl).w _ rfl)).w _ (by unfold yw2; exact Bool.or_true _)
      rw [← v3]
      refine KS.pre (KS.b (n1 := g_nl gp) nlp (Nat.le_refl _) js (fun V5 C5 lm5 lv5 ct5 x5 q5' v5 c5 l5 f5 m5 => ?_)) f5 (fun w => ⟨w, yT.rf rfl rfl rfl⟩)
      have q6 : Y2 nt N P hp H ((v, ps) :: O) K (200 - f) (sb + 1) C5 none V5 lm5 lv5 ct5 x5 g2 := by
        rw [hg2, ← nxp]
        exact q5'
      have nn2 : g_nl g ≤ g_nl g2 := by
        have a : g_nl gp ≤ g_nl (w_ts 1 [1] gp) := mt.nl
        have b : g_nl g2 = g_nl (w_ts 1 [1] gp) := by rw [hg2]; rfl
        omega
      have kk2 : wK (g_cx g) (g_cx g2) := by
        have b : g_cx g2 = g_cx (w_ts 1 [1] gp) := by rw [hg2]; rfl
        rw [b]; exact ((hmg.tr mp).tr mt).2.2.2.2.2.1
      rw [← v5]
      have jt := tail a3 y x5 V5 lm5 lv5 ct5 C5 nn2 kk2 (fun w => mm3 (m5 w)) y32 q6
      obtain ⟨V7, C7, lm7, lv7, ct7, x7, e, q, v, c, l, f, t⟩ := jt
      exact ⟨V7, C7, lm7, lv7, ct7, x7, e, q, v, c, l, f, fun w => ⟨(t w).1, (yT.rf (by rw [hg2]; rfl) rfl rfl : yT x5 _ x5 g2).tr (t w).2⟩⟩
    · rw [if_pos (ha3.mpr q8)]
      have hg2 : g2 = w_em (7, 87, 0, 0, []) 1 [] gh := by rw [hg2, decide_eq_false q8]; rfl
      have je := KS.e1 (d := d) (i := (7, 87, 0, 0, [])) (off := 1) (on := []) (cc := 87) (by omega) qy ⟨fun _ => rfl, fun _ _ => rfl⟩
      rw [← hg2] at je
      have mp : wM gh g2 := by rw [hg2]; exact (wM.rf gh).em _ _ _
      refine KS.b (n1 := g_nl gh) (by omega) (Nat.le_refl _) je (fun V3 C3 lm3 lv3 ct3 x3 q3 v3 c3 l3 f3 mm3 => ?_)
      rw [← v3]
      exact tail a3 y x3 V3 lm3 lv3 ct3 C3 (by have := mp.nl; omega) (hmg.tr mp).2.2.2.2.2.1 mm3 y32 q3
  have hk : x.1 1 q.toNatClampNeg = nK nt q := by rw [h.T.1]
  rw [eX0_handler, h.nd nq, hk]
  rcases kq with k7 | k8
  · have hne : ¬ nK nt q = 78 := by rw [k7]; decide
    have ecl : cl = q := by rw [hcl, decide_eq_false hne]; rfl
    rw [if_neg hne, bX0_handler_16, if_pos rfl]
    have := e31 0 ⟨fun _ => hne, fun _ => rfl⟩
    rw [ecl] at this
    rw [ecl]; exact this
  · have ecl : cl = nB nt q := by rw [hcl, decide_eq_true k8]; rfl
    rw [if_pos k8, bX0_handler_16, if_neg (by decide), h.nd nq, show x.1 3 q.toNatClampNeg = nB nt q by rw [h.T.2.2.1], ← ecl]
    exact e31 1 ⟨fun w => absurd w (by decide), fun w => absurd k8 w⟩
end
