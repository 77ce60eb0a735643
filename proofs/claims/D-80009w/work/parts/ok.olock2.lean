/-! finally and locks as statements -/
section
variable {nt : sp_NT} {N M : Nat} {res par : Nat → Int32} {ret : Nat} {E : wF} {T : Nat → List Nat} {rs : Int32} {n m z : Nat} {D : Nat → Prop} {g g0 g1 h k : wG} {gh eh gv gt : List oGh} {cx cv ct : List wC} {L0 s0 : List Nat} {rec : wT} {K f B hh : Nat} {i : Int32} {s : sp_SS}
theorem ob79 (IH : oSc nt N M res par ret E T rs rec K) (b : oBg nt N M res par ret E T rs K (f + 1) i g0 s gh B) (e : nK nt i = 79) : oPs nt N M res par ret E T (f + 1) i g0 s gh (w_ended rec 3 (nA nt i) (nB nt i) (s_ac g0)) := by
  have b' := b
  obtain ⟨⟨p1, p2, p3, p4, p5, p6, p7, p8, p9, p10, p11, p12, p13, p14⟩, b2, hN, hT, hTr, hA⟩ := b'
  obtain ⟨m0, B0⟩ := b.mst
  obtain ⟨wa, wb⟩ := wE_fin hT hA.1 hA.2.2 e
  have h40 := hT.2.2
  have pa := sp_pa_k e (a := nA nt i) (by decide) (nd_n1 wa.1)
  have pb := sp_pb_k e (a := nB nt i) (by decide) (nd_n1 wb.1)
  have Ta := hTr.a h40 hA.1 pa
  have Tb := hTr.b h40 hA.1 pb
  have Tl := hTr.lab h40 hA.1 pa pb
  have dj := hTr.dj h40 hA.1 pa pb
  have Tla : 1 ≤ (oT T (nA nt i)).length := List.length_pos_of_mem (hTr.self h40 wa.1)
  rw [oc79 e] at p8
  obtain ⟨c1, c2, c3⟩ := sp_th_t p8
  rw [sp_al_1] at c1 c3
  rw [ol79 e] at p9
  have lf : sp_lf nt rs f (nA nt i) (oLo gh) (oWa gh) = true ∧ sp_lf nt rs f (nB nt i) (oLo gh) (oWa gh) = true := by simpa using p9
  have gr := (oS_gr hT hTr f (nA nt i) wa.1 wa.2.2 (Or.inl wa.2.1) s).al (r := sp_sc nt f (nA nt i) s)
  have grb := (oS_gr hT hTr f (nB nt i) wb.1 wb.2.2 (Or.inl wb.2.1) (sp_al s.1 (sp_sc nt f (nA nt i) s)).2).al (r := sp_sc nt f (nB nt i) (sp_al s.1 (sp_sc nt f (nA nt i) s)).2)
  generalize hse : (sp_al s.1 (sp_sc nt f (nA nt i) s)).2 = se at *
  have q0 : w_q (s_ac g0) = false := p1
  have ix : ∀ x, oIsE T (oHd 3 (nB nt i) 0 0 (g_L g0) se.2.1 :: gh) x → x ∈ oT T (nB nt i) ∨ oIsE T gh x := fun x ⟨d, d1, d2, d3⟩ => by
    rcases List.mem_cons.mp d1 with y | y
    · rw [y] at d3; exact Or.inl d3
    · exact Or.inr ⟨d, y, d2, d3⟩
  have sbe : ∀ nx, nx ≤ g_nx g0 + 1 → oSb nt N T rs f (nB nt i) se gh nx := fun nx hnx => b.sb Tb c3 lf.2 (fun v q => Or.inl (gr.2 v q)) (fun v q y => gr.1.2.2.2.2 v (fun x => y (Ta v x)) q) (by omega)
  obtain ⟨r1, r2, r3, r4, r5⟩ := oEnded (g := s_ac g0) (D := oDn T i gh) (so := 3) (nd := nB nt i) (eI := se.2.1) (fe := f) (se := se) IH (by show 1 ≤ g_ac g0 + 1; omega) m0.j.1 q0 p6.1 p6.2 (by show g_nx g0 < 245; omega) B0 (by omega) b.w (Or.inl rfl) wa p7
    (by
      refine ⟨⟨by show (3 : Nat) ≤ 4; decide, fun d hd => p2.2.2.2.2.2 ((w_q_iff g0).mp p1).1 d hd, fun _ => ⟨⟨f, se, wb, rfl, c3, lf.2⟩, fun v hv hi => ⟨fun x => (p10 v hv (gr.2 v hi)).1 (Tb v x), (p10 v hv (gr.2 v hi)).2⟩, fun x hx => p11 x (Tb x hx)⟩, fun q => absurd (show (3 : Nat) = 4 from q) (by decide), p3⟩, ⟨fun d hd v hv hi => ?_, p4⟩, fun d hd v hv hi => ?_, c1, ?_, fun v hv hi => ⟨fun x => (p10 v hv hi).1 (Ta v x), fun x => ?_⟩, fun x hx y => ?_, ?_⟩
      · have := p5 d hd v hv hi
        exact gr.1.2.2.2.2 v (fun x => (p10 v hv this).1 (Ta v x)) this
      · rcases List.mem_cons.mp hd with y | y
        · rw [y] at hi; exact gr.2 v hi
        · exact p5 d y v hv hi
      · show sp_lf nt rs f (nA nt i) (0 + oLo gh) (0 + oWa gh) = true
        rw [Nat.zero_add, Nat.zero_add]; exact lf.1
      · exact (ix v x).elim (fun x => (p10 v hv hi).1 (Tb v x)) (p10 v hv hi).2
      · exact (ix x y).elim (fun z => dj x hx z) (p11 x (Ta x hx))
      · show g_nx g0 + 2 * (oT T (nA nt i)).length + 2 * ((oT T (nB nt i)).length + oRw T gh) ≤ 240
        omega)
    (fun x q => q.elim (fun q => Or.inl (Ta x q)) (fun q => (ix x q).elim (fun q => Or.inl (Tb x q)) Or.inr))
    (fun _ => ⟨wb, rfl, gr.2, sbe, oDn_sub Tb, fun v hv hi => by
      have := p10 v hv (gr.2 v hi)
      exact fun q => q.elim this.1 this.2⟩)
    (fun q => absurd q (by decide))
  refine ⟨r1, r2, r3, ?_, ?_, fun q => ⟨?_, ?_⟩⟩
  · rw [r4]; exact Nat.le_refl _
  · rw [r4]; show g_nx g0 ≤ _; omega
  · rw [r5 q, r4]; exact p6.2
  · refine (b.fm (g1 := s_acm (s_ac g0)) rfl r2.2.2 (r5 q)).mono (fun v y => ?_)
    rw [oc79 e, c2] at y
    exact gr.2 v (grb.2 v y)
theorem ob80 (IH : oSc nt N M res par ret E T rs rec K) (b : oBg nt N M res par ret E T rs K (f + 1) i g0 s gh B) (e : nK nt i = 80) : oPs nt N M res par ret E T (f + 1) i g0 s gh (w_lock nt (wV nt 40) rec (nA nt i) (nB nt i) (s_ac g0)) := by
  have b' := b
  obtain ⟨⟨p1, p2, p3, p4, p5, p6, p7, p8, p9, p10, p11, p12, p13, p14⟩, b2, hN, hT, hTr, hA⟩ := b'
  obtain ⟨m0, B0⟩ := b.mst
  obtain ⟨wa, t5, t8, wb⟩ := wE_lock hT hA.1 hA.2.2 e
  have h40 := hT.2.2
  have pb := sp_pb_k e (a := nB nt i) (by decide) (nd_n1 wb.1)
  have Tb := hTr.b h40 hA.1 pb
  have Tl := hTr.lb h40 hA.1 pb
  rw [oc80 e] at p8
  obtain ⟨c1, c2, c3⟩ := sp_th_t p8
  rw [oSc_E hT wa s] at c2 c3
  rw [sp_al_1] at c3
  rw [ol80 e] at p9
  have gr := (oS_gr hT hTr f (nB nt i) wb.1 wb.2.2 (Or.inl wb.2.1) s).al (r := sp_sc nt f (nB nt i) s)
  have q0 : w_q (s_ac g0) = false := p1
  have no : ∀ d : oGh, d ∈ ([] : List oGh) → h_L d <+: g_L g0 := fun d hd => by cases hd
  have w := b.w
  obtain ⟨m1, ls1, P1⟩ := (m0.V hT w no q0 wa p7 c1 B0 (by omega)).1
  have P1' := P1
  obtain ⟨⟨⟨x1, x2, x3, x4, x5, x6, x7⟩, xr⟩, P2, P3, P4⟩ := P1'
  unfold w_lock
  simp only
  have a5 : w_arr5 (nT nt (nA nt i)) := ⟨t5, t8⟩
  have e5 : w_tl (nT nt (nA nt i)) = [nT nt (nA nt i)] := w_tl_1 (Or.inr a5)
  rw [e5] at m1 P4
  generalize nT nt (nA nt i) = t at *
  generalize wV nt 40 (nA nt i) 0 0 (s_ac g0) = g1 at *
  have x2 : g_nx g1 = g_nx g0 := x2
  have P3 : g_L g1 = g_L g0 := P3
  -- the lock, twice
  obtain ⟨ct1, j1⟩ := m1.ac
  have d1 : (g_st g1).drop 1 = [] := by rw [P4]; rfl
  rw [d1]
  have o2 := (oP.rf (f := 41) (n := g_nl g1) j1.1.1 P2 P4).es hN (i := (7, 89, 0, 0, [])) (s' := [12, 12]) rfl rfl (fun po => oTy.of ⟨rfl, Or.inr (Or.inr (Or.inl ⟨rfl, t, [], rfl, by omega, Or.inr ⟨a5, rfl, by show ¬ 12 ∈ g_L g1; rw [P3]; exact p7.2, by simp⟩⟩))⟩ (by decide) (by decide) (by decide)) (by decide)
  obtain ⟨m2, ls2⟩ := m1.val (by decide) w no P2 o2.1 o2.2
  have q2 := o2.1.2.1
  have L2 : g_L (w_es (7, 89, 0, 0, []) (g_L g1, [12, 12]) g1) = g_L g0 := o2.1.2.2.1.trans P3
  have nx2 : g_nx (w_es (7, 89, 0, 0, []) (g_L g1, [12, 12]) g1) = g_nx g0 := o2.1.1.1.2.1.trans x2
  generalize w_es (7, 89, 0, 0, []) (g_L g1, [12, 12]) g1 = g2 at *
  obtain ⟨m3, ls3, L3, nl3⟩ := m2.ts (t := 5) (ty := [12]) (r := [12]) w no q2 (by rw [L2, nx2]; exact p6.2) (by omega) (by decide) (Or.inr ⟨⟨by decide, by decide⟩, 12, rfl, rfl, Or.inr (Or.inr rfl)⟩)
  obtain ⟨f1, f2, f3, f4, f5, f6, f7, f8, f9, f10, f11, f12⟩ := w_ts_f 5 [12] g2
  have q3 : w_q (w_ts 5 [12] g2) = false := f12.trans q2
  have nx3 : g_nx (w_ts 5 [12] g2) = g_nx g0 + 1 := by rw [f5, nx2]; rfl
  have L3 : g_L (w_ts 5 [12] g2) = g_L g0 ++ [12] := by rw [L3, L2]
  generalize w_ts 5 [12] g2 = g3 at *
  have st3 := (m3.live ((w_q_iff _).mp q3).1).2
  have tk : (g_L g3).take (g_nx g2) = g_L g0 := by rw [L3, nx2, ← p6.2, List.take_left']; rfl
  have d3 : (g_st g3).drop 1 = [] := by rw [st3]; rfl
  rw [tk, d3, nx2]
  -- the lock is taken
  obtain ⟨ct3, j3⟩ := m3.ac
  have ho3 := ((w_q_iff _).mp q3).2
  have c6 := (j3.1.1.2.2 ho3).2.2.2.2.2 ((w_q_iff _).mp q3).1
  have ty : oTy nt M res par ret (g_po g3) (16, 194, 0, 0, []) (g_L g3, g_st g3) (g_L g0 ++ [11], []) :=
    ⟨Or.inr (Or.inr (Or.inl ⟨rfl, g_L g0, L3, rfl, st3, p7.2, by simp⟩)), fun q => (q.elim (fun q => absurd (show (16 : Nat) = 1 from q) (by decide)) (fun q => absurd (show (16 : Nat) = 15 from q) (by decide))), fun q => absurd (show (16 : Nat) = 1 from q) (by decide), fun q => absurd (show (16 : Nat) = 15 from q) (by decide), (fun _ _ q => absurd (show 194 ≤ 177 from q) (by decide)), oShp0 rfl (by decide)⟩
  have es := oQb.es (f := 41) hN j3.1.1 q3 (i := (16, 194, 0, 0, [])) (F := (g_L g0 ++ [11], [])) rfl rfl ty (by show (g_L g0 ++ [11]).length ≤ g_mx g3; have := c6.1; rw [L3] at this; simpa using this) (by show (0 : Nat) < 3370; decide)
  have F5 := oEs_f (i := (16, 194, 0, 0, [])) (F := (g_L g0 ++ [11], [])) q3
  have fr : g_ov (w_es (16, 194, 0, 0, []) (g_L g0 ++ [11], []) g3) = g_ov g3 ∧ g_ac (w_es (16, 194, 0, 0, []) (g_L g0 ++ [11], []) g3) = g_ac g3 ∧ g_lat (w_es (16, 194, 0, 0, []) (g_L g0 ++ [11], []) g3) = g_lat g3 ∧ g_pl (w_es (16, 194, 0, 0, []) (g_L g0 ++ [11], []) g3) = g_pl g3 ∧ g_cx (w_es (16, 194, 0, 0, []) (g_L g0 ++ [11], []) g3) = g_cx g3 ∧ g_nx (w_es (16, 194, 0, 0, []) (g_L g0 ++ [11], []) g3) = g_nx g3 ∧ g_st (w_es (16, 194, 0, 0, []) (g_L g0 ++ [11], []) g3) = [] ∧ w_q (w_es (16, 194, 0, 0, []) (g_L g0 ++ [11], []) g3) = false := by
    unfold w_es; rw [q3]; exact ⟨rfl, rfl, rfl, rfl, rfl, rfl, rfl, q3⟩
  generalize w_es (16, 194, 0, 0, []) (g_L g0 ++ [11], []) g3 = g5 at *
  obtain ⟨r1, r2, r3, r4, r5, r6, r7, q5⟩ := fr
  have L5 : g_L g5 = g_L g0 ++ [11] := F5.1
  have nw : oNw (g_L g3) g3 g5 := oNw.one F5.2 (List.prefix_refl _)
  have al3 := j3.1.2.2.2.2.2 ((w_q_iff _).mp q3).1
  have j3' := m3.j
  have hle : ∀ d, d ∈ gh → h_L d <+: g_L g0 := fun d hd => w.2.2.2 d hd
  have st5 := j3'.1.step (m := g_nl g0) (D := oDn T i gh) (Nat.le_refl _) w es r1 r2 (fun l _ _ => by rw [r3]) (oPl.eq r4) (fun d hd => nw.le (al3 d hd)) (fun _ d hd => by rw [L5]; exact (hle d hd).trans (List.prefix_append _ _)) (Nat.le_trans j3'.2.1.2.1.1 j3'.2.1.2.1.2.1)
  have Z5 : oZ (g_nl g0) (g_nl g0) 0 (oDn T i gh) (s_ac g0) g5 := j3'.2.1.tr st5.2
  have Y5 : oY nt N M res par ret E gh (g_cx g5) g5 := by rw [r5]; exact st5.1
  have nx5 : g_nx g5 = g_nx g0 + 1 := r6.trans nx3
  have len5 : (g_L g5).length = g_nx g5 := by rw [L5, nx5]; simp [p6.2]
  have pl5 : ∀ v, v < N → s.2.1 v = true → g_pl g5 v = g_pl g0 v := fun v hv hi => by
    have := p10 v hv hi
    exact Z5.2.2 v (by rw [if_pos (by omega)]; exact fun q => q.elim this.1 this.2)
  have fm5 : oFm nt N s.2.1 g5 := p7.cg' (by rw [L5]; exact List.prefix_append _ _) (by
    rw [L5, List.mem_append]
    rintro (y | y)
    · exact p7.2 y
    · have := List.mem_singleton.mp y; omega) pl5
  have w5 : oW N (g_nl g5) (oDn T i gh) gh (g_L g5) := ⟨Y5.2.1.lb, w.2.1, hN, fun d hd => by rw [L5]; exact (hle d hd).trans (List.prefix_append _ _)⟩
  have pk : (g_L g5)[g_nx g0]? = some 11 := by rw [L5, List.getElem?_append_right (Nat.le_of_eq p6.2), p6.2, Nat.sub_self]; rfl
  have ac5 : g_ac g0 + 1 ≤ g_ac g5 := Z5.2.1.2.2.2.2.1
  have hd3 : ∀ x, oIsE T (oHd 4 (nI (g_nx g0)) 0 0 (g_L g5) s.2.1 :: gh) x → oIsE T gh x := fun x q => (oIsE.hd (show (4 : Nat) ≠ 3 by decide)).mp q
  obtain ⟨u1, u2, u3, u4, u5⟩ := oEnded (g := g5) (D := oDn T i gh) (so := 4) (nd := nI (g_nx g0)) (eI := s.2.1) (fe := f) (se := s) IH (by omega) Y5 q5 r7 len5 (by omega) (B0.z Z5.2.1 Y5.2.2.2.1) (by omega) w5 (Or.inr rfl) wb fm5
    (by
      refine ⟨⟨by show (4 : Nat) ≤ 4; decide, fun d hd => w5.2.2.2 d hd, fun q => absurd (show (4 : Nat) = 3 from q) (by decide), fun _ => ⟨g_nx g0, rfl, by omega, pk⟩, p3⟩, ⟨fun d hd v hv hi => p5 d hd v hv hi, p4⟩, fun d hd v hv hi => ?_, c3, ?_, fun v hv hi => ⟨fun x => (p10 v hv hi).1 (Tb v x), fun x => (p10 v hv hi).2 (hd3 v x)⟩, fun x hx y => p11 x (Tb x hx) (hd3 x y), ?_⟩
      · rcases List.mem_cons.mp hd with y | y
        · rw [y] at hi; exact hi
        · exact p5 d y v hv hi
      · show sp_lf nt rs f (nB nt i) (0 + oLo gh) (0 + oWa gh) = true
        rw [Nat.zero_add, Nat.zero_add]; exact p9
      · show g_nx g5 + 2 * (oT T (nB nt i)).length + 2 * (0 + oRw T gh) ≤ 240
        omega)
    (fun x q => q.elim (fun q => Or.inl (Tb x q)) (fun q => Or.inr (hd3 x q)))
    (fun q => absurd q (by decide)) (fun _ => ⟨g_nx g0, rfl, by omega, pk⟩)
  have Z6 : oZ (g_nl g0) (g_nl g0) 0 (oDn T i gh) g0 (s_acm g5) := by
    obtain ⟨z1, ⟨o1, o2, o3, o4, o5, o6, o7, o8⟩, z3⟩ := Z5
    refine ⟨z1, ⟨Nat.le_refl _, o2, o3, o4, by show g_ac g0 ≤ g_ac g5 - 1; omega, o6, ?_, o8⟩, z3⟩
    have o7 : g_n1 g5 + g_fm g0 + 2 * w_cg (g_goes g5) (g_nl g0) + g_by g0 + 3 * (g_ac g0 + 1) ≤ g_n1 g0 + g_fm g5 + 2 * w_cg (g_goes g0) (g_nl g0) + g_by g5 + 3 * g_ac g5 := o7
    show g_n1 g5 + g_fm g0 + 2 * w_cg (g_goes g5) (g_nl g0) + g_by g0 + 3 * g_ac g0 ≤ g_n1 g0 + g_fm g5 + 2 * w_cg (g_goes g0) (g_nl g0) + g_by g5 + 3 * (g_ac g5 - 1)
    omega
  generalize w_ended rec 4 (nB nt i) (nI (g_nx g0)) g5 = g6 at *
  have nl5 : g_nl g0 ≤ g_nl g5 := Z5.1.2.1
  have Z7 : oZ (g_nl g0) (g_nl g0) 0 (oDn T i gh) g0 g6 := Z6.tr ⟨u2.1.low nl5, oPz.of u2.2.1.pt.1 u2.2.1.pt.2 nl5, u2.2.2⟩
  have pre : g_al g6 = true → g_L g0 <+: (g_L g6).take (g_nx g0) := fun y => pre_take (((List.prefix_append (g_L g0) [11]).trans (by rw [← L5]; exact (u3 y).1))) (Nat.le_of_eq p6.2)
  have nx0 : g_nx (s_ac g0) = g_nx g0 := rfl
  rw [nx0]
  have Y7 := (u1.sL (List.take_prefix (g_nx g0) (g_L g6)) (fun y d hd => (hle d hd).trans (pre y))).nx (g_nx g0)
  refine ⟨Y7, Z7.tr (oZ.sL (g := g6) (List.take_prefix _ _) (by have := Z7.1.2.1; omega)), fun y => ⟨pre y, (u3 y).2⟩, Nat.le_refl _, Nat.le_add_right _ _, fun q => ?_⟩
  have q6 : w_q g6 = false := q
  have L7 : g_L (s_nx (g_nx g0) (s_L ((g_L g6).take (g_nx g0)) g6)) = g_L g0 := by
    show (g_L g6).take (g_nx g0) = g_L g0
    rw [u5 q6, L5, ← p6.2, List.take_left']; rfl
  refine ⟨by rw [L7]; exact p6.2, (b.fm (h := s_nx (g_nx g0) (s_L ((g_L g6).take (g_nx g0)) g6)) (g1 := g0) rfl Z7.2.2 L7).mono (fun v y => ?_)⟩
  rw [oc80 e, c2] at y
  exact gr.2 v y
end
