/-! statements without contexts, all well -/
theorem oDn_sub {T : Nat → List Nat} {m i : Int32} {gh : List oGh} (h : ∀ x, x ∈ oT T m → x ∈ oT T i) : ∀ x, oDn T m gh x → oDn T i gh x := fun x q => q.elim (fun q => Or.inl (h x q)) Or.inr
section
variable {nt : sp_NT} {N M : Nat} {res par : Nat → Int32} {ret : Nat} {E : wF} {T : Nat → List Nat} {rs : Int32} {n m z : Nat} {D : Nat → Prop} {g g0 h k : wG} {gh : List oGh} {cx : List wC} {L0 s0 : List Nat} {rec : wT} {K f B : Nat} {i : Int32} {s : sp_SS}
/-- what a part that is a statement needs -/
theorem oBg.sb (b : oBg nt N M res par ret E T rs K f i g0 s gh B) {f' : Nat} {j : Int32} {s1 : sp_SS} {nx : Nat} (hsub : ∀ x, x ∈ oT T j → x ∈ oT T i) (hsc : (sp_sc nt f' j s1).1 = true) (hlf : sp_lf nt rs f' j (oLo gh) (oWa gh) = true)
    (h1 : ∀ v, s1.2.1 v = true → s.2.1 v = true ∨ (v ∈ oT T i ∧ ¬ v ∈ oT T j)) (h2 : ∀ v, s.2.1 v = true → ¬ v ∈ oT T i → s1.2.1 v = true) (hnx : nx + 2 * (oT T j).length ≤ g_nx g0 + 2 * (oT T i).length) : oSb nt N T rs f' j s1 gh nx := by
  obtain ⟨⟨p1, p2, p3, p4, p5, p6, p7, p8, p9, p10, p11, p12, p13, p14⟩, b2, b3, b4, b5, b6⟩ := b
  refine ⟨p3, p4, fun e he v hv hi => ?_, hsc, hlf, fun v hv hi => ?_, fun x hx => p11 x (hsub x hx), by omega⟩
  · have := p5 e he v hv hi
    exact h2 v this (p10 v hv this).1
  · rcases h1 v hi with q | ⟨q1, q2⟩
    · exact ⟨fun w => (p10 v hv q).1 (hsub v w), (p10 v hv q).2⟩
    · exact ⟨q2, p11 v q1⟩
theorem oBg.sb0 (b : oBg nt N M res par ret E T rs K f i g0 s gh B) {f' : Nat} {j : Int32} {nx : Nat} (hsub : ∀ x, x ∈ oT T j → x ∈ oT T i) (hsc : (sp_sc nt f' j s).1 = true) (hlf : sp_lf nt rs f' j (oLo gh) (oWa gh) = true) (hnx : nx + 2 * (oT T j).length ≤ g_nx g0 + 2 * (oT T i).length) : oSb nt N T rs f' j s gh nx := b.sb hsub hsc hlf (fun _ q => Or.inl q) (fun _ q _ => q) hnx
/-- in force at the beginning, in force at a later point with such locals -/
theorem oBg.fm (b : oBg nt N M res par ret E T rs K f i g0 s gh B) {g1 : wG} (e1 : g_pl g1 = g_pl g0) (a : oPl (oDn T i gh) g1 h) (hL : g_L h = g_L g0) : oFm nt N s.2.1 h := by
  obtain ⟨⟨p1, p2, p3, p4, p5, p6, p7, p8, p9, p10, p11, p12, p13, p14⟩, b2, b3, b4, b5, b6⟩ := b
  refine p7.cg hL (fun v hv hi => ?_)
  have := p10 v hv hi
  rw [a v (by rw [if_pos (by omega)]; exact fun q => q.elim this.1 this.2), e1]
theorem oBg.fm' (b : oBg nt N M res par ret E T rs K f i g0 s gh B) {g1 : wG} (e1 : g_pl g1 = g_pl g0) (a : oPl (oDn T i gh) g1 h) (hL : g_L g0 <+: g_L h) (h12 : ¬ 12 ∈ g_L h) : oFm nt N s.2.1 h := by
  obtain ⟨⟨p1, p2, p3, p4, p5, p6, p7, p8, p9, p10, p11, p12, p13, p14⟩, b2, b3, b4, b5, b6⟩ := b
  refine p7.cg' hL h12 (fun v hv hi => ?_)
  have := p10 v hv hi
  rw [a v (by rw [if_pos (by omega)]; exact fun q => q.elim this.1 this.2), e1]
/-- the end -/
theorem oBg.fin {F : wF} {c c' : Nat} {g1 : wG} (b : oBg nt N M res par ret E T rs K f i g0 s gh B) (l : oLab F c c' (s_ac g0) g1) (j : oJ nt N M res par ret E gh (g_cx h) (g_nl g0) (g_nl g0 + c) z (oDn T i gh) (g_L g0) [] g1 h) (hzc : z ≤ c)
    (hz : c + w_cg (g_goes h) (g_nl g0) ≤ z + w_cg (g_goes h) (g_nl g0 + c)) (hc : c' + 2 * w_cg (g_goes h) (g_nl g0) ≤ 3 + 2 * w_cg (g_goes h) (g_nl g0 + c)) (hnx : g_nx g0 ≤ g_nx h ∧ g_nx h ≤ g_nx g0 + 2 * (oT T i).length) (hlive : w_q h = false → (g_L h).length = g_nx h ∧ oFm nt N (sp_sc nt f i s).2.2.1 h) : oPs nt N M res par ret E T f i g0 s gh h :=
  ⟨j.1, oClose (g := s_ac g0) rfl l ⟨rfl, rfl, rfl, rfl, rfl, rfl, rfl⟩ (by
    refine ⟨⟨[], rfl⟩, Nat.le_refl _, fun _ _ => ⟨rfl, fun q => q, fun _ => rfl⟩, Nat.le_refl _, Nat.le_refl _, ⟨[], rfl⟩, fun q => q, fun _ _ _ q => q⟩) (fun _ _ => rfl) j.2.1 hzc hz hc, j.2.2.1, hnx.1, hnx.2, hlive⟩
theorem w_cg_s (go : Nat → Bool) (n : Nat) : w_cg go (n + 1) = w_cg go n + (bif go n then 1 else 0) := rfl
/-- no labels -/
theorem oBg.st (b : oBg nt N M res par ret E T rs K f i g0 s gh B) : oJ nt N M res par ret E gh (g_cx g0) (g_nl g0) (g_nl g0) 0 (oDn T i gh) (g_L g0) [] (s_ac g0) (s_ac g0) ∧ oB B (s_ac g0) := by
  obtain ⟨y, l, B0⟩ := b.lbs (F := ([], [])) (by decide) 0 (by omega)
  exact ⟨b.j y l, B0⟩
theorem oBg.fin0 (b : oBg nt N M res par ret E T rs K f i g0 s gh B) (j : oJ nt N M res par ret E gh (g_cx h) (g_nl g0) (g_nl g0) 0 (oDn T i gh) (g_L g0) [] (s_ac g0) h) (hnx : g_nx g0 ≤ g_nx h ∧ g_nx h ≤ g_nx g0 + 2 * (oT T i).length) (hlive : w_q h = false → (g_L h).length = g_nx h ∧ oFm nt N (sp_sc nt f i s).2.2.1 h) : oPs nt N M res par ret E T f i g0 s gh h :=
  b.fin (oLab.rf ([], []) (s_ac g0)) j (Nat.le_refl _) (by show 0 + w_cg (g_goes h) (g_nl g0) ≤ 0 + w_cg (g_goes h) (g_nl g0); omega) (by show 0 + 2 * w_cg (g_goes h) (g_nl g0) ≤ 3 + 2 * w_cg (g_goes h) (g_nl g0); omega) hnx hlive
/-- one label that is put and sealed last -/
theorem oBg.fin1 {F : wF} {c' : Nat} {g1 g4 : wG} (b : oBg nt N M res par ret E T rs K f i g0 s gh B) (l : oLab F 1 c' (s_ac g0) g1) (hc : c' ≤ 1) (j : oJ nt N M res par ret E gh (g_cx g4) (g_nl g0) (g_nl g0 + 1) 0 (oDn T i gh) (g_L g0) [] g1 g4) (hu : 1 ≤ g_us g4) (hnx : g_nx g4 = g_nx g0) (hL : g_al g4 = true → g_L g4 = g_L g0) (hI : ∀ v, (sp_sc nt f i s).2.2.1 v = true → s.2.1 v = true) : oPs nt N M res par ret E T f i g0 s gh (w_sl false (g_nl g0) g4) := by
  obtain ⟨x1, x2, x3, x4, x5, x6, x7, x8, x9⟩ := w_sl_n false (g_nl g0) g4
  obtain ⟨-, f2, f3, f4, f5, -, -, -, f9, f10⟩ := w_sl_f false (g_nl g0) g4
  have F' := (f10 0 []).1
  have j5 := j.sl (l := g_nl g0) b.w hu
  rw [← F'.2.2.2.2.2.1, Nat.zero_add] at j5
  have e1 := w_cg_s (g_goes g4) (g_nl g0)
  refine b.fin l j5 (by cases g_goes g4 (g_nl g0) <;> decide) (by rw [x2, e1]; cases g_goes g4 (g_nl g0) <;> simp only [cond_true, cond_false] <;> omega) (by rw [x2, e1]; omega) (by rw [F'.2.1, hnx]; omega) (fun q => ?_)
  have ha : g_al g4 = true := by rw [← f2]; exact ((w_q_iff _).mp q).1
  have eL : g_L (w_sl false (g_nl g0) g4) = g_L g0 := f4.trans (hL ha)
  have pl1 : g_pl g1 = g_pl g0 := l.1.2.2.2.2.2.2.2.2.2.1
  exact ⟨by rw [eL, F'.2.1, hnx]; exact b.1.2.2.2.2.2.1.2, (b.fm (g1 := g1) pl1 j5.2.1.2.2 (by rw [eL])).mono hI⟩
theorem ob60 (b : oBg nt N M res par ret E T rs K (f + 1) i g0 s gh B) (e : nK nt i = 60) : oPs nt N M res par ret E T (f + 1) i g0 s gh (wV nt 40 (nA nt i) 1 0 (s_ac g0)) := by
  have b' := b
  obtain ⟨⟨p1, p2, p3, p4, p5, p6, p7, p8, p9, p10, p11, p12, p13, p14⟩, b2, hN, hT, hTr, hA⟩ := b'
  obtain ⟨j0, B0⟩ := b.st
  have wa := wE_expr hT hA.1 hA.2.2 e
  have nb := (sp_k60 (hT.ok hA.1).1 (hT.ok hA.1).2 e).2
  rw [oc60 e] at p8
  obtain ⟨c1, c2, c3⟩ := sp_th_t p8
  have V := (oJ.V (g := s_ac g0) hN hT b.w j0 p1 wa p7 c1 B0 (by omega)).2.1
  have j1 := j0.val (by decide) b.w p1 V.1 V.2
  have cxe : g_cx (wV nt 40 (nA nt i) 1 0 (s_ac g0)) = g_cx g0 := V.1.1.1.2.2.2.2.2.1
  rw [← cxe] at j1
  have nxe : g_nx (wV nt 40 (nA nt i) 1 0 (s_ac g0)) = g_nx g0 := V.1.1.1.2.1
  refine b.fin0 j1 ⟨by omega, by omega⟩ (fun _ => ⟨by rw [V.1.2.2.1, nxe]; exact p6.2, ?_⟩)
  have : (sp_sc nt (f + 1) i s).2 = s := by
    rw [oc60 e, c2, if_pos (show nB nt i = -1 from nb)]; exact oSc_E hT wa s
  rw [this]
  exact b.fm rfl j1.2.1.2.2 V.1.2.2.1
theorem ob62 (IH : oSc nt N M res par ret E T rs rec K) (b : oBg nt N M res par ret E T rs K (f + 1) i g0 s gh B) (e : nK nt i = 62) : oPs nt N M res par ret E T (f + 1) i g0 s gh (rec (nB nt i) (rec (nA nt i) (s_ac g0))) := by
  have b' := b
  obtain ⟨⟨p1, p2, p3, p4, p5, p6, p7, p8, p9, p10, p11, p12, p13, p14⟩, b2, hN, hT, hTr, hA⟩ := b'
  obtain ⟨j0, B0⟩ := b.st
  obtain ⟨wa, wb⟩ := wE_seq hT hA.1 hA.2.2 e
  have h40 := hT.2.2
  have pa := sp_pa_k e (a := nA nt i) (by decide) (nd_n1 wa.1)
  have pb := sp_pb_k e (a := nB nt i) (by decide) (nd_n1 wb.1)
  have Ta := hTr.a h40 hA.1 pa
  have Tb := hTr.b h40 hA.1 pb
  have Tl := hTr.lab h40 hA.1 pa pb
  have dj := hTr.dj h40 hA.1 pa pb
  rw [oc62 e] at p8
  obtain ⟨c1, c2, c3⟩ := sp_th_t p8
  have lf : sp_lf nt rs f (nA nt i) (oLo gh) (oWa gh) = true ∧ sp_lf nt rs f (nB nt i) (oLo gh) (oWa gh) = true := by
    rw [sp_lf_s, show nt 0 i.toNatClampNeg = 62 from e] at p9
    have : (sp_lf nt rs f (nA nt i) (oLo gh) (oWa gh) && sp_lf nt rs f (nB nt i) (oLo gh) (oWa gh)) = true := p9
    simpa using this
  obtain ⟨j1, n1, n2, l1, v1, q1, -⟩ := j0.sub (g := s_ac g0) IH b.w p1 p6.2 wa p7 (b.sb0 (nx := g_nx g0) Ta c1 lf.1 (by omega)) B0 (by omega) (oDn_sub Ta) (Nat.le_refl _)
  have n1 : g_nx g0 ≤ g_nx (rec (nA nt i) (s_ac g0)) := n1
  have n2 : g_nx (rec (nA nt i) (s_ac g0)) ≤ g_nx g0 + 2 * (oT T (nA nt i)).length := n2
  have es : (sp_sc nt (f + 1) i s).2 = (sp_sc nt f (nB nt i) (sp_sc nt f (nA nt i) s).2).2 := by rw [oc62 e, c2]
  have gr := oS_gr hT hTr f (nA nt i) wa.1 wa.2.2 (Or.inl wa.2.1) s
  cases hq : w_q (rec (nA nt i) (s_ac g0))
  · obtain ⟨ha, ho⟩ := (w_q_iff _).mp hq
    obtain ⟨v1, v2⟩ := v1 hq
    have hb : ∀ v, (sp_sc nt f (nA nt i) s).2.2.1 v = true → s.2.1 v = true ∨ (v ∈ oT T i ∧ ¬ v ∈ oT T (nB nt i)) := fun v q => by
      rcases gr.2.2.1 v q with x | ⟨x, -⟩
      · exact Or.inl x
      · exact Or.inr ⟨Ta v x, dj v x⟩
    obtain ⟨j2, m1, m2, l2, w2, q2, -⟩ := j1.sub (s := (sp_sc nt f (nA nt i) s).2) IH b.w hq v1 wb v2 (b.sb Tb c3 lf.2 hb (fun v q w => gr.2.2.2.2 v (fun x => w (Ta v x)) q) (by omega)) B0 (by omega) (oDn_sub Tb) (Nat.le_trans (Nat.le_refl _) j1.2.1.1.2.1)
    refine b.fin0 j2 ⟨by omega, by omega⟩ (fun q => ⟨(w2 q).1, ?_⟩)
    rw [es]; exact (w2 q).2
  · rw [IH.1 _ _ hq]
    exact b.fin0 j1 ⟨by omega, by omega⟩ (fun q => by rw [hq] at q; exact absurd q (by decide))
theorem ob63 (IH : oSc nt N M res par ret E T rs rec K) (b : oBg nt N M res par ret E T rs K (f + 1) i g0 s gh B) (e : nK nt i = 63) : oPs nt N M res par ret E T (f + 1) i g0 s gh (w_aln rec (nA nt i) (s_ac g0)) := by
  have b' := b
  obtain ⟨⟨p1, p2, p3, p4, p5, p6, p7, p8, p9, p10, p11, p12, p13, p14⟩, b2, hN, hT, hTr, hA⟩ := b'
  obtain ⟨j0, B0⟩ := b.st
  have wa := wE_block hT hA.1 hA.2.2 e
  have h40 := hT.2.2
  have pa := sp_pa_k e (a := nA nt i) (by decide) (nd_n1 wa.1)
  have Ta := hTr.a h40 hA.1 pa
  have Tl := hTr.la h40 hA.1 pa
  rw [oc63 e] at p8
  have lf : sp_lf nt rs f (nA nt i) (oLo gh) (oWa gh) = true := by
    rw [sp_lf_s, show nt 0 i.toNatClampNeg = 63 from e] at p9; exact p9
  have gr := oS_gr hT hTr f (nA nt i) wa.1 wa.2.2 (Or.inl wa.2.1) s
  obtain ⟨j1, n1, v1, -, -, -⟩ := j0.aln (g := s_ac g0) (s := s) IH b.w (fun _ => ⟨p6.2, p7⟩) wa (b.sb0 (nx := g_nx g0) Ta p8 lf (by omega)) B0 (by omega) (oDn_sub Ta) (Nat.le_refl _)
  have n1 : g_nx (w_aln rec (nA nt i) (s_ac g0)) = g_nx g0 := n1
  refine b.fin0 j1 ⟨by omega, by omega⟩ (fun q => ?_)
  obtain ⟨-, eL⟩ := v1 q
  have eL : g_L (w_aln rec (nA nt i) (s_ac g0)) = g_L g0 := eL
  refine ⟨by rw [eL, n1]; exact p6.2, ?_⟩
  rw [oc63 e]
  exact (b.fm rfl j1.2.1.2.2 (by rw [eL])).mono (gr.al (r := sp_sc nt f (nA nt i) s)).2
theorem ob64 (IH : oSc nt N M res par ret E T rs rec K) (b : oBg nt N M res par ret E T rs K (f + 1) i g0 s gh B) (e : nK nt i = 64) : oPs nt N M res par ret E T (f + 1) i g0 s gh (w_sl false (g_nl g0) (w_put (g_nl g0) (w_aln rec (nB nt i) (wV nt 40 (nA nt i) 3 (g_nl g0) (w_lb (g_L g0, []) (s_ac g0)))))) := by
  have b' := b
  obtain ⟨⟨p1, p2, p3, p4, p5, p6, p7, p8, p9, p10, p11, p12, p13, p14⟩, b2, hN, hT, hTr, hA⟩ := b'
  obtain ⟨wa, ta, wb⟩ := wE_if hT hA.1 hA.2.2 e
  have h40 := hT.2.2
  have pb := sp_pb_k e (a := nB nt i) (by decide) (nd_n1 wb.1)
  have Tb := hTr.b h40 hA.1 pb
  have Tl := hTr.lb h40 hA.1 pb
  rw [oc64 e] at p8
  obtain ⟨c1, c2, c3⟩ := sp_th_t p8
  rw [oSc_E hT wa s] at c2 c3
  have lf : sp_lf nt rs f (nB nt i) (oLo gh) (oWa gh) = true := by
    rw [sp_lf_s, show nt 0 i.toNatClampNeg = 64 from e] at p9; exact p9
  have gr := oS_gr hT hTr f (nB nt i) wb.1 wb.2.2 (Or.inl wb.2.1) s
  obtain ⟨y1, l1, B1⟩ := b.lbs (F := (g_L g0, [])) (by show (0 : Nat) < 3370; decide) 1 (by omega)
  have j1 := b.j y1 l1
  have l1' := l1
  obtain ⟨⟨x1, x2, x3, x4, x5, x6, x7, x8, x9, x10, x11, x12, x13⟩, n1, lo, la, us1, un1, fm1⟩ := l1'
  obtain ⟨la1, la2, la3⟩ := la (g_nl g0) (Nat.le_refl _) (by show g_nl g0 < g_nl g0 + 1; omega)
  show oPs nt N M res par ret E T (f + 1) i g0 s gh (w_sl false (g_nl g0) (w_put (g_nl g0) (w_aln rec (nB nt i) (wV nt 40 (nA nt i) 3 (g_nl g0) (w_lbs (g_L g0, []) 1 (s_ac g0))))))
  generalize w_lbs (g_L g0, []) 1 (s_ac g0) = g1 at *
  have n1 : g_nl g1 = g_nl g0 + 1 := n1
  have q1 : w_q g1 = false := by unfold w_q; rw [x2, x3]; exact p1
  have x4 : g_L g1 = g_L g0 := x4
  have x6 : g_nx g1 = g_nx g0 := x6
  have x10 : g_pl g1 = g_pl g0 := x10
  have x11 : g_cx g1 = g_cx g0 := x11
  rw [← x11] at j1
  have fm1 : oFm nt N s.2.1 g1 := b.fm (g1 := g1) x10 (oPl.rf _ _) (by rw [x4])
  have V := ((oJ.V hN hT b.w j1 q1 wa fm1 c1 B1 (by omega)).2.2 ta (g_nl g0) ⟨by omega, by rw [la3, x4], fun j q => by rw [la1] at q; simp at q⟩).2
  have j2 := j1.cond (by decide) b.w q1 V.1 V.2
  have V1 := V.1.1.1
  have lat2 := (V.1.1.2.2.2.1 (g_nl g0) (by omega)).1.trans la1
  have lF2 := (V.1.1.2.2.2.1 (g_nl g0) (by omega)).2.1.trans la3
  have VL := V.2.2.1
  have live2 : g_al (wV nt 40 (nA nt i) 3 (g_nl g0) g1) = true → g_L (wV nt 40 (nA nt i) 3 (g_nl g0) g1) = g_L g0 := fun _ => VL.trans x4
  generalize wV nt 40 (nA nt i) 3 (g_nl g0) g1 = g2 at *
  have cx2 : g_cx g1 = g_cx g2 := V1.2.2.2.2.2.1.symm
  rw [cx2] at j2
  have nx2 : g_nx g2 = g_nx g0 := V1.2.1.trans x6
  have nl2 : g_nl g0 < g_nl g2 := by have := j2.2.1.1.2.1; omega
  obtain ⟨j3, n3, v3, v3', kl3, -⟩ := j2.aln (s := s) IH b.w (fun q => ⟨by rw [live2 ((w_q_iff _).mp q).1, nx2]; exact p6.2, b.fm (g1 := g1) x10 j2.2.1.2.2 (by rw [live2 ((w_q_iff _).mp q).1])⟩) wb (b.sb0 Tb c3 lf (by omega)) B1 (by omega) (oDn_sub Tb) (by omega)
  have lat3 := (kl3.2.2 _ nl2).1.trans lat2
  have lF3 := (kl3.2.2 _ nl2).2.1.trans lF2
  have nl3 : g_nl g0 < g_nl (w_aln rec (nB nt i) g2) := Nat.lt_of_lt_of_le nl2 kl3.1
  have nx3 : g_nx (w_aln rec (nB nt i) g2) = g_nx g0 := n3.trans nx2
  have us3 := j3.2.1.2.1.2.2.2.2.2.2.2
  have al3 : g_al (w_aln rec (nB nt i) g2) = true → g_L g0 <+: g_L (w_aln rec (nB nt i) g2) ∧ g_st (w_aln rec (nB nt i) g2) = [] := j3.2.2.1
  generalize w_aln rec (nB nt i) g2 = g3 at *
  obtain ⟨j4, L4⟩ := j3.put b.w (Nat.le_refl _) nl3 lat3 lF3 (List.prefix_refl _) al3
  obtain ⟨f1, f2, f3, f4, f5, f6, f7, f8, f9, f10, f11, f12⟩ := oPut_f (g_nl g0) g3
  rw [← f6] at j4
  have us4 := j4.2.1.2.1.2.2.2.2.2.2.2
  generalize w_put (g_nl g0) g3 = g4 at *
  exact b.fin1 l1 (by omega) j4 (by omega) (by rw [f5]; exact nx3) L4 (fun v q => by
    rw [oc64 e, c2] at q
    exact (gr.al (r := sp_sc nt f (nB nt i) s)).2 v q)
end
