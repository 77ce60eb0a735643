/-! tries; what has an end, all well -/
section
variable {nt : sp_NT} {N M : Nat} {res par : Nat → Int32} {ret : Nat} {E : wF} {T : Nat → List Nat} {rs : Int32} {n m z : Nat} {D : Nat → Prop} {g g0 g1 h k : wG} {gh eh gv gt : List oGh} {cx cv ct : List wC} {L0 s0 : List Nat} {rec : wT} {K f B hh : Nat} {i : Int32} {s : sp_SS}
theorem ob75 (IH : oSc nt N M res par ret E T rs rec K) (b : oBg nt N M res par ret E T rs K (f + 1) i g0 s gh B) (e : nK nt i = 75) {G1 : wG} (hG1 : G1 = w_aln rec (nA nt i) (w_ctx 2 0 0 0 (w_lb (g_L g0, []) (s_ac g0)))) :
    oPs nt N M res par ret E T (f + 1) i g0 s gh (w_sl false (g_nl g0) (w_put (g_nl g0) (w_ctc nt rec (g_L g0) (oPcs G1) (g_nl g0) (sp_chain nt 4001 (nB nt i)) (w_go (g_nl g0) (w_shut G1))))) := by
  have b' := b
  obtain ⟨⟨p1, p2, p3, p4, p5, p6, p7, p8, p9, p10, p11, p12, p13, p14⟩, b2, hN, hT, hTr, hA⟩ := b'
  obtain ⟨wa, nb, db, kb⟩ := wE_try hT hA.1 hA.2.2 e
  have h40 := hT.2.2
  have pa := sp_pa_k e (a := nA nt i) (by decide) (nd_n1 wa.1)
  have pb := sp_pb_k e (a := nB nt i) (by decide) (nd_n1 nb)
  have Ta := hTr.a h40 hA.1 pa
  have Tb := hTr.b h40 hA.1 pb
  have Tl := hTr.lab h40 hA.1 pa pb
  have Tla : 1 ≤ (oT T (nA nt i)).length := List.length_pos_of_mem (hTr.self h40 wa.1)
  rw [oc75 e] at p8
  obtain ⟨c1, c2, c3⟩ := sp_th_t p8
  rw [sp_al_1] at c1
  rw [ol75 e] at p9
  have lf : sp_lf nt rs f (nA nt i) (oLo gh) (oWa gh) = true ∧ sp_lf nt rs f (nB nt i) (oLo gh) (oWa gh) = true := by simpa using p9
  have gr := (oS_gr hT hTr f (nA nt i) wa.1 wa.2.2 (Or.inl wa.2.1) s).al (r := sp_sc nt f (nA nt i) s)
  obtain ⟨l, l1, l2⟩ := hT.chain (K := 76) (p := nB nt i) (Or.inr (Or.inl rfl)) (Or.inr ⟨nb, kb⟩)
  have lne : l ≠ [] := fun y => by rw [y] at l1; exact nd_n1 nb l1
  rw [l2]
  obtain ⟨y1, lab, B1⟩ := b.lbs (F := (g_L g0, [])) (by show (0 : Nat) < 3370; decide) 1 (by omega)
  have m1 := b.mm y1 lab
  have lab' := lab
  obtain ⟨⟨x1, x2, x3, x4, x5, x6, x7, x8, x9, x10, x11, x12, x13⟩, n1, lo, la, us1, un1, fm1⟩ := lab'
  obtain ⟨la1, la2, la3⟩ := la (g_nl g0) (Nat.le_refl _) (by show g_nl g0 < g_nl g0 + 1; omega)
  have hG2 : G1 = w_aln rec (nA nt i) (w_ctx 2 0 0 0 (w_lbs (g_L g0, []) 1 (s_ac g0))) := hG1
  clear hG1
  subst hG2
  have mx1 : (g_L g0).length ≤ g_mx g0 := by
    have a := p2.1.2.2 ((w_q_iff g0).mp p1).2
    exact (a.2.2.2.2.2 ((w_q_iff g0).mp p1).1).1
  generalize w_lbs (g_L g0, []) 1 (s_ac g0) = g1 at *
  have n1 : g_nl g1 = g_nl g0 + 1 := n1
  have q1 : w_q g1 = false := by unfold w_q; rw [x2, x3]; exact p1
  have x4 : g_L g1 = g_L g0 := x4
  have x6 : g_nx g1 = g_nx g0 := x6
  have x7 : g_mx g1 = g_mx g0 := x7
  have x10 : g_pl g1 = g_pl g0 := x10
  have O1 : oOw (g_L g0) [] (g_nl g0) g1 := ⟨by omega, la1, la3⟩
  have m2 := m1.open_ (so := 2) (nd := 0) (b := 0) (c := 0) (e := oHd 2 0 0 0 (g_L g0) s.2.1) rfl (by show (g_L g0).length = _; rw [x6]; exact p6.2) (fun q => absurd q (by decide)) (fun q => absurd q (by decide)) (fun q => absurd q (by decide))
  have O2 : oOw (g_L g0) [] (g_nl g0) (w_ctx 2 0 0 0 g1) := O1
  have L2 : g_L (w_ctx 2 0 0 0 g1) = g_L g0 := x4
  have nx2 : g_nx (w_ctx 2 0 0 0 g1) = g_nx g0 := x6
  have mx2 : g_mx (w_ctx 2 0 0 0 g1) = g_mx g0 := x7
  have fm2 : oFm nt N s.2.1 (w_ctx 2 0 0 0 g1) := b.fm (g1 := g1) x10 (oPl.rf _ _) L2
  have we : ∀ d, d ∈ [oHd 2 0 0 0 (g_L g0) s.2.1] → h_L d <+: g_L g0 := fun d hd => by rw [List.mem_singleton.mp hd]; exact List.prefix_refl _
  have no : ∀ d : oGh, d ∈ ([] : List oGh) → h_L d <+: g_L g0 := fun d hd => by cases hd
  generalize w_ctx 2 0 0 0 g1 = g2 at *
  obtain ⟨m3, n3, v3, v3', ls3, -⟩ := m2.aln (s := s) IH b.w we (fun _ => ⟨by rw [L2, nx2]; exact p6.2, fm2⟩) wa (b.sbh (e := oHd 2 0 0 0 (g_L g0) s.2.1) (show (2 : Nat) ≤ 2 by decide) rfl (List.prefix_refl _) Ta c1 (by
    show sp_lf nt rs f (nA nt i) (0 + oLo gh) (0 + oWa gh) = true
    rw [Nat.zero_add, Nat.zero_add]; exact lf.1) (fun v q => Or.inl q) (fun v q _ => q) (by omega)) B1 (by omega) (fun x q => oDn_sub Ta x (q.hd (show (2 : Nat) ≠ 3 by decide))) (by have := O2.1; omega)
  have O3 := O2.ls ls3
  have nx3 := n3.trans nx2
  have cov3 := m3.pieces (show (2 : Nat) ≤ 2 by decide)
  have mx3 := ls3.mx
  generalize w_aln rec (nA nt i) g2 = g3 at *
  generalize oPcs g3 = ps at *
  have cov3 : ∀ p, p ∈ ps → w_cov (g_it g3) (g_L g0) p := cov3
  have m4 := m3.hide.shut
  have O4 := O3.ls (oLs.shut (g_nl g3) g3)
  have nx4 : g_nx (w_shut g3) = g_nx g0 := nx3
  have it4 : g_it (w_shut g3) = g_it g3 := rfl
  have mx4 : g_mx (w_shut g3) = g_mx g3 := rfl
  generalize w_shut g3 = g4 at *
  obtain ⟨m5, ls5⟩ := m4.go (l := g_nl g0) b.w no (by decide) O4.pd (fun y => (m4.live ((w_q_iff _).mp y).1).1)
  have O5 := O4.ls ls5
  obtain ⟨f1, f2, f3, f4, f5, f6, f7, f8, f9, f10, f11⟩ := oGo_f (g_nl g0) g4
  have H5 : oHp nt N M res par ret E gh (g_nl g0) (g_nl g0 + 1) (oDn T i gh) (g_L g0) (g_nl g0) (g_nx g0) g1 (w_go (g_nl g0) g4) := ⟨m5, O5, f4.trans nx4, fun y => by
    cases z : g_al (w_go (g_nl g0) g4)
    · rfl
    · rw [f1, (f11 z).1] at y; exact absurd y (by decide), by have := ls5.mx; omega⟩
  have cov5 : ∀ p, p ∈ ps → w_cov (g_it (w_go (g_nl g0) g4)) (g_L g0) p := oCov.it (by rw [← it4] at cov3; exact cov3) ls5.1
  have nl5 : g_nl g0 ≤ g_nl (w_go (g_nl g0) g4) := by have := O5.1; omega
  generalize w_go (g_nl g0) g4 = g5 at *
  obtain ⟨m6, O6, nx6, -, -⟩ := oCtc IH b lab B1 (by omega) (ps := ps) (e := g_nl g0) l f (nB nt i) g5 _ l1 lne db Tb (by omega) c3 lf.2 gr.2 (fun v y1 y2 => gr.1.2.2.2.2 v (fun x => y2 (Ta v x)) y1) H5 cov5 nl5
  generalize w_ctc nt rec (g_L g0) ps (g_nl g0) l g5 = g6 at *
  obtain ⟨m7, L7, -, -⟩ := m6.put b.w (Nat.le_refl _) O6 (List.prefix_refl _) (fun q => m6.live q) (fun d hd => by cases hd)
  have nx7 : g_nx (w_put (g_nl g0) g6) = g_nx g0 := (oPut_f _ _).2.2.2.2.1.trans nx6
  generalize w_put (g_nl g0) g6 = g7 at *
  have us1 : g_us g1 = g_us g0 + 1 := us1
  obtain ⟨m8, ls8⟩ := m7.sl (l := g_nl g0) b.w (by have := m7.us; omega)
  have F8 := w_sl_n false (g_nl g0) g7
  have G8 := w_sl_f false (g_nl g0) g7
  have e1 := w_cg_s (g_goes g7) (g_nl g0)
  have un1 : g_n1 g1 + g_fm (s_ac g0) = g_n1 (s_ac g0) + g_fm g1 + 1 := un1
  refine b.fin2 lab m8 ?_ ?_ ?_ ((G8.2.2.2.2.2.2.2.2.2 0 []).1.2.1.trans nx7) (fun q => by rw [G8.2.2.2.1]; exact L7 (by rw [← G8.2.1]; exact ((w_q_iff _).mp q).1)) (fun v q => ?_)
  · cases g_goes g7 (g_nl g0) <;> simp only [cond_true, cond_false] <;> omega
  · rw [F8.2.1, e1]
    cases g_goes g7 (g_nl g0) <;> simp only [cond_true, cond_false] <;> omega
  · rw [F8.2.1, e1]; omega
  · rw [oc75 e, c2] at q
    have := (oHandle_eff hT hTr f (nB nt i) nb db kb (sp_al s.1 (sp_sc nt f (nA nt i) s)).2) v q
    exact gr.2 v this
end
