/-! loops, all well -/
section
variable {nt : sp_NT} {N M : Nat} {res par : Nat → Int32} {ret : Nat} {E : wF} {T : Nat → List Nat} {rs : Int32} {n m z : Nat} {D : Nat → Prop} {g g0 g1 h k : wG} {gh eh : List oGh} {cx : List wC} {L0 s0 : List Nat} {rec : wT} {K f B hh : Nat} {i : Int32} {s : sp_SS}
/-- a context without pieces around a part -/
def oHd (so : Nat) (nd : Int32) (b c : Nat) (L : List Nat) (I : Nat → Bool) : oGh := ((so, nd, b, c), L, I)
theorem oIsE.hd {e : oGh} (h3 : h_so e ≠ 3) {x : Nat} : oIsE T (e :: gh) x ↔ oIsE T gh x := by
  refine ⟨fun ⟨d, h1, h2, h3'⟩ => ?_, fun ⟨d, h1, h2⟩ => ⟨d, List.mem_cons_of_mem _ h1, h2⟩⟩
  rcases List.mem_cons.mp h1 with q | q
  · exact absurd (by rw [← q]; exact h2) h3
  · exact ⟨d, q, h2, h3'⟩
theorem oDn.hd {e : oGh} (h3 : h_so e ≠ 3) {j : Int32} {x : Nat} (q : oDn T j (e :: gh) x) : oDn T j gh x := q.elim Or.inl (fun q => Or.inr ((oIsE.hd h3).mp q))
theorem oBg.sbh (b : oBg nt N M res par ret E T rs K f i g0 s gh B) {e : oGh} (h3 : h_so e ≤ 2) (hI : h_I e = s.2.1) (hL : g_L g0 <+: h_L e) {f' : Nat} {j : Int32} {s1 : sp_SS} {nx : Nat} (hsub : ∀ x, x ∈ oT T j → x ∈ oT T i) (hsc : (sp_sc nt f' j s1).1 = true) (hlf : sp_lf nt rs f' j (oLo (e :: gh)) (oWa (e :: gh)) = true)
    (h1 : ∀ v, s1.2.1 v = true → s.2.1 v = true ∨ (v ∈ oT T i ∧ ¬ v ∈ oT T j)) (h2 : ∀ v, s.2.1 v = true → ¬ v ∈ oT T i → s1.2.1 v = true) (hnx : nx + 2 * (oT T j).length ≤ g_nx g0 + 2 * (oT T i).length) : oSb nt N T rs f' j s1 (e :: gh) nx := by
  obtain ⟨⟨p1, p2, p3, p4, p5, p6, p7, p8, p9, p10, p11, p12, p13, p14⟩, b2, b3, b4, b5, b6⟩ := b
  have n3 : h_so e ≠ 3 := by omega
  refine ⟨⟨by omega, fun d hd => (p2.2.2.2.2.2 ((w_q_iff g0).mp p1).1 d hd).trans hL, fun q => absurd q n3, fun q => by omega, p3⟩, ⟨fun d hd v hv hi => by rw [hI]; exact p5 d hd v hv hi, p4⟩, fun d hd v hv hi => ?_, hsc, hlf, fun v hv hi => ?_, fun x hx q => p11 x (hsub x hx) ((oIsE.hd n3).mp q), ?_⟩
  · have q : s.2.1 v = true := by
      rcases List.mem_cons.mp hd with q | q
      · rw [q, hI] at hi; exact hi
      · exact p5 d q v hv hi
    exact h2 v q (p10 v hv q).1
  · rw [oIsE.hd n3]
    rcases h1 v hi with q | ⟨q1, q2⟩
    · exact ⟨fun w => (p10 v hv q).1 (hsub v w), (p10 v hv q).2⟩
    · exact ⟨q2, p11 v q1⟩
  · show nx + 2 * (oT T j).length + 2 * ((if h_so e = 3 then _ else 0) + oRw T gh) ≤ 240
    rw [if_neg n3]; omega
theorem w_put_ctx (so b c : Nat) (nd : Int32) (l : Nat) (g : wG) : w_put l (w_ctx so nd b c g) = w_ctx so nd b c (w_put l g) := by
  obtain ⟨it, al, ov, ⟨L, st⟩, ⟨nx, mx, ms, ac⟩, ⟨ln, pn⟩, po, rg, ⟨nl, lat, goes, lF, lc⟩, cx, pl, ok⟩ := g
  unfold w_put w_ctx s_cx
  dsimp only [g_al, g_goes]
  cases al
  · simp only [cond_false]
    generalize goes l = q
    cases q <;> rfl
  · rfl
/-- the labels of a loop -/
theorem oBg.lbl (b : oBg nt N M res par ret E T rs K f i g0 s gh B) : oY nt N M res par ret E gh (g_cx g0) (w_lbl (nK nt i) (g_L g0, []) (s_ac g0)) ∧ (∃ c', c' ≤ 3 ∧ oLab (g_L g0, []) 3 c' (s_ac g0) (w_lbl (nK nt i) (g_L g0, []) (s_ac g0))) ∧ oB (B + 3) (w_lbl (nK nt i) (g_L g0, []) (s_ac g0)) := by
  have b' := b
  obtain ⟨⟨p1, p2, p3, p4, p5, p6, p7, p8, p9, p10, p11, p12, p13, p14⟩, b2, hN, hT, hTr, hA⟩ := b'
  unfold w_lbl
  split
  · obtain ⟨y, l, B2⟩ := b.lbs (F := (g_L g0, [])) (by show (0 : Nat) < 3370; decide) 2 (by omega)
    have l0 := l.tr (oLab_lb0 (g_L g0, []) (w_lbs (g_L g0, []) 2 (s_ac g0)))
    exact ⟨y.lb0 (by show (0 : Nat) < 3370; decide) B2 (by omega), ⟨2, by omega, l0⟩, (oLab_lb0 _ _).oB B2 (by omega)⟩
  · obtain ⟨y, l, B2⟩ := b.lbs (F := (g_L g0, [])) (by show (0 : Nat) < 3370; decide) 3 (by omega)
    exact ⟨y, ⟨3, by omega, l⟩, B2⟩
/-- a loop: what stands at the beginning -/
theorem oLoop0 (b : oBg nt N M res par ret E T rs K f i g0 s gh B) : ∃ c', c' ≤ 3 ∧ oLab (g_L g0, []) 3 c' (s_ac g0) (w_lbl (nK nt i) (g_L g0, []) (s_ac g0)) ∧ oM nt N M res par ret E gh (g_nl g0) (g_nl g0 + 3) 0 (oDn T i gh) (g_L g0) 0 [] [] (w_lbl (nK nt i) (g_L g0, []) (s_ac g0)) (w_lbl (nK nt i) (g_L g0, []) (s_ac g0)) ∧ oB (B + 3) (w_lbl (nK nt i) (g_L g0, []) (s_ac g0))
    ∧ (∀ d, d ≤ 2 → oOw (g_L g0) [] (g_nl g0 + d) (w_lbl (nK nt i) (g_L g0, []) (s_ac g0))) ∧ g_us (w_lbl (nK nt i) (g_L g0, []) (s_ac g0)) = g_us g0 + 3 ∧ w_q (w_lbl (nK nt i) (g_L g0, []) (s_ac g0)) = false ∧ g_L (w_lbl (nK nt i) (g_L g0, []) (s_ac g0)) = g_L g0 ∧ g_nx (w_lbl (nK nt i) (g_L g0, []) (s_ac g0)) = g_nx g0 ∧ g_pl (w_lbl (nK nt i) (g_L g0, []) (s_ac g0)) = g_pl g0 := by
  obtain ⟨y1, ⟨c', hc', l1⟩, B1⟩ := b.lbl
  have m1 := b.mm y1 l1
  have l1' := l1
  obtain ⟨⟨x1, x2, x3, x4, x5, x6, x7, x8, x9, x10, x11, x12, x13⟩, n1, lo, la, us1, un1, fm1⟩ := l1'
  have n1 : g_nl (w_lbl (nK nt i) (g_L g0, []) (s_ac g0)) = g_nl g0 + 3 := n1
  refine ⟨c', hc', l1, m1, B1, fun d hd => ?_, us1, by unfold w_q; rw [x2, x3]; exact b.1.1, x4, x6, x10⟩
  obtain ⟨h1, h2, h3⟩ := la (g_nl g0 + d) (Nat.le_add_right _ _) (by show g_nl g0 + d < g_nl g0 + 3; omega)
  exact ⟨by omega, h1, h3⟩
/-- a loop's end -/
theorem oLoopE (b : oBg nt N M res par ret E T rs K f i g0 s gh B) {c' : Nat} (hc : c' ≤ 3) (l1 : oLab (g_L g0, []) 3 c' (s_ac g0) g1) (a : oM nt N M res par ret E gh (g_nl g0) (g_nl g0 + 3) 0 (oDn T i gh) (g_L g0) 1 [] [] g1 g) (hO : oOw (g_L g0) [] (g_nl g0) g) (hnx : g_nx g = g_nx g0) (hL : w_q g = false → g_L g = g_L g0) (hI : ∀ v, (sp_sc nt f i s).2.2.1 v = true → s.2.1 v = true) :
    oPs nt N M res par ret E T f i g0 s gh (w_sl false (g_nl g0) (w_put (g_nl g0) (w_sl false (g_nl g0 + 1) (w_sl false (g_nl g0 + 2) (w_shut g))))) := by
  have us1 : g_us g1 = g_us g0 + 3 := l1.2.2.2.2.1
  have m0 := a.shut
  have O0 := hO.ls (oLs.shut (g_nl g) g)
  have nx0 : g_nx (w_shut g) = g_nx g0 := hnx
  have L0' : w_q (w_shut g) = false → g_L (w_shut g) = g_L g0 := hL
  generalize w_shut g = k0 at *
  obtain ⟨m1, ls1⟩ := m0.sl (l := g_nl g0 + 2) b.w (by have := m0.us; omega)
  have F1 := w_sl_n false (g_nl g0 + 2) k0
  have G1 := w_sl_f false (g_nl g0 + 2) k0
  have nx1 := (G1.2.2.2.2.2.2.2.2.2 0 []).1.2.1.trans nx0
  have O1 := O0.ls ls1
  have go1 : g_goes (w_sl false (g_nl g0 + 2) k0) = g_goes k0 := F1.2.1
  have q1 : w_q (w_sl false (g_nl g0 + 2) k0) = false → g_L (w_sl false (g_nl g0 + 2) k0) = g_L g0 := fun q => by rw [G1.2.2.2.1]; exact L0' (by rw [← G1.2.2.2.2.2.2.2.2.1]; exact q)
  generalize w_sl false (g_nl g0 + 2) k0 = k1 at *
  have z1 : (bif g_goes k0 (g_nl g0 + 2) then 0 else 1) ≤ 1 := by cases g_goes k0 (g_nl g0 + 2) <;> decide
  obtain ⟨m2, ls2⟩ := m1.sl (l := g_nl g0 + 1) b.w (by have := m1.us; omega)
  have F2 := w_sl_n false (g_nl g0 + 1) k1
  have G2 := w_sl_f false (g_nl g0 + 1) k1
  have nx2 := (G2.2.2.2.2.2.2.2.2.2 0 []).1.2.1.trans nx1
  have O2 := O1.ls ls2
  have go2 : g_goes (w_sl false (g_nl g0 + 1) k1) = g_goes k1 := F2.2.1
  have q2 : w_q (w_sl false (g_nl g0 + 1) k1) = false → g_L (w_sl false (g_nl g0 + 1) k1) = g_L g0 := fun q => by rw [G2.2.2.2.1]; exact q1 (by rw [← G2.2.2.2.2.2.2.2.2.1]; exact q)
  generalize w_sl false (g_nl g0 + 1) k1 = k2 at *
  have z2 : (bif g_goes k1 (g_nl g0 + 1) then 0 else 1) ≤ 1 := by cases g_goes k1 (g_nl g0 + 1) <;> decide
  obtain ⟨m3, L3, -, -⟩ := m2.put b.w (Nat.le_refl _) O2 (List.prefix_refl _) (fun q => m2.live q) (fun d hd => by cases hd)
  have nx3 : g_nx (w_put (g_nl g0) k2) = g_nx g0 := (oPut_f _ _).2.2.2.2.1.trans nx2
  have go3 : g_goes (w_put (g_nl g0) k2) = g_goes k2 := (oPut_f _ _).2.2.2.2.2.2.2.2.1
  generalize w_put (g_nl g0) k2 = k3 at *
  obtain ⟨m4, ls4⟩ := m3.sl (l := g_nl g0) b.w (by have := m3.us; omega)
  have F4 := w_sl_n false (g_nl g0) k3
  have G4 := w_sl_f false (g_nl g0) k3
  have e1 := w_cg_s (g_goes k3) (g_nl g0)
  have e2 := w_cg_s (g_goes k3) (g_nl g0 + 1)
  have e3 := w_cg_s (g_goes k3) (g_nl g0 + 2)
  rw [go3, go2, go1] at e1 e2 e3
  rw [go1] at z2 m4
  rw [go3, go2, go1] at m4
  refine b.fin2 l1 m4 ?_ ?_ ?_ ((G4.2.2.2.2.2.2.2.2.2 0 []).1.2.1.trans nx3) (fun q => by rw [G4.2.2.2.1]; exact L3 (by rw [← G4.2.1]; exact ((w_q_iff _).mp q).1)) hI
  · cases g_goes k0 (g_nl g0) <;> simp only [cond_true, cond_false] <;> omega
  · rw [F4.2.1, go3, go2, go1]
    show 3 + w_cg (g_goes k0) (g_nl g0) ≤ _ + w_cg (g_goes k0) (g_nl g0 + 2 + 1)
    rw [e3, e2, e1]
    cases g_goes k0 (g_nl g0) <;> cases g_goes k0 (g_nl g0 + 1) <;> cases g_goes k0 (g_nl g0 + 2) <;> simp only [cond_true, cond_false] <;> omega
  · rw [F4.2.1, go3, go2, go1]
    show c' + 2 * w_cg (g_goes k0) (g_nl g0) ≤ 3 + 2 * w_cg (g_goes k0) (g_nl g0 + 2 + 1)
    rw [e3, e2, e1]; omega
theorem ob67 (IH : oSc nt N M res par ret E T rs rec K) (b : oBg nt N M res par ret E T rs K (f + 1) i g0 s gh B) (e : nK nt i = 67) : oPs nt N M res par ret E T (f + 1) i g0 s gh (w_sl false (g_nl g0) (w_put (g_nl g0) (w_sl false (g_nl g0 + 1) (w_sl false (g_nl g0 + 2) (w_shut (w_go (g_nl g0 + 1) (w_aln rec (nB nt i) (wV nt 40 (nA nt i) 3 (g_nl g0) (w_put (g_nl g0 + 1) (w_ctx 0 0 (g_nl g0) (g_nl g0 + 1) (w_lbl (nK nt i) (g_L g0, []) (s_ac g0))))))))))) ) := by
  have b' := b
  obtain ⟨⟨p1, p2, p3, p4, p5, p6, p7, p8, p9, p10, p11, p12, p13, p14⟩, b2, hN, hT, hTr, hA⟩ := b'
  obtain ⟨wa, ta, wb⟩ := wE_while hT hA.1 hA.2.2 e
  have h40 := hT.2.2
  have pb := sp_pb_k e (a := nB nt i) (by decide) (nd_n1 wb.1)
  have Tb := hTr.b h40 hA.1 pb
  have Tl := hTr.lb h40 hA.1 pb
  rw [oc67 e] at p8
  obtain ⟨c1, c2, c3⟩ := sp_th_t p8
  rw [oSc_E hT wa s] at c2 c3
  rw [ol67 e] at p9
  have gr := oS_gr hT hTr f (nB nt i) wb.1 wb.2.2 (Or.inl wb.2.1) s
  obtain ⟨c', hc', l1, m1, B1, O1, us1, q1, L1, nx1, pl1⟩ := oLoop0 b
  rw [w_put_ctx]
  generalize w_lbl (nK nt i) (g_L g0, []) (s_ac g0) = g1 at *
  have al1 := ((w_q_iff _).mp q1).1
  obtain ⟨m2, L2, -, P2⟩ := m1.put (l := g_nl g0 + 1) b.w (Nat.le_add_right _ _) (O1 1 (by omega)) (List.prefix_refl _) (fun q => m1.live q) (fun d hd => by cases hd)
  have P2 := P2 al1
  have OE2 := (O1 0 (by omega)).put (k := g_nl g0 + 1) (by omega)
  obtain ⟨f1, f2, f3, f4, f5, f6, f7, f8, f9, f10, f11, f12⟩ := oPut_f (g_nl g0 + 1) g1
  have q2 : w_q (w_put (g_nl g0 + 1) g1) = false := by rw [w_q_iff]; exact ⟨by rw [f11, al1]; rfl, by rw [f2]; exact ((w_q_iff _).mp q1).2⟩
  have L2 := L2 ((w_q_iff _).mp q2).1
  generalize w_put (g_nl g0 + 1) g1 = g2 at *
  have nx2 : g_nx g2 = g_nx g0 := f5.trans nx1
  have pl2 : g_pl g2 = g_pl g0 := f4.trans pl1
  have m3 := m2.open_ (so := 0) (nd := 0) (b := g_nl g0) (c := g_nl g0 + 1) (e := oHd 0 0 (g_nl g0) (g_nl g0 + 1) (g_L g0) s.2.1) rfl (by show (g_L g0).length = _; rw [nx2]; exact p6.2) (fun _ => OE2) (fun _ => P2) (fun q => absurd q (by decide))
  have OE3 : oOw (g_L g0) [] (g_nl g0) (w_ctx 0 0 (g_nl g0) (g_nl g0 + 1) g2) := OE2
  have P3 : oPd (g_L g0) [] (g_nl g0 + 1) (w_ctx 0 0 (g_nl g0) (g_nl g0 + 1) g2) := P2
  have q3 : w_q (w_ctx 0 0 (g_nl g0) (g_nl g0 + 1) g2) = false := q2
  have L3 : g_L (w_ctx 0 0 (g_nl g0) (g_nl g0 + 1) g2) = g_L g0 := L2
  have nx3 : g_nx (w_ctx 0 0 (g_nl g0) (g_nl g0 + 1) g2) = g_nx g0 := nx2
  have fm3 : oFm nt N s.2.1 (w_ctx 0 0 (g_nl g0) (g_nl g0 + 1) g2) := b.fm (g1 := g2) pl2 (oPl.rf _ _) (by rw [L3])
  have we : ∀ d, d ∈ [oHd 0 0 (g_nl g0) (g_nl g0 + 1) (g_L g0) s.2.1] → h_L d <+: g_L g0 := fun d hd => by rw [List.mem_singleton.mp hd]; exact List.prefix_refl _
  generalize w_ctx 0 0 (g_nl g0) (g_nl g0 + 1) g2 = g3 at *
  obtain ⟨m4, ls4, C4, L4⟩ := ((m3.V hT b.w we q3 wa fm3 c1 B1 (by omega)).2 ta (g_nl g0) (g_L g0) OE3.pd L3.symm).2
  have OE4 := OE3.ls ls4
  have P4 := P3.ls ls4
  have nx4 := C4.1.1.2.1.trans nx3
  have L4 := L4.trans L3
  generalize wV nt 40 (nA nt i) 3 (g_nl g0) g3 = g4 at *
  obtain ⟨m5, n5, v5, v5', ls5, -⟩ := m4.aln (s := s) IH b.w we (fun _ => ⟨by rw [L4, nx4]; exact p6.2, b.fm (g1 := g1) pl1 m4.zz.2.2 (by rw [L4])⟩) wb (b.sbh (e := oHd 0 0 (g_nl g0) (g_nl g0 + 1) (g_L g0) s.2.1) (show (0 : Nat) ≤ 2 by decide) rfl (List.prefix_refl _) Tb c3 (by
    show sp_lf nt rs f (nB nt i) (1 + oLo gh) (1 + oWa gh) = true
    rw [Nat.add_comm 1, Nat.add_comm 1]; exact p9) (fun v q => Or.inl q) (fun v q _ => q) (by omega)) B1 (by omega) (fun x q => oDn_sub Tb x (q.hd (show (0 : Nat) ≠ 3 by decide))) (by have := OE4.1; omega)
  have OE5 := OE4.ls ls5
  have P5 := P4.ls ls5
  have nx5 := n5.trans nx4
  have L5 : w_q (w_aln rec (nB nt i) g4) = false → g_L (w_aln rec (nB nt i) g4) = g_L g0 := fun q => (v5 q).2.trans L4
  generalize w_aln rec (nB nt i) g4 = g5 at *
  obtain ⟨m6, ls6⟩ := m5.go (l := g_nl g0 + 1) b.w we (by decide) P5 (fun q => by rw [L5 q]; exact List.prefix_refl _)
  have OE6 := OE5.ls ls6
  have nx6 : g_nx (w_go (g_nl g0 + 1) g5) = g_nx g0 := (oGo_f _ _).2.2.2.1.trans nx5
  exact oLoopE b hc' l1 m6.hide OE6 nx6 (fun q => by
    have := (oGo_f (g_nl g0 + 1) g5).2.2.2.2.2.2.2.2.2.2 ((w_q_iff _).mp q).1
    rw [this.2] at q ⊢; exact L5 q) (fun v q => by rw [oc67 e, c2] at q; exact (gr.al (r := sp_sc nt f (nB nt i) s)).2 v q)
theorem ob68 (IH : oSc nt N M res par ret E T rs rec K) (b : oBg nt N M res par ret E T rs K (f + 1) i g0 s gh B) (e : nK nt i = 68) : oPs nt N M res par ret E T (f + 1) i g0 s gh (w_sl false (g_nl g0) (w_put (g_nl g0) (w_sl false (g_nl g0 + 1) (w_sl false (g_nl g0 + 2) (w_shut (wV nt 40 (nB nt i) 2 (g_nl g0 + 2) (w_put (g_nl g0 + 1) (w_aln rec (nA nt i) (w_put (g_nl g0 + 2) (w_ctx 0 0 (g_nl g0) (g_nl g0 + 1) (w_lbl (nK nt i) (g_L g0, []) (s_ac g0))))))))))) ) := by
  have b' := b
  obtain ⟨⟨p1, p2, p3, p4, p5, p6, p7, p8, p9, p10, p11, p12, p13, p14⟩, b2, hN, hT, hTr, hA⟩ := b'
  obtain ⟨wa, wb, tb⟩ := wE_until hT hA.1 hA.2.2 e
  have h40 := hT.2.2
  have pa := sp_pa_k e (a := nA nt i) (by decide) (nd_n1 wa.1)
  have Ta := hTr.a h40 hA.1 pa
  have Tl := hTr.la h40 hA.1 pa
  rw [oc68 e] at p8
  obtain ⟨c1, c2, c3⟩ := sp_th_t p8
  rw [sp_al_1] at c1
  rw [ol68 e] at p9
  have gr := (oS_gr hT hTr f (nA nt i) wa.1 wa.2.2 (Or.inl wa.2.1) s).al (r := sp_sc nt f (nA nt i) s)
  obtain ⟨c', hc', l1, m1, B1, O1, us1, q1, L1, nx1, pl1⟩ := oLoop0 b
  rw [w_put_ctx]
  generalize w_lbl (nK nt i) (g_L g0, []) (s_ac g0) = g1 at *
  have al1 := ((w_q_iff _).mp q1).1
  obtain ⟨m2, L2, -, P2⟩ := m1.put (l := g_nl g0 + 2) b.w (Nat.le_add_right _ _) (O1 2 (by omega)) (List.prefix_refl _) (fun q => m1.live q) (fun d hd => by cases hd)
  have P2 := P2 al1
  have OE2 := (O1 0 (by omega)).put (k := g_nl g0 + 2) (by omega)
  have OC2 := (O1 1 (by omega)).put (k := g_nl g0 + 2) (by omega)
  obtain ⟨f1, f2, f3, f4, f5, f6, f7, f8, f9, f10, f11, f12⟩ := oPut_f (g_nl g0 + 2) g1
  have q2 : w_q (w_put (g_nl g0 + 2) g1) = false := by rw [w_q_iff]; exact ⟨by rw [f11, al1]; rfl, by rw [f2]; exact ((w_q_iff _).mp q1).2⟩
  have L2 := L2 ((w_q_iff _).mp q2).1
  generalize w_put (g_nl g0 + 2) g1 = g2 at *
  have nx2 : g_nx g2 = g_nx g0 := f5.trans nx1
  have pl2 : g_pl g2 = g_pl g0 := f4.trans pl1
  have m3 := m2.open_ (so := 0) (nd := 0) (b := g_nl g0) (c := g_nl g0 + 1) (e := oHd 0 0 (g_nl g0) (g_nl g0 + 1) (g_L g0) s.2.1) rfl (by show (g_L g0).length = _; rw [nx2]; exact p6.2) (fun _ => OE2) (fun _ => OC2.pd) (fun q => absurd q (by decide))
  have OE3 : oOw (g_L g0) [] (g_nl g0) (w_ctx 0 0 (g_nl g0) (g_nl g0 + 1) g2) := OE2
  have OC3 : oOw (g_L g0) [] (g_nl g0 + 1) (w_ctx 0 0 (g_nl g0) (g_nl g0 + 1) g2) := OC2
  have P3 : oPd (g_L g0) [] (g_nl g0 + 2) (w_ctx 0 0 (g_nl g0) (g_nl g0 + 1) g2) := P2
  have q3 : w_q (w_ctx 0 0 (g_nl g0) (g_nl g0 + 1) g2) = false := q2
  have L3 : g_L (w_ctx 0 0 (g_nl g0) (g_nl g0 + 1) g2) = g_L g0 := L2
  have nx3 : g_nx (w_ctx 0 0 (g_nl g0) (g_nl g0 + 1) g2) = g_nx g0 := nx2
  have we : ∀ d, d ∈ [oHd 0 0 (g_nl g0) (g_nl g0 + 1) (g_L g0) s.2.1] → h_L d <+: g_L g0 := fun d hd => by rw [List.mem_singleton.mp hd]; exact List.prefix_refl _
  have no : ∀ d : oGh, d ∈ ([] : List oGh) → h_L d <+: g_L g0 := fun d hd => by cases hd
  generalize w_ctx 0 0 (g_nl g0) (g_nl g0 + 1) g2 = g3 at *
  obtain ⟨m5, n5, v5, v5', ls5, -⟩ := m3.aln (s := s) IH b.w we (fun _ => ⟨by rw [L3, nx3]; exact p6.2, b.fm (g1 := g1) pl1 m3.zz.2.2 (by rw [L3])⟩) wa (b.sbh (e := oHd 0 0 (g_nl g0) (g_nl g0 + 1) (g_L g0) s.2.1) (show (0 : Nat) ≤ 2 by decide) rfl (List.prefix_refl _) Ta c1 (by
    show sp_lf nt rs f (nA nt i) (1 + oLo gh) (1 + oWa gh) = true
    rw [Nat.add_comm 1, Nat.add_comm 1]; exact p9) (fun v q => Or.inl q) (fun v q _ => q) (by omega)) B1 (by omega) (fun x q => oDn_sub Ta x (q.hd (show (0 : Nat) ≠ 3 by decide))) (by have := OE3.1; omega)
  have OE5 := OE3.ls ls5
  have OC5 := OC3.ls ls5
  have P5 := P3.ls ls5
  have nx5 := n5.trans nx3
  generalize w_aln rec (nA nt i) g3 = g5 at *
  obtain ⟨m6, L6, K6, -⟩ := m5.hide.put (l := g_nl g0 + 1) b.w (Nat.le_add_right _ _) OC5 (List.prefix_refl _) (fun q => m5.live q) (fun d hd => by cases hd)
  have OE6 := OE5.put (k := g_nl g0 + 1) (by omega)
  have P6 := K6 _ _ _ P5 (by omega)
  have nx6 : g_nx (w_put (g_nl g0 + 1) g5) = g_nx g0 := (oPut_f _ _).2.2.2.2.1.trans nx5
  have hI : ∀ v, (sp_sc nt (f + 1) i s).2.2.1 v = true → s.2.1 v = true := fun v q => by rw [oc68 e, c2, oSc_E hT wb] at q; exact gr.2 v q
  generalize w_put (g_nl g0 + 1) g5 = g6 at *
  cases q6 : w_q g6
  · have L6 := L6 ((w_q_iff _).mp q6).1
    have fm6 : oFm nt N (sp_al s.1 (sp_sc nt f (nA nt i) s)).2.2.1 g6 := (b.fm (g1 := g1) pl1 m6.zz.2.2 (by rw [L6])).mono gr.2
    obtain ⟨m7, ls7, C7, L7⟩ := ((m6.V hT b.w no q6 wb fm6 c3 B1 (by omega)).2 tb (g_nl g0 + 2) (g_L g0) P6 L6.symm).1
    exact oLoopE b hc' l1 m7 (OE6.ls ls7) (C7.1.1.2.1.trans nx6) (fun _ => L7.trans L6) hI
  · rw [(((wV_sh hT 40 _ (wb.f40 hT)).1 g6 q6).2 (g_nl g0 + 2)).1]
    exact oLoopE b hc' l1 m6 OE6 nx6 (fun q => by rw [q6] at q; exact absurd q (by decide)) hI
theorem oM.unshut (a : oM nt N M res par ret E gh n m z D L0 0 [] s0 g1 g) (c : wC) : oM nt N M res par ret E gh n m z D L0 1 [] s0 g1 (s_cx (c :: g_cx g) g) := by
  have j := a.j
  exact ⟨[c], [], g_cx g, rfl, rfl, ⟨⟨j.1.1, j.1.2.1.same (fun _ _ q => q) (fun _ _ q => q), j.1.2.2⟩, j.2⟩, trivial⟩
theorem ite_le {c : Prop} [Decidable c] {a b a' b' : Bool} (h1 : a = true → a' = true) (h2 : b = true → b' = true) : (if c then a else b) = true → (if c then a' else b') = true := by
  split
  · exact h1
  · exact h2
theorem and_le {a b a' b' : Bool} (h1 : a = true → a' = true) (h2 : b = true → b' = true) : (a && b) = true → (a' && b') = true := by
  rw [Bool.and_eq_true, Bool.and_eq_true]; exact fun q => ⟨h1 q.1, h2 q.2⟩
theorem or_le {a b b' : Bool} (h2 : b = true → b' = true) : (a || b) = true → (a || b') = true := by
  rw [Bool.or_eq_true, Bool.or_eq_true]; exact fun q => q.elim Or.inl (fun q => Or.inr (h2 q))
theorem sp_lb_le {r1 r2 : Int32 → Nat → Nat → Bool} (h : ∀ n lo wa, r1 n lo wa = true → r2 n lo wa = true) (k a b : Int32) (lo wa : Nat) : sp_lb nt rs r1 k a b lo wa = true → sp_lb nt rs r2 k a b lo wa = true :=
  ite_le (and_le (h _ _ _) (h _ _ _)) (ite_le (h _ _ _) (ite_le (h _ _ _) (ite_le (h _ _ _) (ite_le (h _ _ _) (ite_le (and_le (h _ _ _) (h _ _ _)) (ite_le id (ite_le id (ite_le id (ite_le (and_le (h _ _ _) (or_le (h _ _ _))) (ite_le (h _ _ _) id))))))))))
theorem sp_lf_le : ∀ (f : Nat) {n : Int32} {lo wa : Nat}, sp_lf nt rs (f + 1) n lo wa = true → sp_lf nt rs f n lo wa = true := by
  intro f
  induction f with
  | zero => intro n lo wa _; rfl
  | succ f ih =>
    intro n lo wa h
    rw [sp_lf_s] at h ⊢
    exact sp_lb_le (fun _ _ _ q => ih q) _ _ _ _ _ h
theorem ob69 (IH : oSc nt N M res par ret E T rs rec K) (b : oBg nt N M res par ret E T rs K (f + 1) i g0 s gh B) (e : nK nt i = 69) {G6 G8 : wG} (hG6 : G6 = w_put (g_nl g0 + 1) (w_aln rec (nB nt i) (wV nt 40 (nA nt (nA nt i)) 3 (g_nl g0) (w_put (g_nl g0 + 2) (w_ctx 0 0 (g_nl g0) (g_nl g0 + 1) (w_lbl (nK nt i) (g_L g0, []) (s_ac g0))))))) (hG8 : G8 = w_aln rec (nB nt (nA nt i)) (w_shut G6)) :
    oPs nt N M res par ret E T (f + 1) i g0 s gh (w_sl false (g_nl g0) (w_put (g_nl g0) (w_sl false (g_nl g0 + 1) (w_sl false (g_nl g0 + 2) (w_shut (w_go (g_nl g0 + 2) (match g_cx G6 with | c :: _ => s_cx (c :: g_cx G8) G8 | [] => G8))))))) := by
  rw [hG8, hG6]
  clear hG8 hG6
  have b' := b
  obtain ⟨⟨p1, p2, p3, p4, p5, p6, p7, p8, p9, p10, p11, p12, p13, p14⟩, b2, hN, hT, hTr, hA⟩ := b'
  obtain ⟨na, da, ka, wb⟩ := wE_for hT hA.1 hA.2.2 e
  have h40 := hT.2.2
  cases f with
  | zero => have := (hT.d na).1; omega
  | succ f =>
  obtain ⟨wc, tc, wu⟩ := wE_head hT na da ka
  have pa := sp_pa_k e (a := nA nt i) (by decide) (nd_n1 na)
  have pb := sp_pb_k e (a := nB nt i) (by decide) (nd_n1 wb.1)
  have pu := sp_pb_k ka (a := nB nt (nA nt i)) (by decide) (nd_n1 wu.1)
  have Ta := hTr.a h40 hA.1 pa
  have Tb := hTr.b h40 hA.1 pb
  have Tu := hTr.b h40 na pu
  have Tl := hTr.lab h40 hA.1 pa pb
  have Tul := hTr.lb h40 na pu
  have dj := hTr.dj h40 hA.1 pa pb
  have Tui : ∀ x, x ∈ oT T (nB nt (nA nt i)) → x ∈ oT T i := fun x q => Ta x (Tu x q)
  rw [oc69 e] at p8
  obtain ⟨c1, c2, c3⟩ := sp_th_t p8
  rw [oc70 ka] at c1 c2 c3
  obtain ⟨d1, d2, d3⟩ := sp_th_t c1
  rw [oSc_E hT wc s] at d2 d3
  rw [d2] at c2 c3
  rw [sp_al_1] at d3 c3
  rw [ol69 e] at p9
  have lf : sp_lf nt rs (f + 1) (nB nt (nA nt i)) (oLo gh) (oWa gh) = true ∧ sp_lf nt rs (f + 1) (nB nt i) (oLo gh + 1) (oWa gh + 1) = true := by simpa using p9
  have gu := (oS_gr hT hTr f (nB nt (nA nt i)) wu.1 wu.2.2 (Or.inl wu.2.1) s).al (r := sp_sc nt f (nB nt (nA nt i)) s)
  have lfu : sp_lf nt rs f (nB nt (nA nt i)) (oLo gh) (oWa gh) = true := sp_lf_le _ lf.1
  obtain ⟨c', hc', l1, m1, B1, O1, us1, q1, L1, nx1, pl1⟩ := oLoop0 b
  rw [w_put_ctx]
  generalize w_lbl (nK nt i) (g_L g0, []) (s_ac g0) = g1 at *
  have al1 := ((w_q_iff _).mp q1).1
  obtain ⟨m2, L2, -, P2⟩ := m1.put (l := g_nl g0 + 2) b.w (Nat.le_add_right _ _) (O1 2 (by omega)) (List.prefix_refl _) (fun q => m1.live q) (fun d hd => by cases hd)
  have P2 := P2 al1
  have OE2 := (O1 0 (by omega)).put (k := g_nl g0 + 2) (by omega)
  have OC2 := (O1 1 (by omega)).put (k := g_nl g0 + 2) (by omega)
  obtain ⟨f1, f2, f3, f4, f5, f6, f7, f8, f9, f10, f11, f12⟩ := oPut_f (g_nl g0 + 2) g1
  have q2 : w_q (w_put (g_nl g0 + 2) g1) = false := by rw [w_q_iff]; exact ⟨by rw [f11, al1]; rfl, by rw [f2]; exact ((w_q_iff _).mp q1).2⟩
  have L2 := L2 ((w_q_iff _).mp q2).1
  generalize w_put (g_nl g0 + 2) g1 = g2 at *
  have nx2 : g_nx g2 = g_nx g0 := f5.trans nx1
  have pl2 : g_pl g2 = g_pl g0 := f4.trans pl1
  have m3 := m2.open_ (so := 0) (nd := 0) (b := g_nl g0) (c := g_nl g0 + 1) (e := oHd 0 0 (g_nl g0) (g_nl g0 + 1) (g_L g0) s.2.1) rfl (by show (g_L g0).length = _; rw [nx2]; exact p6.2) (fun _ => OE2) (fun _ => OC2.pd) (fun q => absurd q (by decide))
  have OE3 : oOw (g_L g0) [] (g_nl g0) (w_ctx 0 0 (g_nl g0) (g_nl g0 + 1) g2) := OE2
  have OC3 : oOw (g_L g0) [] (g_nl g0 + 1) (w_ctx 0 0 (g_nl g0) (g_nl g0 + 1) g2) := OC2
  have P3 : oPd (g_L g0) [] (g_nl g0 + 2) (w_ctx 0 0 (g_nl g0) (g_nl g0 + 1) g2) := P2
  have q3 : w_q (w_ctx 0 0 (g_nl g0) (g_nl g0 + 1) g2) = false := q2
  have L3 : g_L (w_ctx 0 0 (g_nl g0) (g_nl g0 + 1) g2) = g_L g0 := L2
  have nx3 : g_nx (w_ctx 0 0 (g_nl g0) (g_nl g0 + 1) g2) = g_nx g0 := nx2
  have fm3 : oFm nt N s.2.1 (w_ctx 0 0 (g_nl g0) (g_nl g0 + 1) g2) := b.fm (g1 := g2) pl2 (oPl.rf _ _) (by rw [L3])
  have we : ∀ d, d ∈ [oHd 0 0 (g_nl g0) (g_nl g0 + 1) (g_L g0) s.2.1] → h_L d <+: g_L g0 := fun d hd => by rw [List.mem_singleton.mp hd]; exact List.prefix_refl _
  have no : ∀ d : oGh, d ∈ ([] : List oGh) → h_L d <+: g_L g0 := fun d hd => by cases hd
  generalize w_ctx 0 0 (g_nl g0) (g_nl g0 + 1) g2 = g3 at *
  obtain ⟨m4, ls4, C4, L4⟩ := ((m3.V hT b.w we q3 wc fm3 d1 B1 (by omega)).2 tc (g_nl g0) (g_L g0) OE3.pd L3.symm).2
  have OE4 := OE3.ls ls4
  have OC4 := OC3.ls ls4
  have P4 := P3.ls ls4
  have nx4 := C4.1.1.2.1.trans nx3
  have L4 := L4.trans L3
  generalize wV nt 40 (nA nt (nA nt i)) 3 (g_nl g0) g3 = g4 at *
  obtain ⟨m5, n5, v5, v5', ls5, -⟩ := m4.aln (s := (sp_al s.1 (sp_sc nt f (nB nt (nA nt i)) s)).2) IH b.w we (fun _ => ⟨by rw [L4, nx4]; exact p6.2, (b.fm (g1 := g1) pl1 m4.zz.2.2 (by rw [L4])).mono gu.2⟩) wb (b.sbh (e := oHd 0 0 (g_nl g0) (g_nl g0 + 1) (g_L g0) s.2.1) (show (0 : Nat) ≤ 2 by decide) rfl (List.prefix_refl _) Tb c3 (by
    show sp_lf nt rs (f + 1) (nB nt i) (1 + oLo gh) (1 + oWa gh) = true
    rw [Nat.add_comm 1, Nat.add_comm 1]; exact lf.2) (fun v q => Or.inl (gu.2 v q)) (fun v q y => gu.1.2.2.2.2 v (fun w => y (Tui v w)) q) (by omega)) B1 (by omega) (fun x q => oDn_sub Tb x (q.hd (show (0 : Nat) ≠ 3 by decide))) (by have := OE4.1; omega)
  have OE5 := OE4.ls ls5
  have OC5 := OC4.ls ls5
  have P5 := P4.ls ls5
  have nx5 := n5.trans nx4
  generalize w_aln rec (nB nt i) g4 = g5 at *
  obtain ⟨m6, L6, K6, -⟩ := m5.hide.put (l := g_nl g0 + 1) b.w (Nat.le_add_right _ _) OC5 (List.prefix_refl _) (fun q => m5.live q) (fun d hd => by cases hd)
  have OE6 := OE5.put (k := g_nl g0 + 1) (by omega)
  have P6 := K6 _ _ _ P5 (by omega)
  have nx6 : g_nx (w_put (g_nl g0 + 1) g5) = g_nx g0 := (oPut_f _ _).2.2.2.2.1.trans nx5
  generalize w_put (g_nl g0 + 1) g5 = g6 at *
  have m7 := m6.shut
  have L7 : w_q (w_shut g6) = false → g_L (w_shut g6) = g_L g0 := fun q => L6 ((w_q_iff _).mp (show w_q g6 = false from q)).1
  have nx7 : g_nx (w_shut g6) = g_nx g0 := nx6
  have OE7 := OE6.ls (oLs.shut (g_nl g6) g6)
  have P7 := P6.ls (oLs.shut (g_nl g6) g6)
  generalize w_shut g6 = g7 at *
  obtain ⟨m8, n8, v8, v8', ls8, -⟩ := m7.aln (s := s) IH b.w no (fun q => ⟨by rw [L7 q, nx7]; exact p6.2, b.fm (g1 := g1) pl1 m7.zz.2.2 (by rw [L7 q])⟩) wu (b.sb0 Tui d3 lfu (by omega)) B1 (by omega) (oDn_sub Tui) (by have := OE7.1; omega)
  have OE8 := OE7.ls ls8
  have P8 := P7.ls ls8
  have nx8 := n8.trans nx7
  have L8 : w_q (w_aln rec (nB nt (nA nt i)) g7) = false → g_L (w_aln rec (nB nt (nA nt i)) g7) = g_L g0 := fun q => (v8 q).2.trans (L7 (v8 q).1)
  generalize w_aln rec (nB nt (nA nt i)) g7 = g8 at *
  have hcx : ∃ c ct, g_cx g6 = c :: ct := by
    obtain ⟨hc, ch, ct, e1, e2, -⟩ := m6
    cases hc with
    | nil => simp at e2
    | cons c r => exact ⟨c, _, e1⟩
  obtain ⟨c, ct, hcx⟩ := hcx
  rw [hcx]
  have m9 := m8.unshut c
  have OE9 : oOw (g_L g0) [] (g_nl g0) (s_cx (c :: g_cx g8) g8) := OE8
  have P9 : oPd (g_L g0) [] (g_nl g0 + 2) (s_cx (c :: g_cx g8) g8) := P8
  have nx9 : g_nx (s_cx (c :: g_cx g8) g8) = g_nx g0 := nx8
  have L9 : w_q (s_cx (c :: g_cx g8) g8) = false → g_L (s_cx (c :: g_cx g8) g8) = g_L g0 := L8
  show oPs nt N M res par ret E T (f + 1 + 1) i g0 s gh (w_sl false (g_nl g0) (w_put (g_nl g0) (w_sl false (g_nl g0 + 1) (w_sl false (g_nl g0 + 2) (w_shut (w_go (g_nl g0 + 2) (s_cx (c :: g_cx g8) g8)))))))
  generalize s_cx (c :: g_cx g8) g8 = g9 at *
  obtain ⟨m10, ls10⟩ := m9.go (l := g_nl g0 + 2) b.w no (by decide) P9 (fun q => by rw [L9 q]; exact List.prefix_refl _)
  have gb := (oS_gr hT hTr (f + 1) (nB nt i) wb.1 wb.2.2 (Or.inl wb.2.1) (sp_al s.1 (sp_sc nt f (nB nt (nA nt i)) s)).2).al (r := sp_sc nt (f + 1) (nB nt i) _)
  exact oLoopE b hc' l1 m10 (OE9.ls ls10) ((oGo_f _ _).2.2.2.1.trans nx9) (fun q => by
    have := (oGo_f (g_nl g0 + 2) g9).2.2.2.2.2.2.2.2.2.2 ((w_q_iff _).mp q).1
    rw [this.2] at q ⊢; exact L9 q) (fun v q => by rw [oc69 e, oc70 ka, d2, c2] at q; exact gu.2 v (gb.2 v q))
end
