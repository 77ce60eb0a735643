/-! finally, locks, all well -/
/-- one act less -/
def s_acm (g : wG) : wG := (g.1, g.2.1, g.2.2.1, g.2.2.2.1, (g_nx g, g_mx g, g_ms g, g_ac g - 1), g.2.2.2.2.2)
section
variable {nt : sp_NT} {N M : Nat} {res par : Nat → Int32} {ret : Nat} {E : wF} {T : Nat → List Nat} {rs : Int32} {n m z : Nat} {D : Nat → Prop} {g g0 g1 h k : wG} {gh eh gv gt : List oGh} {cx cv ct : List wC} {L0 s0 : List Nat} {rec : wT} {K f B hh : Nat} {i : Int32} {s : sp_SS}
theorem w_end_nl {c : wC} (hA : c.1 = 4) : w_end rec c g = w_em (16, 195, 0, 0, []) 1 [] (w_ld 5 c.2.1.toNatClampNeg [11] g) := by unfold w_end; rw [if_pos hA]
/-- the end of what is guarded -/
theorem oEnd1 (IH : oSc nt N M res par ret E T rs rec K) (w : oW N n D gh L0) (a : oM nt N M res par ret E gh n m z D L0 0 [] [] g1 g) (hB : oB B g1) (hB2 : B + 70 * K + 170 ≤ 20000) (hn : n ≤ g_nl g) {c : wC} (hl : w_q g = false → (g_L g).length = g_nx g)
    (hc : (c.1 = 3 ∧ ∃ fe se, wA nt N fe c.2.1 ∧ (w_q g = false → oFm nt N se.2.1 g) ∧ oSb nt N T rs fe c.2.1 se gh (g_nx g) ∧ ∀ x, oDn T c.2.1 gh x → D x) ∨ (c.1 = 4 ∧ (w_q g = false → (g_L g)[c.2.1.toNatClampNeg]? = some 11))) :
    oM nt N M res par ret E gh n m z D L0 0 [] [] g1 (w_end rec c g) ∧ g_nx (w_end rec c g) = g_nx g ∧ (w_q (w_end rec c g) = false → w_q g = false ∧ g_L (w_end rec c g) = g_L g) ∧ oLs (g_nl g) g (w_end rec c g) ∧ (c.1 = 4 → w_q g = false → oNw (g_L g) g (w_end rec c g) ∧ (g_it g).length < (g_it (w_end rec c g)).length ∧ w_q (w_end rec c g) = false) := by
  have no : ∀ d : oGh, d ∈ ([] : List oGh) → h_L d <+: L0 := fun d hd => by cases hd
  rcases hc with ⟨c3, fe, se, A, F, SB, DD⟩ | ⟨c4, hp⟩
  · have e : w_end rec c g = w_aln rec c.2.1 g := by unfold w_end; rw [if_neg (by omega)]
    rw [e]
    obtain ⟨m2, n2, v2, -, ls2, -⟩ := a.aln (s := se) IH w no (fun q => ⟨hl q, F q⟩) A SB hB hB2 DD hn
    exact ⟨m2, n2, v2, ls2, fun q => by omega⟩
  · rw [w_end_nl c4]
    cases hq : w_q g
    · obtain ⟨ct, j⟩ := a.ac
      have lv := (a.live ((w_q_iff g).mp hq).1).2
      have o1 := ((oP.rf (f := 41) (n := g_nl g) j.1.1 hq lv).em w.2.2.1 (i := (2, 5, c.2.1.toNatClampNeg, 0, [])) (off := 0) (on := [11]) rfl rfl (fun po => oTy.of ⟨rfl, Or.inr ⟨show w_arr5 5 from ⟨by decide, by decide⟩, 11, hp hq, Or.inr (Or.inr rfl), rfl⟩⟩ (by decide) (by decide) (by decide)) (by decide) (by decide))
      have o2 := o1.em w.2.2.1 (i := (16, 195, 0, 0, [])) (off := 1) (on := []) rfl rfl (fun po => ⟨Or.inr (Or.inr (Or.inr ⟨rfl, rfl, rfl⟩)), fun q => (q.elim (fun q => absurd q (by decide)) (fun q => absurd q (by decide))), fun q => absurd q (by decide), fun q => absurd q (by decide), (fun _ _ q => absurd q (by decide)), oShp0 rfl (by decide)⟩) (by decide) (by decide)
      obtain ⟨m2, ls2⟩ := a.val (by decide) w no hq o2.1 o2.2
      refine ⟨m2, o2.1.1.1.2.1, fun _ => ⟨rfl, o2.1.2.2.1⟩, ls2, fun _ _ => ⟨o2.2.2.2, ?_, o2.1.2.1⟩⟩
      have q1 := o1.1.2.1
      have i1 : g_it (w_em (16, 195, 0, 0, []) 1 [] (w_ld 5 c.2.1.toNatClampNeg [11] g)) = ((16, 195, 0, 0, []), (g_L (w_ld 5 c.2.1.toNatClampNeg [11] g), g_st (w_ld 5 c.2.1.toNatClampNeg [11] g))) :: g_it (w_ld 5 c.2.1.toNatClampNeg [11] g) := by
        have q1 : w_q (w_ld 5 c.2.1.toNatClampNeg [11] g) = false := q1
        unfold w_em; rw [q1]; exact (oEs_f q1).2
      obtain ⟨x, hx⟩ := o1.2.1.2.1.1
      have hx : g_it (w_ld 5 c.2.1.toNatClampNeg [11] g) = x ++ g_it g := hx
      rw [i1, hx]; simp; omega
    · have e : w_em (16, 195, 0, 0, []) 1 [] (w_ld 5 c.2.1.toNatClampNeg [11] g) = g := by
        have : w_ld 5 c.2.1.toNatClampNeg [11] g = g := by unfold w_ld w_em; rw [hq]; rfl
        rw [this]; unfold w_em; rw [hq]; rfl
      rw [e]
      exact ⟨a, rfl, fun q => by rw [hq] at q; exact absurd q (by decide), oLs.rf _ _, fun _ q => absurd q (by decide)⟩
theorem oEnded (IH : oSc nt N M res par ret E T rs rec K) (hac : 1 ≤ g_ac g) (Y : oY nt N M res par ret E gh (g_cx g) g) (hq : w_q g = false) (hst : g_st g = []) (hl : (g_L g).length = g_nx g) (hnx : g_nx g < 245) (B0 : oB B g) (hB : B + 1 + 70 * K + 170 ≤ 20000) (w : oW N (g_nl g) D gh (g_L g))
    {so : Nat} {nd : Int32} {eI : Nat → Bool} (hso : so = 3 ∨ so = 4) {fb : Nat} {j : Int32} {s : sp_SS} (hA : wA nt N fb j) (FM : oFm nt N s.2.1 g) (SB : oSb nt N T rs fb j s ([oHd so nd 0 0 (g_L g) eI] ++ gh) (g_nx g)) (DB : ∀ x, oDn T j ([oHd so nd 0 0 (g_L g) eI] ++ gh) x → D x)
    {fe : Nat} {se : sp_SS} (h3 : so = 3 → wA nt N fe nd ∧ eI = se.2.1 ∧ (∀ v, se.2.1 v = true → s.2.1 v = true) ∧ (∀ nx, nx ≤ g_nx g + 1 → oSb nt N T rs fe nd se gh nx) ∧ (∀ x, oDn T nd gh x → D x) ∧ ∀ v, v < N → se.2.1 v = true → ¬ D v) (h4 : so = 4 → ∃ p, nd = nI p ∧ p < 250 ∧ (g_L g)[p]? = some 11) :
    oY nt N M res par ret E gh (g_cx (w_ended rec so j nd g)) (w_ended rec so j nd g) ∧ oZ (g_nl g) (g_nl g) 0 D (s_acm g) (w_ended rec so j nd g) ∧ (g_al (w_ended rec so j nd g) = true → g_L g <+: g_L (w_ended rec so j nd g) ∧ g_st (w_ended rec so j nd g) = []) ∧ g_nx (w_ended rec so j nd g) = g_nx g ∧ (w_q (w_ended rec so j nd g) = false → g_L (w_ended rec so j nd g) = g_L g) := by
  have hN := w.2.2.1
  have lab := oLab_lb (g_L g, []) g
  have Y1 : oY nt N M res par ret E gh (g_cx g) (w_lb (g_L g, []) g) := Y.lb (by show (0 : Nat) < 3370; decide) B0 (by omega)
  have B1 := lab.oB B0 (Nat.le_refl _)
  have lab' := lab
  obtain ⟨⟨x1, x2, x3, x4, x5, x6, x7, x8, x9, x10, x11, x12, x13⟩, n1, lo, la, us1, un1, fm1⟩ := lab'
  obtain ⟨la1, la2, la3⟩ := la (g_nl g) (Nat.le_refl _) (Nat.lt_succ_self _)
  have ho := ((w_q_iff g).mp hq).2
  have mx1 : (g_L g).length ≤ g_mx g := ((Y.1.2.2 ho).2.2.2.2.2 ((w_q_iff g).mp hq).1).1
  have no : ∀ d : oGh, d ∈ ([] : List oGh) → h_L d <+: g_L g := fun d hd => by cases hd
  have hw : w_ended rec so j nd g = (let g1 := w_aln rec j (w_ctx so nd 0 0 (w_lb (g_L g, []) g)); let c : wC := (so, nd, 0, 0, g_nx g, 0, []); let g4 := s_nx (g_nx g) (bif g_al (w_shut g1) then w_go (g_nl g) (w_end rec c (s_nx (g_nx g) (w_shut g1))) else w_shut g1);
      let g5 := bif (oPcs g1).isEmpty || g_ov g4 then g4 else
        (let h1 := w_ts 5 [10] (w_hd (g_L g) (oPcs g1) 0 g4); let h2 := w_end rec c h1
         let h3 := if so = 4 then s_ok (w_cov (g_it h2) (g_L g) ((g_it h1).length, (g_it h2).length)) (s_rg (((g_it h1).length, (g_it h2).length, (g_it g4).length, 0) :: g_rg h2) h2) else h2
         bif g_al h3 then s_al false (w_em (16, 191, 0, 0, []) 1 [] (w_ld 5 (g_nx g) [10] h3)) else h3)
      w_sl false (g_nl g) (w_put (g_nl g) (s_nx (g_nx g) g5))) := rfl
  rw [hw]
  clear hw
  simp only
  have lsg1 : oLs (g_nl g) g (w_lb (g_L g, []) g) := lab.le _
  generalize w_lb (g_L g, []) g = g1 at *
  have n1 : g_nl g1 = g_nl g + 1 := n1
  have q1 : w_q g1 = false := by unfold w_q; rw [x2, x3]; exact hq
  have m1 : oM nt N M res par ret E gh (g_nl g) (g_nl g + 1) 0 D (g_L g) 0 [] [] g1 g1 := oM.of ⟨Y1, oZ.rf (by omega), fun _ => ⟨by rw [x4]; exact List.prefix_refl _, by rw [x5]; exact hst⟩, by rw [x6]; exact Nat.le_of_eq hl⟩ x11
  have O1 : oOw (g_L g) [] (g_nl g) g1 := ⟨by omega, la1, la3⟩
  have FM1 : oFm nt N s.2.1 g1 := FM.cg x4 (fun v _ _ => by rw [x10])
  have m2 := m1.open_ (so := so) (nd := nd) (b := 0) (c := 0) (e := oHd so nd 0 0 (g_L g) eI) rfl (by show (g_L g).length = _; rw [x6]; exact hl) (fun q => by omega) (fun q => by omega) (fun q v hv hi => by
    obtain ⟨-, y2, y3, -⟩ := h3 q
    have hi : eI v = true := hi
    rw [y2] at hi
    obtain ⟨p, z1, z2⟩ := FM1.1 v hv (y3 v hi)
    exact ⟨p, z1, by show (g_L g)[p]? = _; rw [← x4]; exact z2⟩)
  have O2 : oOw (g_L g) [] (g_nl g) (w_ctx so nd 0 0 g1) := O1
  have L2 : g_L (w_ctx so nd 0 0 g1) = g_L g := x4
  have nx2 : g_nx (w_ctx so nd 0 0 g1) = g_nx g := x6
  have mx2 : g_mx (w_ctx so nd 0 0 g1) = g_mx g := x7
  have fm2 : oFm nt N s.2.1 (w_ctx so nd 0 0 g1) := FM1
  have we : ∀ d, d ∈ [oHd so nd 0 0 (g_L g) eI] → h_L d <+: g_L g := fun d hd => by rw [List.mem_singleton.mp hd]; exact List.prefix_refl _
  generalize w_ctx so nd 0 0 g1 = g2 at *
  obtain ⟨m3, n3, v3, v3', ls3, -⟩ := m2.aln (s := s) IH w we (fun _ => ⟨by rw [L2, nx2]; exact hl, fm2⟩) hA (by rw [nx2]; exact SB) B1 (by omega) DB (by have := O2.1; omega)
  have O3 := O2.ls ls3
  have nx3 := n3.trans nx2
  have cov3 := m3.pieces (show 2 ≤ so by omega)
  have mx3 := ls3.mx
  have L3 : w_q (w_aln rec j g2) = false → g_L (w_aln rec j g2) = g_L g := fun q => (v3 q).2.trans L2
  generalize w_aln rec j g2 = g3 at *
  generalize oPcs g3 = ps at *
  have cov3 : ∀ p, p ∈ ps → w_cov (g_it g3) (g_L g) p := cov3
  have m4 := m3.hide.shut
  have O4 := O3.ls (oLs.shut (g_nl g3) g3)
  have nx4 : g_nx (w_shut g3) = g_nx g := nx3
  have it4 : g_it (w_shut g3) = g_it g3 := rfl
  have mx4 : g_mx (w_shut g3) = g_mx g3 := rfl
  have L4 : w_q (w_shut g3) = false → g_L (w_shut g3) = g_L g := L3
  rw [← it4] at cov3
  generalize w_shut g3 = g4 at *
  generalize hc : ((so, nd, 0, 0, g_nx g, 0, []) : wC) = c at *
  have c1 : c.1 = so := by rw [← hc]
  have c2 : c.2.1 = nd := by rw [← hc]
  -- the end at some point
  have END : ∀ {F : wG}, oM nt N M res par ret E gh (g_nl g) (g_nl g + 1) 0 D (g_L g) 0 [] [] g1 F → g_nl g ≤ g_nl F → (w_q F = false → (g_L F).length = g_nx F) → (w_q F = false → ¬ 12 ∈ g_L F) → g_nx F ≤ g_nx g + 1 →
      oM nt N M res par ret E gh (g_nl g) (g_nl g + 1) 0 D (g_L g) 0 [] [] g1 (w_end rec c F) ∧ g_nx (w_end rec c F) = g_nx F ∧ (w_q (w_end rec c F) = false → w_q F = false ∧ g_L (w_end rec c F) = g_L F) ∧ oLs (g_nl F) F (w_end rec c F) ∧ (c.1 = 4 → w_q F = false → oNw (g_L F) F (w_end rec c F) ∧ (g_it F).length < (g_it (w_end rec c F)).length ∧ w_q (w_end rec c F) = false) := fun {F} mF hnl hlF h12 hnxF => by
    refine oEnd1 IH w mF B1 (by omega) hnl hlF ?_
    rcases hso with so3 | so4
    · obtain ⟨y1, y2, y3, y4, y5, y6⟩ := h3 so3
      refine Or.inl ⟨by omega, fe, se, by rw [c2]; exact y1, fun q => ?_, by rw [c2]; exact y4 _ hnxF, by rw [c2]; exact y5⟩
      refine (FM1.mono y3).cg' (by rw [x4]; exact (mF.live ((w_q_iff F).mp q).1).1) (h12 q) (fun v hv hi => ?_)
      have := mF.zz.2.2 v (by rw [if_pos (by omega)]; exact y6 v hv hi)
      exact this
    · obtain ⟨p, y1, y2, y3⟩ := h4 so4
      refine Or.inr ⟨by omega, fun q => ?_⟩
      rw [c2, y1, nI_clamp (by omega)]
      obtain ⟨t, ht⟩ := (mF.live ((w_q_iff F).mp q).1).1
      rw [← ht, List.getElem?_append_left (List.getElem?_eq_some_iff.mp y3).1]; exact y3
  have nl4 : g_nl g ≤ g_nl g4 := by have := O4.1; omega
  -- behind what is guarded
  have H5 : oHp nt N M res par ret E gh (g_nl g) (g_nl g + 1) D (g_L g) (g_nl g) (g_nx g) g1 (s_nx (g_nx g) (bif g_al g4 then w_go (g_nl g) (w_end rec c (s_nx (g_nx g) g4)) else g4)) ∧ (∃ x, g_it (s_nx (g_nx g) (bif g_al g4 then w_go (g_nl g) (w_end rec c (s_nx (g_nx g) g4)) else g4)) = x ++ g_it g4) ∧ g_nl g ≤ g_nl (s_nx (g_nx g) (bif g_al g4 then w_go (g_nl g) (w_end rec c (s_nx (g_nx g) g4)) else g4)) := by
    cases al4 : g_al g4
    · simp only [cond_false]
      exact ⟨⟨m4.nx (Nat.le_of_eq hl), O4, rfl, fun _ => al4, by show _ ≤ g_mx g4; omega⟩, ⟨[], rfl⟩, nl4⟩
    · simp only [cond_true]
      have m5 := m4.nx (v := g_nx g) (Nat.le_of_eq hl)
      have O5 : oOw (g_L g) [] (g_nl g) (s_nx (g_nx g) g4) := O4
      have L5 : w_q (s_nx (g_nx g) g4) = false → g_L (s_nx (g_nx g) g4) = g_L g := L4
      have nx5 : g_nx (s_nx (g_nx g) g4) = g_nx g := rfl
      have it5 : g_it (s_nx (g_nx g) g4) = g_it g4 := rfl
      have nl5 : g_nl (s_nx (g_nx g) g4) = g_nl g4 := rfl
      have mx5 : g_mx (s_nx (g_nx g) g4) = g_mx g4 := rfl
      generalize s_nx (g_nx g) g4 = g5 at *
      obtain ⟨m6, nx6, v6, ls6, -⟩ := END m5 (by omega) (fun q => by rw [L5 q, nx5]; exact hl) (fun q => by rw [L5 q]; exact FM.2) (by omega)
      have O6 := O5.ls ls6
      generalize w_end rec c g5 = g6 at *
      obtain ⟨m7, ls7⟩ := m6.go (l := g_nl g) w no (by decide) O6.pd (fun y => (m6.live ((w_q_iff _).mp y).1).1)
      have O7 := O6.ls ls7
      obtain ⟨f1, f2, f3, f4, f5, f6, f7, f8, f9, f10, f11⟩ := oGo_f (g_nl g) g6
      refine ⟨⟨m7.nx (Nat.le_of_eq hl), O7, rfl, fun y => ?_, ?_⟩, ?_, ?_⟩
      · have y : g_ov (w_go (g_nl g) g6) = false := y
        show g_al (w_go (g_nl g) g6) = false
        cases zz : g_al (w_go (g_nl g) g6)
        · rfl
        · rw [f1, (f11 zz).1] at y; exact absurd y (by decide)
      · show _ ≤ g_mx (w_go (g_nl g) g6)
        have := ls6.mx; have := ls7.mx; omega
      · obtain ⟨a1, b1⟩ := ls6.1
        obtain ⟨a2, b2⟩ := ls7.1
        exact ⟨a2 ++ a1, by show g_it (w_go (g_nl g) g6) = _; rw [b2, b1, it5, List.append_assoc]⟩
      · show g_nl g ≤ g_nl (w_go (g_nl g) g6)
        have := ls6.2.1; have := ls7.2.1; omega
  obtain ⟨H5, it5, nl5⟩ := H5
  have cov5 := oCov.it cov3 it5
  generalize s_nx (g_nx g) (bif g_al g4 then w_go (g_nl g) (w_end rec c (s_nx (g_nx g) g4)) else g4) = g5 at *
  obtain ⟨m5, O5, nx5, d5, mx5⟩ := H5
  -- the handler
  have H6 : ∃ g6, (bif ps.isEmpty || g_ov g5 then g5 else
        bif g_al (if so = 4 then s_ok (w_cov (g_it (w_end rec c (w_ts 5 [10] (w_hd (g_L g) ps 0 g5)))) (g_L g) ((g_it (w_ts 5 [10] (w_hd (g_L g) ps 0 g5))).length, (g_it (w_end rec c (w_ts 5 [10] (w_hd (g_L g) ps 0 g5)))).length)) (s_rg (((g_it (w_ts 5 [10] (w_hd (g_L g) ps 0 g5))).length, (g_it (w_end rec c (w_ts 5 [10] (w_hd (g_L g) ps 0 g5)))).length, (g_it g5).length, 0) :: g_rg (w_end rec c (w_ts 5 [10] (w_hd (g_L g) ps 0 g5)))) (w_end rec c (w_ts 5 [10] (w_hd (g_L g) ps 0 g5)))) else w_end rec c (w_ts 5 [10] (w_hd (g_L g) ps 0 g5)))
        then s_al false (w_em (16, 191, 0, 0, []) 1 [] (w_ld 5 (g_nx g) [10] (if so = 4 then s_ok (w_cov (g_it (w_end rec c (w_ts 5 [10] (w_hd (g_L g) ps 0 g5)))) (g_L g) ((g_it (w_ts 5 [10] (w_hd (g_L g) ps 0 g5))).length, (g_it (w_end rec c (w_ts 5 [10] (w_hd (g_L g) ps 0 g5)))).length)) (s_rg (((g_it (w_ts 5 [10] (w_hd (g_L g) ps 0 g5))).length, (g_it (w_end rec c (w_ts 5 [10] (w_hd (g_L g) ps 0 g5)))).length, (g_it g5).length, 0) :: g_rg (w_end rec c (w_ts 5 [10] (w_hd (g_L g) ps 0 g5)))) (w_end rec c (w_ts 5 [10] (w_hd (g_L g) ps 0 g5)))) else w_end rec c (w_ts 5 [10] (w_hd (g_L g) ps 0 g5)))))
        else (if so = 4 then s_ok (w_cov (g_it (w_end rec c (w_ts 5 [10] (w_hd (g_L g) ps 0 g5)))) (g_L g) ((g_it (w_ts 5 [10] (w_hd (g_L g) ps 0 g5))).length, (g_it (w_end rec c (w_ts 5 [10] (w_hd (g_L g) ps 0 g5)))).length)) (s_rg (((g_it (w_ts 5 [10] (w_hd (g_L g) ps 0 g5))).length, (g_it (w_end rec c (w_ts 5 [10] (w_hd (g_L g) ps 0 g5)))).length, (g_it g5).length, 0) :: g_rg (w_end rec c (w_ts 5 [10] (w_hd (g_L g) ps 0 g5)))) (w_end rec c (w_ts 5 [10] (w_hd (g_L g) ps 0 g5)))) else w_end rec c (w_ts 5 [10] (w_hd (g_L g) ps 0 g5)))) = g6 ∧ oM nt N M res par ret E gh (g_nl g) (g_nl g + 1) 0 D (g_L g) 0 [] [] g1 g6 ∧ oOw (g_L g) [] (g_nl g) g6 := by
    refine ⟨_, rfl, ?_⟩
    cases hov : (ps.isEmpty || g_ov g5) with
    | true => exact ⟨m5, O5⟩
    | false =>
    simp only [cond_false]
    obtain ⟨o2, o1⟩ := Bool.or_eq_false_iff.mp hov
    have hps : ps ≠ [] := fun y => by rw [y] at o2; exact absurd o2 (by decide)
    obtain ⟨m6, ls6, q6, L6, nx6, pl6, it6⟩ := m5.hd w (d5 o1) o1 hps cov5 mx5 0
    have here : oAg (w_hd (g_L g) ps 0 g5) (g_it g5).length (g_L g, [10]) := Or.inr ⟨rfl, rfl, w_fit.rf _⟩
    have O6 := O5.ls ls6
    have nl6 : g_nl g ≤ g_nl (w_hd (g_L g) ps 0 g5) := Nat.le_trans nl5 ls6.2.1
    generalize w_hd (g_L g) ps 0 g5 = g6 at *
    obtain ⟨m7, ls7, L7, nl7⟩ := m6.ts (t := 5) (ty := [10]) (r := []) w no q6 (by rw [L6, nx6, nx5]; exact hl) (by omega) (by decide) (Or.inr ⟨⟨by decide, by decide⟩, 10, rfl, rfl, Or.inr (Or.inl rfl)⟩)
    obtain ⟨f1, f2, f3, f4, f5, f6, f7, f8, f9, f10, f11, f12⟩ := w_ts_f 5 [10] g6
    have O7 := O6.ls ls7
    have here7 := ls7.2.2.2.2.2.2.2 (by rw [f1]; exact ((w_q_iff _).mp q6).2) _ _ here
    have q7 : w_q (w_ts 5 [10] g6) = false := f12.trans q6
    have nx7 : g_nx (w_ts 5 [10] g6) = g_nx g + 1 := by rw [f5, nx6, nx5]; rfl
    have nl7' : g_nl g ≤ g_nl (w_ts 5 [10] g6) := by omega
    have L7 : g_L (w_ts 5 [10] g6) = g_L g ++ [10] := by rw [L7, L6]
    have n12 : ¬ 12 ∈ g_L (w_ts 5 [10] g6) := by
      rw [L7, List.mem_append]
      rintro (y | y)
      · exact FM.2 y
      · have := List.mem_singleton.mp y; omega
    generalize w_ts 5 [10] g6 = g7 at *
    obtain ⟨m8, nx8, v8, ls8, w8⟩ := END m7 nl7' (fun _ => nl7) (fun _ => n12) (by omega)
    have O8 := O7.ls ls8
    have here8 : g_ov (w_end rec c g7) = false → oAg (w_end rec c g7) (g_it g5).length (g_L g, [10]) := fun y => ls8.2.2.2.2.2.2.2 y _ _ here7
    have L8 : w_q (w_end rec c g7) = false → g_L (w_end rec c g7) = g_L g ++ [10] := fun q => (v8 q).2.trans L7
    generalize w_end rec c g7 = g8 at *
    -- the range of a lock's end
    have S9 : oM nt N M res par ret E gh (g_nl g) (g_nl g + 1) 0 D (g_L g) 0 [] [] g1 (if so = 4 then s_ok (w_cov (g_it g8) (g_L g) ((g_it g7).length, (g_it g8).length)) (s_rg (((g_it g7).length, (g_it g8).length, (g_it g5).length, 0) :: g_rg g8) g8) else g8) ∧ oOw (g_L g) [] (g_nl g) (if so = 4 then s_ok (w_cov (g_it g8) (g_L g) ((g_it g7).length, (g_it g8).length)) (s_rg (((g_it g7).length, (g_it g8).length, (g_it g5).length, 0) :: g_rg g8) g8) else g8) ∧ (w_q (if so = 4 then s_ok (w_cov (g_it g8) (g_L g) ((g_it g7).length, (g_it g8).length)) (s_rg (((g_it g7).length, (g_it g8).length, (g_it g5).length, 0) :: g_rg g8) g8) else g8) = false → g_L (if so = 4 then s_ok (w_cov (g_it g8) (g_L g) ((g_it g7).length, (g_it g8).length)) (s_rg (((g_it g7).length, (g_it g8).length, (g_it g5).length, 0) :: g_rg g8) g8) else g8) = g_L g ++ [10]) := by
      by_cases so4 : so = 4
      · rw [if_pos so4]
        obtain ⟨z1, z2, z3⟩ := w8 (by omega) q7
        have cv : w_cov (g_it g8) (g_L g) ((g_it g7).length, (g_it g8).length) := ⟨z2, Nat.le_refl _, fun k i y1 y2 y3 => (List.prefix_append (g_L g) [10]).trans (by rw [← L7]; exact z1 k i.1 i.2 y1 y3)⟩
        obtain ⟨m9, ls9⟩ := m8.rg hN (r := ((g_it g7).length, (g_it g8).length, (g_it g5).length, 0)) (P := w_cov (g_it g8) (g_L g) ((g_it g7).length, (g_it g8).length)) ⟨z2, Nat.le_refl _, g_L g, here8 ((w_q_iff _).mp z3).2, fun k i F y1 y2 y3 => cv.2.2 k (i, F) y1 y2 y3⟩ cv
        exact ⟨m9, O8.ls ls9, L8⟩
      · rw [if_neg so4]; exact ⟨m8, O8, L8⟩
    generalize (if so = 4 then s_ok (w_cov (g_it g8) (g_L g) ((g_it g7).length, (g_it g8).length)) (s_rg (((g_it g7).length, (g_it g8).length, (g_it g5).length, 0) :: g_rg g8) g8) else g8) = g9 at *
    obtain ⟨m9, O9, L9⟩ := S9
    cases al9 : g_al g9
    · exact ⟨m9, O9⟩
    · simp only [cond_true]
      cases q9 : w_q g9
      · obtain ⟨ctt, jj⟩ := m9.ac
        have lv := (m9.live al9).2
        have pk : (g_L g9)[g_nx g]? = some 10 := by rw [L9 q9, List.getElem?_append_right (Nat.le_of_eq hl), hl, Nat.sub_self]; rfl
        have o1 := (oP.rf (f := 41) (n := g_nl g9) jj.1.1 q9 lv).em hN (i := (2, 5, g_nx g, 0, [])) (off := 0) (on := [10]) rfl rfl (fun po => oTy.of ⟨rfl, Or.inr ⟨show w_arr5 5 from ⟨by decide, by decide⟩, 10, pk, Or.inr (Or.inl rfl), rfl⟩⟩ (by decide) (by decide) (by decide)) (by decide) (by decide)
        obtain ⟨m10, ls10⟩ := m9.val (by decide) w no q9 o1.1 o1.2
        obtain ⟨m11, ls11⟩ := m10.term (off := 1) (on := []) w no o1.1.2.1 (i := (16, 191, 0, 0, [])) rfl rfl ⟨Or.inr (Or.inl ⟨rfl, [], rfl⟩), fun q => (q.elim (fun q => absurd q (by decide)) (fun q => absurd q (by decide))), fun q => absurd q (by decide), fun q => absurd q (by decide), (fun _ _ q => absurd q (by decide)), oShp0 rfl (by decide)⟩ (by decide) (by decide) []
        exact ⟨m11, (O9.ls ls10).ls ls11⟩
      · have e : w_em (16, 191, 0, 0, []) 1 [] (w_ld 5 (g_nx g) [10] g9) = g9 := by
          have : w_ld 5 (g_nx g) [10] g9 = g9 := by unfold w_ld w_em; rw [q9]; rfl
          rw [this]; unfold w_em; rw [q9]; rfl
        rw [e]
        obtain ⟨m10, ls10⟩ := m9.al0 hN (s' := []) (Or.inl (by unfold w_q at q9; rw [al9] at q9; simpa using q9))
        exact ⟨m10, O9.ls ls10⟩
  obtain ⟨g6, e6, m6, O6⟩ := H6
  rw [e6]
  clear e6
  have m7 := m6.nx (v := g_nx g) (Nat.le_of_eq hl)
  have O7 : oOw (g_L g) [] (g_nl g) (s_nx (g_nx g) g6) := O6
  have nx7 : g_nx (s_nx (g_nx g) g6) = g_nx g := rfl
  generalize s_nx (g_nx g) g6 = g7 at *
  obtain ⟨m8, L8, -, -⟩ := m7.put w (Nat.le_refl _) O7 (List.prefix_refl _) (fun q => m7.live q) (fun d hd => by cases hd)
  have nx8 : g_nx (w_put (g_nl g) g7) = g_nx g := (oPut_f _ _).2.2.2.2.1.trans nx7
  generalize w_put (g_nl g) g7 = g8 at *
  obtain ⟨m9, ls9⟩ := m8.sl (l := g_nl g) w (by have := m8.us; omega)
  have F9 := w_sl_n false (g_nl g) g8
  have G9 := w_sl_f false (g_nl g) g8
  have e1 := w_cg_s (g_goes g8) (g_nl g)
  refine ⟨m9.j.1, ?_, fun y => m9.live y, (G9.2.2.2.2.2.2.2.2.2 0 []).1.2.1.trans nx8, fun q => by rw [G9.2.2.2.1]; exact L8 (by rw [← G9.2.1]; exact ((w_q_iff _).mp q).1)⟩
  refine oClose (g0 := s_acm g) (g := g) (by show g_ac g - 1 + 1 = g_ac g; omega) lab ⟨rfl, rfl, rfl, rfl, rfl, rfl, rfl⟩ (oLs.rf _ g) (fun _ _ => rfl) m9.zz ?_ ?_ ?_
  · cases g_goes g8 (g_nl g) <;> simp only [cond_true, cond_false] <;> omega
  · rw [F9.2.1]
    show 1 + w_cg (g_goes g8) (g_nl g) ≤ _ + w_cg (g_goes g8) (g_nl g + 1)
    rw [e1]
    cases g_goes g8 (g_nl g) <;> simp only [cond_true, cond_false] <;> omega
  · rw [F9.2.1]
    show 1 + 2 * w_cg (g_goes g8) (g_nl g) ≤ 3 + 2 * w_cg (g_goes g8) (g_nl g + 1)
    rw [e1]; omega
end
