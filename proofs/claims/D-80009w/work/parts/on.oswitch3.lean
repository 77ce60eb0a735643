/-! the switch as a statement -/
section
variable {nt : sp_NT} {N M : Nat} {res par : Nat → Int32} {ret : Nat} {E : wF} {T : Nat → List Nat} {rs : Int32} {n m z : Nat} {D : Nat → Prop} {g g0 g1 h k : wG} {gh eh gv gt : List oGh} {cx cv ct : List wC} {L0 s0 : List Nat} {rec : wT} {K f B hh : Nat} {i : Int32} {s : sp_SS}
theorem w_cg_all {go : Nat → Bool} {n : Nat} : ∀ c : Nat, (∀ j, j < c → go (n + j) = true) → w_cg go (n + c) = w_cg go n + c := by
  intro c
  induction c with
  | zero => intro _; rfl
  | succ c ih =>
    intro h
    show w_cg go (n + c) + (bif go (n + c) then 1 else 0) = _
    rw [ih (fun j hj => h j (by omega)), h c (Nat.lt_succ_self c)]; simp only [cond_true]; omega
theorem oKeys (hT : wTb nt N M res par) (hTr : oTr nt N T) {l : List Int32} {p : Int32} (hl : sp_Ch nt N 82 l p) (hlen : l.length ≤ 4000) (v : Nat) : (w_keys nt (w_csl nt v l)).Pairwise (fun a b => a.1.toInt < b.1.toInt) ∧ (∀ q, q ∈ w_csl nt v l → nK nt q.1 = 83 → ∃ a, a ∈ w_keys nt (w_csl nt v l) ∧ a.2 = q.2) ∧ ∀ a, a ∈ w_keys nt (w_csl nt v l) → ∃ q, q ∈ w_csl nt v l ∧ a.2 = q.2 := by
  obtain ⟨s1, s2, s3⟩ := w_csl_s nt l v
  have nd := (oCh_mem hT hTr l p hl).2
  obtain ⟨lb, lab⟩ : ∃ lb : Int32 → Nat, ∀ q, q ∈ w_csl nt v l → q.2 = lb q.1 := by
    refine ⟨fun a => (((w_csl nt v l).find? (fun q => decide (q.1 = a))).map (fun q => q.2)).getD 0, ?_⟩
    have ndc : ((w_csl nt v l).map (fun q => q.1)).Nodup := by
      rw [s1]
      have : (l.map (fun x => (nA nt x).toNatClampNeg)) = (l.map (fun q => nA nt q)).map (fun a => a.toNatClampNeg) := by rw [List.map_map]; rfl
      rw [this] at nd
      exact (List.pairwise_map.mp nd).imp (fun h e => h (by rw [e]))
    generalize w_csl nt v l = cs at *
    clear s1 s2 s3
    induction cs with
    | nil => intro q hq; cases hq
    | cons a r ih =>
      intro q hq
      obtain ⟨n1, n2⟩ := List.nodup_cons.mp ndc
      rcases List.mem_cons.mp hq with y | y
      · rw [y]; simp
      · have ne : ¬ a.1 = q.1 := fun e => n1 (by rw [List.mem_map]; exact ⟨q, y, e.symm⟩)
        have := ih n2 q y
        simp only [List.find?_cons, decide_eq_false ne] at this ⊢
        exact this
  have ek := w_keys_sort (nt := nt) (lab := lb) (w_csl nt v l) lab
  rw [ek, s1]
  have str := nsort_str hT hl hlen (nsort_pw _)
  refine ⟨?_, fun q hq h83 => ?_, fun a ha => ?_⟩
  · rw [List.pairwise_map]
    refine List.pairwise_iff_getElem.mpr (fun i j hi hj hij => ?_)
    have := str i j hij hj
    rw [List.getD, List.getD, List.getElem?_eq_getElem hi, List.getElem?_eq_getElem hj] at this
    exact this
  · have hm : q.1 ∈ l.map (fun q => nA nt q) := by rw [← s1]; exact List.mem_map.mpr ⟨q, hq, rfl⟩
    refine ⟨(nA nt q.1, lb q.1), List.mem_map.mpr ⟨q.1, (nsort_mem _ _).mpr (List.mem_filter.mpr ⟨hm, decide_eq_true h83⟩), rfl⟩, (lab q hq).symm⟩
  · obtain ⟨x, x1, x2⟩ := List.mem_map.mp ha
    have := (List.mem_filter.mp ((nsort_mem _ _).mp x1)).1
    rw [← s1] at this
    obtain ⟨q, q1, q2⟩ := List.mem_map.mp this
    exact ⟨q, q1, by rw [← x2, lab q q1]; show lb x = lb q.1; rw [q2]⟩
/-- the case for others is one at most -/
theorem oOth (hT : wTb nt N M res par) {l : List Int32} {p : Int32} (hl : sp_Ch nt N 82 l p) (hlen : l.length ≤ 4000) (v e : Nat) : (∀ q, q ∈ w_csl nt v l → nK nt q.1 = 84 → w_oth nt e (w_csl nt v l) = q.2) ∧ (w_oth nt e (w_csl nt v l) = e ∨ ∃ q, q ∈ w_csl nt v l ∧ w_oth nt e (w_csl nt v l) = q.2) := by
  have u := hT.uniq l p hl hlen
  have u2 : ((w_csl nt v l).map (fun q => q.1)).Pairwise (fun a b => ¬ (nK nt a = 84 ∧ nK nt b = 84)) := by
    rw [(w_csl_s nt l v).1, List.pairwise_map]
    exact u.imp (fun {a b} h ⟨h1, h2⟩ => (sp_nw_k h (h1.trans h2.symm)).2 h1)
  generalize w_csl nt v l = cs at *
  refine ⟨?_, ?_⟩
  · induction cs with
    | nil => intro q hq; cases hq
    | cons a r ih =>
      intro q hq hk
      obtain ⟨n1, n2⟩ := List.pairwise_cons.mp u2
      by_cases ha : nK nt a.1 = 84
      · have : w_oth nt e (a :: r) = a.2 := by unfold w_oth; rw [List.find?_cons, decide_eq_true ha]
        rw [this]
        rcases List.mem_cons.mp hq with y | y
        · rw [y]
        · exact absurd ⟨ha, hk⟩ (n1 q.1 (List.mem_map.mpr ⟨q, y, rfl⟩))
      · have : w_oth nt e (a :: r) = w_oth nt e r := by unfold w_oth; rw [List.find?_cons, decide_eq_false ha]
        rw [this]
        rcases List.mem_cons.mp hq with y | y
        · rw [y] at hk; exact absurd hk ha
        · exact ih n2 q y hk
  · unfold w_oth
    cases h : cs.find? (fun q => decide (nK nt q.1 = 84)) with
    | none => exact Or.inl rfl
    | some q => exact Or.inr ⟨q, List.mem_of_find?_eq_some h, rfl⟩
theorem ob81 (IH : oSc nt N M res par ret E T rs rec K) (b : oBg nt N M res par ret E T rs K (f + 1) i g0 s gh B) (e : nK nt i = 81) : oPs nt N M res par ret E T (f + 1) i g0 s gh (w_swt nt (wV nt 40) rec (nA nt i) (nB nt i) (s_ac g0)) := by
  have b' := b
  obtain ⟨⟨p1, p2, p3, p4, p5, p6, p7, p8, p9, p10, p11, p12, p13, p14⟩, b2, hN, hT, hTr, hA⟩ := b'
  obtain ⟨m0, B0⟩ := b.mst
  obtain ⟨wa, ta, nb, db, kb⟩ := wE_switch hT hA.1 hA.2.2 e
  have h40 := hT.2.2
  have pb := sp_pb_k e (a := nB nt i) (by decide) (nd_n1 nb)
  have Tb := hTr.b h40 hA.1 pb
  have Tl := hTr.lb h40 hA.1 pb
  rw [oc81 e] at p8
  obtain ⟨c1, c2, c3⟩ := sp_th_t p8
  rw [oSc_E hT wa s] at c2 c3
  rw [if_neg (nd_n1 nb)] at c2 c3
  rw [ol81 e] at p9
  obtain ⟨l, l1, l2⟩ := hT.chain (K := 82) (p := nB nt i) (Or.inr (Or.inr (Or.inl rfl))) (Or.inr ⟨nb, kb⟩)
  have lne : l ≠ [] := fun y => by rw [y] at l1; exact nd_n1 nb l1
  have llen := chain_len hT (K := 82) (p := nB nt i) (Or.inr (Or.inr (Or.inl rfl))) (Or.inr ⟨nb, kb⟩)
  rw [l2] at llen
  have q0 : w_q (s_ac g0) = false := p1
  have no : ∀ d : oGh, d ∈ ([] : List oGh) → h_L d <+: g_L g0 := fun d hd => by cases hd
  have w := b.w
  obtain ⟨m1, ls1, P1⟩ := (m0.V hT w no q0 wa p7 c1 B0 (by omega)).1
  have P1' := P1
  obtain ⟨⟨⟨x1, x2, x3, x4, x5, x6, x7⟩, xr⟩, P2, P3, P4⟩ := P1'
  unfold w_swt
  rw [l2]
  simp only
  have e1 : w_tl (nT nt (nA nt i)) = [1] := by rw [ta]; rfl
  rw [e1] at m1 P4
  generalize wV nt 40 (nA nt i) 0 0 (s_ac g0) = gv at *
  have x2 : g_nx gv = g_nx g0 := x2
  have P3 : g_L gv = g_L g0 := P3
  have d1 : (g_st gv).drop 1 = [] := by rw [P4]; rfl
  rw [P3, d1]
  obtain ⟨s1, s2, s3⟩ := w_csl_s nt l (g_nl gv + 1)
  rw [s2]
  -- the labels
  have jv := m1.j
  have Zv : oZ (g_nl g0) (g_nl g0) 0 (oDn T i gh) (s_ac g0) gv := jv.2.1
  have acv : g_ac g0 + 1 ≤ g_ac gv := Zv.2.1.2.2.2.2.1
  have nlv : g_nl g0 ≤ g_nl gv := Zv.1.2.1
  have Bv := B0.z Zv.2.1 jv.1.2.2.2.1
  obtain ⟨y2, lab⟩ := jv.1.lbs (F := (g_L g0, [])) (by show (0 : Nat) < 3370; decide) (l.length + 1) Bv (by omega)
  have B2 := lab.oB Bv (Nat.le_refl _)
  have lab' := lab
  obtain ⟨⟨z1, z2, z3, z4, z5, z6, z7, z8, z9, z10, z11, z12, z13⟩, n1, lo, la, us1, un1, fm1⟩ := lab'
  generalize w_lbs (g_L g0, []) (l.length + 1) gv = g2 at *
  have q2 : w_q g2 = false := by unfold w_q; rw [z2, z3]; exact P2
  have L2 : g_L g2 = g_L g0 := z4.trans P3
  have w2 : oW N (g_nl gv) (oDn T i gh) gh (g_L g0) := ⟨jv.1.2.1.lb, w.2.1, hN, w.2.2.2⟩
  have m2 : oM nt N M res par ret E gh (g_nl gv) (g_nl gv + (l.length + 1)) 0 (oDn T i gh) (g_L g0) 0 [] [1] g2 g2 := oM.of ⟨y2, oZ.rf (by omega), fun _ => ⟨by rw [L2]; exact List.prefix_refl _, by rw [z5]; exact P4⟩, by rw [z6, x2]; exact Nat.le_of_eq p6.2⟩ z11
  have O2 : ∀ j, j < l.length + 1 → oOw (g_L g0) [] (g_nl gv + j) g2 := fun j hj => by
    obtain ⟨h1, h2, h3⟩ := la (g_nl gv + j) (Nat.le_add_right _ _) (by omega)
    exact ⟨by omega, h1, h3⟩
  -- the cases' labels beside
  obtain ⟨chm, chn⟩ := oCh_mem hT hTr l (nB nt i) l1
  have nodes : ∀ q, q ∈ w_csl nt (g_nl gv + 1) l → oDn T i gh q.1.toNatClampNeg := fun q hq => by
    have hm : q.1 ∈ (w_csl nt (g_nl gv + 1) l).map (fun q => q.1) := List.mem_map.mpr ⟨q, hq, rfl⟩
    rw [s1] at hm
    obtain ⟨x, h1, h2⟩ := List.mem_map.mp hm
    rw [← h2]; exact Or.inl (Tb _ (chm x h1))
  obtain ⟨m3, ls3, p3a, p3b, -, q3, L3, nx3, nl3⟩ := m2.csp w2 (w_csl nt (g_nl gv + 1) l) g2 nodes (by
    have : (w_csl nt (g_nl gv + 1) l).map (fun q => q.1.toNatClampNeg) = ((w_csl nt (g_nl gv + 1) l).map (fun q => q.1)).map (fun a => a.toNatClampNeg) := by rw [List.map_map]; rfl
    rw [this, s1, List.map_map]; exact chn)
  have O3 : ∀ j, j < l.length + 1 → oOw (g_L g0) [] (g_nl gv + j) (w_csp (w_csl nt (g_nl gv + 1) l) g2) := fun j hj => (O2 j hj).ls ls3
  generalize w_csp (w_csl nt (g_nl gv + 1) l) g2 = g3 at *
  have L3 : g_L g3 = g_L g0 := L3.trans L2
  have nx3 : g_nx g3 = g_nx g0 := nx3.trans (z6.trans x2)
  have m4 := m3.open_ (so := 1) (nd := 0) (b := g_nl gv) (c := 0) (e := oHd 1 0 (g_nl gv) 0 (g_L g0) s.2.1) rfl (by show (g_L g0).length = _; rw [nx3]; exact p6.2) (fun _ => O3 0 (Nat.zero_lt_succ _)) (fun q => absurd q (by decide)) (fun q => absurd q (by decide))
  have O4 : ∀ j, j < l.length + 1 → oOw (g_L g0) [] (g_nl gv + j) (w_ctx 1 0 (g_nl gv) 0 g3) := O3
  have q4 : w_q (w_ctx 1 0 (g_nl gv) 0 g3) = false := q3.trans q2
  have L4 : g_L (w_ctx 1 0 (g_nl gv) 0 g3) = g_L g0 := L3
  have nx4 : g_nx (w_ctx 1 0 (g_nl gv) 0 g3) = g_nx g0 := nx3
  have pl4 : ∀ q, q ∈ w_csl nt (g_nl gv + 1) l → g_pl (w_ctx 1 0 (g_nl gv) 0 g3) (4000 + q.1.toNatClampNeg) = some q.2 := p3a
  generalize w_ctx 1 0 (g_nl gv) 0 g3 = g4 at *
  -- the item
  have hs := oKeys hT hTr l1 (by omega) (g_nl gv + 1)
  have hoth := oOth (nt := nt) hT l1 (by omega) (g_nl gv + 1) (g_nl gv)
  obtain ⟨k1, k2, k3⟩ := oSwi_mem (o := w_oth nt (g_nl gv) (w_csl nt (g_nl gv + 1) l)) hs.1
  have we : ∀ d, d ∈ [oHd 1 0 (g_nl gv) 0 (g_L g0) s.2.1] → h_L d <+: g_L g0 := fun d hd => by rw [List.mem_singleton.mp hd]; exact List.prefix_refl _
  have lbl : ∀ q, q ∈ w_csl nt (g_nl gv + 1) l → ∃ j, j < l.length + 1 ∧ q.2 = g_nl gv + j := fun q hq => by
    obtain ⟨h1, h2⟩ := s3 q hq
    exact ⟨q.2 - g_nl gv, by omega, by omega⟩
  have hO : ∀ q, q ∈ (w_swi (w_oth nt (g_nl gv) (w_csl nt (g_nl gv + 1) l)) (w_keys nt (w_csl nt (g_nl gv + 1) l))).2.2.2.2 → oOw (g_L g4) [] q.2 g4 := fun q hq => by
    rw [L4]
    have own : ∀ x, x ∈ w_csl nt (g_nl gv + 1) l → oOw (g_L g0) [] x.2 g4 := fun x hx => by
      obtain ⟨j, h1, h2⟩ := lbl x hx
      rw [h2]; exact O4 j h1
    rcases k3 q hq with y | ⟨a, a1, a2⟩
    · rw [y]
      rcases hoth.2 with y | ⟨x, h1, h2⟩
      · rw [y]; exact O4 0 (Nat.zero_lt_succ _)
      · rw [h2]; exact own x h1
    · obtain ⟨x, h1, h2⟩ := hs.2.2 a a1
      rw [a2, h2]; exact own x h1
  obtain ⟨m5, ls5, go5, nx5, pl5⟩ := m4.swi w2 we q4 hs.1 hO []
  -- each case's label is come to
  have kinds : ∀ q, q ∈ w_csl nt (g_nl gv + 1) l → nK nt q.1 = 83 ∨ nK nt q.1 = 84 := fun q hq => by
    have hm : q.1 ∈ (w_csl nt (g_nl gv + 1) l).map (fun q => q.1) := List.mem_map.mpr ⟨q, hq, rfl⟩
    rw [s1] at hm
    obtain ⟨x, h1, h2⟩ := List.mem_map.mp hm
    rw [← h2]
    have : ∀ (l : List Int32) (p : Int32), sp_Ch nt N 82 l p → ∀ x, x ∈ l → sp_nd N x = true ∧ nK nt x = 82 := by
      intro l
      induction l with
      | nil => intro p _ x hx; cases hx
      | cons a r ih =>
        intro p h x hx
        obtain ⟨e1, e2, e3, e4, e5⟩ := h
        rcases List.mem_cons.mp hx with y | y
        · rw [y]; exact ⟨e2, e3⟩
        · exact ih _ e5 x y
    obtain ⟨xn, xk⟩ := this l _ l1 x h1
    have := (hT.d xn).2
    exact (wE_cases hT (f := 39) xn (by omega) xk).1.2.2
  have goc : ∀ j, j < l.length → g_goes (s_al false (w_comes (w_swi (w_oth nt (g_nl gv) (w_csl nt (g_nl gv + 1) l)) (w_keys nt (w_csl nt (g_nl gv + 1) l))).2.2.2.2 (w_em (w_swi (w_oth nt (g_nl gv) (w_csl nt (g_nl gv + 1) l)) (w_keys nt (w_csl nt (g_nl gv + 1) l))) 1 [] g4))) (g_nl gv + 1 + j) = true := fun j hj => by
    have ex : ∃ q, q ∈ w_csl nt (g_nl gv + 1) l ∧ q.2 = g_nl gv + 1 + j := by
      have : ∀ (r : List Int32) (v j : Nat), j < r.length → ∃ q, q ∈ w_csl nt v r ∧ q.2 = v + j := by
        intro r
        induction r with
        | nil => intro v j h; simp at h
        | cons a r ih =>
          intro v j h
          cases j with
          | zero => exact ⟨(nA nt a, v), List.mem_cons_self .., rfl⟩
          | succ j =>
            obtain ⟨q, h1, h2⟩ := ih (v + 1) j (by simpa using h)
            exact ⟨q, List.mem_cons_of_mem _ h1, by omega⟩
      exact this l _ j hj
    obtain ⟨q, hq, eq⟩ := ex
    rw [← eq]
    rcases kinds q hq with y | y
    · obtain ⟨a, a1, a2⟩ := hs.2.1 q hq y
      obtain ⟨p, h1, h2⟩ := k2 a a1
      rw [← a2, ← h2]; exact go5 p h1
    · obtain ⟨p, h1, h2⟩ := k1
      have zz : q.2 = p.2 := by rw [← hoth.1 q hq y, h2]
      rw [zz]; exact go5 p h1
  have al5 : g_al (s_al false (w_comes (w_swi (w_oth nt (g_nl gv) (w_csl nt (g_nl gv + 1) l)) (w_keys nt (w_csl nt (g_nl gv + 1) l))).2.2.2.2 (w_em (w_swi (w_oth nt (g_nl gv) (w_csl nt (g_nl gv + 1) l)) (w_keys nt (w_csl nt (g_nl gv + 1) l))) 1 [] g4))) = false := rfl
  generalize s_al false (w_comes (w_swi (w_oth nt (g_nl gv) (w_csl nt (g_nl gv + 1) l)) (w_keys nt (w_csl nt (g_nl gv + 1) l))).2.2.2.2 (w_em (w_swi (w_oth nt (g_nl gv) (w_csl nt (g_nl gv + 1) l)) (w_keys nt (w_csl nt (g_nl gv + 1) l))) 1 [] g4)) = g5 at *
  have O5 : ∀ j, j < l.length + 1 → oOw (g_L g0) [] (g_nl gv + j) g5 := fun j hj => (O4 j hj).ls ls5
  have H5 : oKp2 nt N M res par ret E gh (g_nl gv) (g_nl gv + (l.length + 1)) (oDn T i gh) (g_L g0) (g_nl gv) (g_nx g0) (oHd 1 0 (g_nl gv) 0 (g_L g0) s.2.1) g2 g5 := ⟨m5, O5 0 (Nat.zero_lt_succ _), nx5.trans nx4, fun y => by
    have := ((w_q_iff _).mp y).1
    rw [al5] at this; exact absurd this (by decide)⟩
  obtain ⟨⟨m6, O6, nx6, L6⟩, go6⟩ := oCses IH b (gv := gv) (g1 := g2) w2 B2 (by omega) (fun v hv hi => by rw [z10, x7]; rfl) l f (nB nt i) (g_nl gv + 1) g5 s l1 lne db Tb (by omega) c3 p9 (fun v q => q) (fun v q _ => q) H5 (by omega) (fun j hj => by rw [show g_nl gv + 1 + j = g_nl gv + (j + 1) by omega]; exact O5 (j + 1) (by omega)) (fun q hq => by rw [pl5]; exact pl4 q hq)
  have goc6 : ∀ j, j < l.length → g_goes (w_cses nt rec (w_csl nt (g_nl gv + 1) l) g5) (g_nl gv + 1 + j) = true := fun j hj => go6 _ (by have := (O5 (j + 1) (by omega)).1; omega) (goc j hj)
  generalize w_cses nt rec (w_csl nt (g_nl gv + 1) l) g5 = g6 at *
  have m7 := m6.hide.shut
  have O7 := O6.ls (oLs.shut (g_nl g6) g6)
  have nx7 : g_nx (w_shut g6) = g_nx g0 := nx6
  have go7 : g_goes (w_shut g6) = g_goes g6 := rfl
  generalize w_shut g6 = g7 at *
  obtain ⟨m8, L8, -, -⟩ := m7.put w2 (Nat.le_refl _) O7 (List.prefix_refl _) (fun q => m7.live q) (fun d hd => by cases hd)
  have nx8 : g_nx (w_put (g_nl gv) g7) = g_nx g0 := (oPut_f _ _).2.2.2.2.1.trans nx7
  have go8 : g_goes (w_put (g_nl gv) g7) = g_goes g6 := (oPut_f _ _).2.2.2.2.2.2.2.2.1.trans go7
  generalize w_put (g_nl gv) g7 = g8 at *
  obtain ⟨m9, ls9⟩ := m8.sl (l := g_nl gv) w2 (by have := m8.us; omega)
  have F9 := w_sl_n false (g_nl gv) g8
  have G9 := w_sl_f false (g_nl gv) g8
  have cg1 := w_cg_s (g_goes g8) (g_nl gv)
  have cg2 := w_cg_all (go := g_goes g8) (n := g_nl gv + 1) l.length (fun j hj => by rw [go8]; exact goc6 j hj)
  have cg2 : w_cg (g_goes g8) (g_nl gv + (l.length + 1)) = w_cg (g_goes g8) (g_nl gv + 1) + l.length := by rw [← cg2]; congr 1; omega
  have u2 : oZ (g_nl gv) (g_nl gv) 0 (oDn T i gh) (s_acm gv) (w_sl false (g_nl gv) g8) := by
    refine oClose (g0 := s_acm gv) (g := gv) (by show g_ac gv - 1 + 1 = g_ac gv; omega) lab ⟨rfl, rfl, rfl, rfl, rfl, rfl, rfl⟩ (oLs.rf _ gv) (fun _ _ => rfl) m9.zz ?_ ?_ ?_
    · cases g_goes g8 (g_nl gv) <;> simp only [cond_true, cond_false] <;> omega
    · rw [F9.2.1]
      show l.length + 1 + w_cg (g_goes g8) (g_nl gv) ≤ _ + w_cg (g_goes g8) (g_nl gv + (l.length + 1))
      rw [cg2, cg1]
      cases g_goes g8 (g_nl gv) <;> simp only [cond_true, cond_false] <;> omega
    · rw [F9.2.1]
      show l.length + 1 + 2 * w_cg (g_goes g8) (g_nl gv) ≤ 3 + 2 * w_cg (g_goes g8) (g_nl gv + (l.length + 1))
      rw [cg2, cg1]; omega
  have nx9 := (G9.2.2.2.2.2.2.2.2.2 0 []).1.2.1.trans nx8
  have L9 : w_q (w_sl false (g_nl gv) g8) = false → g_L (w_sl false (g_nl gv) g8) = g_L g0 := fun q => by rw [G9.2.2.2.1]; exact L8 (by rw [← G9.2.1]; exact ((w_q_iff _).mp q).1)
  generalize w_sl false (g_nl gv) g8 = g9 at *
  have Z6 : oZ (g_nl g0) (g_nl g0) 0 (oDn T i gh) g0 (s_acm gv) := by
    obtain ⟨z1, ⟨o1, o2, o3, o4, o5, o6, o7, o8⟩, z3⟩ := Zv
    refine ⟨z1, ⟨Nat.le_refl _, o2, o3, o4, by show g_ac g0 ≤ g_ac gv - 1; omega, o6, ?_, o8⟩, z3⟩
    have o7 : g_n1 gv + g_fm g0 + 2 * w_cg (g_goes gv) (g_nl g0) + g_by g0 + 3 * (g_ac g0 + 1) ≤ g_n1 g0 + g_fm gv + 2 * w_cg (g_goes g0) (g_nl g0) + g_by gv + 3 * g_ac gv := o7
    show g_n1 gv + g_fm g0 + 2 * w_cg (g_goes gv) (g_nl g0) + g_by g0 + 3 * g_ac g0 ≤ g_n1 g0 + g_fm gv + 2 * w_cg (g_goes g0) (g_nl g0) + g_by gv + 3 * (g_ac gv - 1)
    omega
  have Z7 : oZ (g_nl g0) (g_nl g0) 0 (oDn T i gh) g0 g9 := Z6.tr ⟨u2.1.low nlv, oPz.of u2.2.1.pt.1 u2.2.1.pt.2 nlv, u2.2.2⟩
  refine ⟨m9.j.1, Z7, fun y => m9.live y, Nat.le_of_eq nx9.symm, by omega, fun q => ⟨by rw [L9 q, nx9]; exact p6.2, (b.fm (g1 := g0) rfl Z7.2.2 (L9 q)).mono (fun v y => ?_)⟩⟩
  rw [oc81 e, c2] at y
  exact oCases_eff hT hTr f (nB nt i) nb db kb s v y
end
