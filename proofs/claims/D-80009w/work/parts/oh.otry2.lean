/-! tries, all well -/
section
variable {nt : sp_NT} {N M : Nat} {res par : Nat → Int32} {ret : Nat} {E : wF} {T : Nat → List Nat} {rs : Int32} {n m z : Nat} {D : Nat → Prop} {g g0 g1 h k : wG} {gh eh gv gt : List oGh} {cx cv ct : List wC} {L0 s0 : List Nat} {rec : wT} {K f B hh : Nat} {i : Int32} {s : sp_SS}
theorem oLs.mx (a : oLs n g h) : g_mx g ≤ g_mx h := a.2.2.2.1
theorem oLs.it (a : oLs n g h) : ∃ e, g_it h = e ++ g_it g := a.1
/-- the state before a handler, or behind all -/
def oHp (nt : sp_NT) (N M : Nat) (res par : Nat → Int32) (ret : Nat) (E : wF) (gh : List oGh) (n m : Nat) (D : Nat → Prop) (L0 : List Nat) (e nx : Nat) (g1 g : wG) : Prop :=
  oM nt N M res par ret E gh n m 0 D L0 0 [] [] g1 g ∧ oOw L0 [] e g ∧ g_nx g = nx ∧ (g_ov g = false → g_al g = false) ∧ L0.length ≤ g_mx g
/-- handlers leave nothing in force -/
theorem oHand1 (hT : wTb nt N M res par) (hTr : oTr nt N T) (f : Nat) (h : Int32) (a1 : sp_nd N h = true) (a2 : nD nt h ≤ f) (a3 : nK nt h = 77 ∨ nK nt h = 78) (s1 : sp_SS) : ∀ v, (sp_sc nt f h s1).2.2.1 v = true → s1.2.1 v = true := by
  cases f with
  | zero => have := (hT.d a1).1; omega
  | succ f =>
  rcases a3 with z | z
  · obtain ⟨z1, z2, z3⟩ := wE_catch hT a1 a2 z
    intro v y
    rw [oc77 z] at y
    exact ((oS_gr hT hTr f (nB nt h) z3.1 z3.2.2 (Or.inl z3.2.1) s1).al (r := sp_sc nt f (nB nt h) s1)).2 v y
  · obtain ⟨z1, z2, z3, z4, z5, z6⟩ := wE_with hT a1 a2 z
    intro v y
    rw [oc78 z] at y
    have g1' := (oGr.fo s1 (nA nt h)).tr (oS_gr hT hTr f (nB nt h) z4 z5 (by rw [z6]; unfold oSK; simp) _) (T := (nA nt h).toNatClampNeg :: oT T (nB nt h)) (fun x y => by rw [List.mem_singleton.mp y]; exact List.mem_cons_self ..) (fun x y => List.mem_cons_of_mem _ y)
    exact (g1'.al (r := sp_sc nt f (nB nt h) (sp_fo s1 (nA nt h)))).2 v y
theorem oHandle_eff (hT : wTb nt N M res par) (hTr : oTr nt N T) : ∀ (f : Nat) (q : Int32), sp_nd N q = true → nD nt q ≤ f → nK nt q = 76 → ∀ (s1 : sp_SS) (v : Nat), (sp_sc nt f q s1).2.2.1 v = true → s1.2.1 v = true := by
  intro f
  induction f with
  | zero => intro q h1 h2; have := (hT.d h1).1; omega
  | succ f ih =>
    intro q h1 h2 h3 s1 v y
    obtain ⟨⟨a1, a2, a3⟩, nx⟩ := wE_catches hT h1 h2 h3
    rw [oc76 h3] at y
    have eff := oHand1 hT hTr f (nA nt q) a1 a2 a3 s1
    unfold sp_th at y
    cases z : (sp_sc nt f (nA nt q) s1).1
    · rw [z] at y; exact eff v y
    · rw [z] at y
      simp only [cond_true] at y
      rcases nx with n | ⟨n1, n2, n3⟩
      · rw [if_pos n] at y; exact eff v y
      · rw [if_neg (nd_n1 n1)] at y
        exact eff v (ih _ n1 n2 n3 _ v y)
/-- handlers, one by one -/
theorem oCtc (IH : oSc nt N M res par ret E T rs rec K) {f0 : Nat} (b : oBg nt N M res par ret E T rs K f0 i g0 s gh B) {g1 : wG} {c c' : Nat} (l1 : oLab (g_L g0, []) c c' (s_ac g0) g1) {Bb : Nat} (B1 : oB Bb g1) (Bo : Bb + 70 * K + 170 ≤ 20000) {ps : List (Nat × Nat)} {e : Nat} :
    ∀ (l : List Int32) (f : Nat) (q : Int32) (g : wG) (s1 : sp_SS), sp_Ch nt N 76 l q → l ≠ [] → nD nt q ≤ f → (∀ x, x ∈ oT T q → x ∈ oT T i) → (oT T q).length + 2 ≤ (oT T i).length → (sp_sc nt f q s1).1 = true → sp_lf nt rs f q (oLo gh) (oWa gh) = true
      → (∀ v, s1.2.1 v = true → s.2.1 v = true) → (∀ v, s.2.1 v = true → ¬ v ∈ oT T i → s1.2.1 v = true)
      → oHp nt N M res par ret E gh (g_nl g0) (g_nl g0 + c) (oDn T i gh) (g_L g0) e (g_nx g0) g1 g → (∀ p, p ∈ ps → w_cov (g_it g) (g_L g0) p) → g_nl g0 ≤ g_nl g
      → oHp nt N M res par ret E gh (g_nl g0) (g_nl g0 + c) (oDn T i gh) (g_L g0) e (g_nx g0) g1 (w_ctc nt rec (g_L g0) ps e l g) := by
  intro l
  induction l with
  | nil => intro f q g s1 _ h; exact absurd rfl h
  | cons q0 l ih =>
    intro f q g s1 hch _ hd hT1 hT2 hsc hlf hI1 hI2 H hcov hnl
    obtain ⟨e1, e2, e3, e4, e5⟩ := hch
    subst e1
    have b' := b
    obtain ⟨⟨p1, p2, p3, p4, p5, p6, p7, p8, p9, p10, p11, p12, p13, p14⟩, b2, hN, hT, hTr, hA⟩ := b'
    have h40 := hT.2.2
    unfold w_ctc
    cases hov : (g_ov g || ps.isEmpty) with
    | true => exact H
    | false =>
    obtain ⟨o1, o2⟩ := Bool.or_eq_false_iff.mp hov
    have hps : ps ≠ [] := fun y => by rw [y] at o2; exact absurd o2 (by decide)
    simp only [cond_false]
    obtain ⟨H1, H2, H3, H4, H5⟩ := H
    cases f with
    | zero => have := (hT.d e2).1; omega
    | succ f =>
    obtain ⟨⟨a1, a2, a3⟩, nx⟩ := wE_catches hT e2 hd e3
    have pa := sp_pa_k e3 (a := nA nt q) (by decide) (nd_n1 a1)
    have Ta := hTr.a h40 e2 pa
    have Tl := hTr.la h40 e2 pa
    rw [oc76 e3] at hsc
    obtain ⟨c1, c2, c3⟩ := sp_th_t hsc
    rw [ol76 e3] at hlf
    have lf2 : sp_lf nt rs f (nA nt q) (oLo gh) (oWa gh) = true ∧ (nB nt q = -1 ∨ sp_lf nt rs f (nB nt q) (oLo gh) (oWa gh) = true) := by simpa using hlf
    have no : ∀ d : oGh, d ∈ ([] : List oGh) → h_L d <+: g_L g0 := fun d hd => by cases hd
    have w := b.w
    have l8 : (g_L g0).length ≤ g_mx g := H5
    have dead := H4 o1
    -- the clause: its node k, of kind 77
    have CL : ∃ k f', k = (bif decide (nK nt (nA nt q) = 78) then nB nt (nA nt q) else nA nt q) ∧ sp_nd N k = true ∧ nD nt k ≤ f' + 1 ∧ nK nt k = 77 ∧ (∀ x, x ∈ oT T k → x ∈ oT T (nA nt q)) ∧ (oT T k).length ≤ (oT T (nA nt q)).length
        ∧ (sp_sc nt (f' + 1) k (bif decide (nK nt (nA nt q) = 78) then sp_fo s1 (nA nt (nA nt q)) else s1)).1 = true ∧ sp_lf nt rs (f' + 1) k (oLo gh) (oWa gh) = true
        ∧ (nK nt (nA nt q) = 78 → (nA nt (nA nt q)).toNatClampNeg < N ∧ nT nt (nA nt (nA nt q)) = 1 ∧ (nA nt (nA nt q)).toNatClampNeg ∈ oT T (nA nt q) ∧ ¬ (nA nt (nA nt q)).toNatClampNeg ∈ oT T k) := by
      cases f with
      | zero => have := (hT.d a1).1; omega
      | succ f =>
      by_cases k78 : nK nt (nA nt q) = 78
      · obtain ⟨w1, w2, w3, w4, w5, w6⟩ := wE_with hT a1 a2 k78
        have pp := sp_pb_k k78 (a := nB nt (nA nt q)) (by decide) (nd_n1 w4)
        have pq := sp_pa_k k78 (a := nA nt (nA nt q)) (by decide) (nd_n1 w1)
        rw [oc78 k78, sp_al_1] at c1
        have l1 := lf2.1
        rw [ol78 k78] at l1
        have := hTr.lb h40 a1 pp
        have vt := hTr.self h40 w1
        cases f with
        | zero => have := (hT.d w4).1; omega
        | succ f =>
        refine ⟨nB nt (nA nt q), f, by rw [decide_eq_true k78]; rfl, w4, w5, w6, hTr.b h40 a1 pp, by omega, by rw [decide_eq_true k78]; exact c1, l1, fun _ => ⟨sp_nd_lt h40 w1, w3, hTr.a h40 a1 pq _ vt, hTr.dj h40 a1 pq pp _ vt⟩⟩
      · have k77 : nK nt (nA nt q) = 77 := a3.resolve_right k78
        refine ⟨nA nt q, f, by rw [decide_eq_false k78]; rfl, a1, a2, k77, fun x y => y, Nat.le_refl _, by rw [decide_eq_false k78]; exact c1, lf2.1, fun y => absurd y k78⟩
    obtain ⟨k, f', ek, k1, k2, k3, k4, k5, k6, k7, k8⟩ := CL
    obtain ⟨y1, y2, ws⟩ := wE_catch hT k1 k2 k3
    have pk := sp_pb_k k3 (a := nB nt k) (by decide) (nd_n1 ws.1)
    have Tk := hTr.b h40 k1 pk
    have Tkl := hTr.lb h40 k1 pk
    rw [oc77 k3, sp_al_1] at k6
    rw [ol77 k3] at k7
    have pl1 : g_pl g1 = g_pl g0 := l1.1.2.2.2.2.2.2.2.2.2.1
    rw [← ek]
    obtain ⟨m2, ls2, q2, L2, nx2, pl2, it2⟩ := H1.hd w dead o1 hps hcov l8 (nA nt k)
    have O2 := H2.ls ls2
    generalize w_hd (g_L g0) ps (nA nt k) g = g2 at *
    have nx2 : g_nx g2 = g_nx g0 := nx2.trans H3
    -- what is told, or dropped
    have STEP : ∃ s2 : sp_SS, s2 = (bif decide (nK nt (nA nt q) = 78) then sp_fo s1 (nA nt (nA nt q)) else s1) ∧ oM nt N M res par ret E gh (g_nl g0) (g_nl g0 + c) 0 (oDn T i gh) (g_L g0) 0 [] [] g1 (bif decide (nK nt (nA nt q) = 78) then s_pl (nA nt (nA nt q)).toNatClampNeg (g_nx g2) (w_ts 1 [1] (w_pe 15 72 0 1 [1] g2)) else w_em (7, 87, 0, 0, []) 1 [] g2)
        ∧ oLs (g_nl g2) g2 (bif decide (nK nt (nA nt q) = 78) then s_pl (nA nt (nA nt q)).toNatClampNeg (g_nx g2) (w_ts 1 [1] (w_pe 15 72 0 1 [1] g2)) else w_em (7, 87, 0, 0, []) 1 [] g2) ∧ (g_L (bif decide (nK nt (nA nt q) = 78) then s_pl (nA nt (nA nt q)).toNatClampNeg (g_nx g2) (w_ts 1 [1] (w_pe 15 72 0 1 [1] g2)) else w_em (7, 87, 0, 0, []) 1 [] g2)).length = g_nx (bif decide (nK nt (nA nt q) = 78) then s_pl (nA nt (nA nt q)).toNatClampNeg (g_nx g2) (w_ts 1 [1] (w_pe 15 72 0 1 [1] g2)) else w_em (7, 87, 0, 0, []) 1 [] g2)
        ∧ g_nx (bif decide (nK nt (nA nt q) = 78) then s_pl (nA nt (nA nt q)).toNatClampNeg (g_nx g2) (w_ts 1 [1] (w_pe 15 72 0 1 [1] g2)) else w_em (7, 87, 0, 0, []) 1 [] g2) ≤ g_nx g0 + 1 ∧ oFm nt N s2.2.1 (bif decide (nK nt (nA nt q) = 78) then s_pl (nA nt (nA nt q)).toNatClampNeg (g_nx g2) (w_ts 1 [1] (w_pe 15 72 0 1 [1] g2)) else w_em (7, 87, 0, 0, []) 1 [] g2)
        ∧ (∀ v, s2.2.1 v = true → s.2.1 v = true ∨ (v ∈ oT T i ∧ ¬ v ∈ oT T (nB nt k))) ∧ (∀ v, s.2.1 v = true → ¬ v ∈ oT T i → s2.2.1 v = true) := by
      refine ⟨_, rfl, ?_⟩
      have p7' : oFm nt N s1.2.1 g0 := p7.mono hI1
      cases hk : decide (nK nt (nA nt q) = 78)
      · simp only [cond_false]
        obtain ⟨m3, ls3, q3, L3, nx3, pl3⟩ := m2.drop w no q2 (by decide) (by decide)
        exact ⟨m3, ls3, by rw [L3, L2, nx3, nx2]; exact p6.2, by omega, (b.fm (g1 := g1) pl1 m3.zz.2.2 (L3.trans L2)).mono hI1, fun v y => Or.inl (hI1 v y), hI2⟩
      · simp only [cond_true]
        obtain ⟨v1, v2, v3, v4⟩ := k8 (of_decide_eq_true hk)
        obtain ⟨m3, ls3, q3, L3, nx3, pl3⟩ := m2.pe w no (v := 72) q2 (Or.inr ⟨rfl, rfl, rfl⟩) (by decide)
        have ng : g_nx (w_pe 15 72 0 1 [1] g2) = g_nx g2 := nx3
        generalize w_pe 15 72 0 1 [1] g2 = g3 at *
        obtain ⟨m4, ls4, L4, nl4⟩ := m3.ts (t := 1) (ty := [1]) (r := []) w no q3 (by rw [L3, L2, nx3, nx2]; exact p6.2) (by omega) (by decide) (Or.inl ⟨⟨by decide, by decide⟩, rfl, rfl⟩)
        obtain ⟨f1, f2, f3, f4, f5, f6, f7, f8, f9, f10, f11, f12⟩ := w_ts_f 1 [1] g3
        generalize w_ts 1 [1] g3 = g4 at *
        obtain ⟨m5, ls5⟩ := m4.pl (p := g_nx g2) w (v := (nA nt (nA nt q)).toNatClampNeg) (by omega) (Or.inl (hT1 _ (Ta _ v3)))
        have f5 : g_nx g4 = g_nx g3 + 1 := f5
        refine ⟨m5, ls3.tr ((ls4.low ls3.2.1).tr (ls5.low (Nat.le_trans ls3.2.1 ls4.2.1))), nl4, by show g_nx g4 ≤ _; omega, ⟨fun v hv hi => ?_, ?_⟩, fun v y => ?_, fun v y1 y2 => ?_⟩
        · have hi : (if v = (nA nt (nA nt q)).toNatClampNeg then true else s1.2.1 v) = true := hi
          by_cases y : v = (nA nt (nA nt q)).toNatClampNeg
          · refine ⟨g_nx g2, by show (if v = _ then some _ else _) = _; rw [if_pos y], ?_⟩
            show (g_L g4)[g_nx g2]? = _
            rw [L4, L3, L2, List.getElem?_append_right (by rw [nx2, p6.2]; exact Nat.le_refl _), nx2, p6.2, Nat.sub_self, y]
            show some 1 = some (nT nt (nA nt (nA nt q)))
            rw [v2]
          · rw [if_neg y] at hi
            obtain ⟨p, z1, z2⟩ := p7.1 v hv (hI1 v hi)
            refine ⟨p, ?_, ?_⟩
            · show (if v = _ then some _ else g_pl g4 v) = _
              have := p10 v hv (hI1 v hi)
              rw [if_neg y, f4, pl3, pl2, H1.zz.2.2 v (by rw [if_pos (by omega)]; exact fun q => q.elim this.1 this.2), pl1]; exact z1
            · show (g_L g4)[p]? = _
              rw [L4, L3, L2, List.getElem?_append_left (List.getElem?_eq_some_iff.mp z2).1]; exact z2
        · show ¬ 12 ∈ g_L g4
          rw [L4, L3, L2]; exact no12 (t := 1) p7.2 (by decide)
        · have y : (if v = (nA nt (nA nt q)).toNatClampNeg then true else s1.2.1 v) = true := y
          by_cases z : v = (nA nt (nA nt q)).toNatClampNeg
          · rw [z]; exact Or.inr ⟨hT1 _ (Ta _ v3), fun x => v4 (Tk _ x)⟩
          · rw [if_neg z] at y; exact Or.inl (hI1 v y)
        · show (if v = (nA nt (nA nt q)).toNatClampNeg then true else s1.2.1 v) = true
          split
          · rfl
          · exact hI2 v y1 y2
    obtain ⟨s2, es2, m3, ls3, nl3, nx3, fm3, I1, I2⟩ := STEP
    rw [← es2] at k6
    have O3 := O2.ls ls3
    have nl2 : g_nl g0 ≤ g_nl g2 := Nat.le_trans hnl ls2.2.1
    generalize (bif decide (nK nt (nA nt q) = 78) then s_pl (nA nt (nA nt q)).toNatClampNeg (g_nx g2) (w_ts 1 [1] (w_pe 15 72 0 1 [1] g2)) else w_em (7, 87, 0, 0, []) 1 [] g2) = g3 at *
    have nl33 : g_nl g0 ≤ g_nl g3 := Nat.le_trans nl2 ls3.2.1
    obtain ⟨m4, nx4, v4, v4', ls4, pl4⟩ := m3.aln (s := s2) IH w no (fun _ => ⟨nl3, fm3⟩) ws (b.sb (fun x y => hT1 x (Ta x (k4 x (Tk x y)))) k6 k7 I1 I2 (by omega)) B1 Bo (oDn_sub (fun x y => hT1 x (Ta x (k4 x (Tk x y))))) nl33
    have O4 := O3.ls ls4
    generalize w_aln rec (nB nt k) g3 = g4 at *
    have m5 := m4.nx (v := g_nx g) (by rw [H3]; exact Nat.le_of_eq p6.2)
    have O5 : oOw (g_L g0) [] e (s_nx (g_nx g) g4) := O4
    have ls5 : oLs (g_nl g4) g4 (s_nx (g_nx g) g4) := oLs.rf _ g4
    have nx5 : g_nx (s_nx (g_nx g) g4) = g_nx g0 := H3
    generalize s_nx (g_nx g) g4 = g5 at *
    obtain ⟨m6, ls6⟩ := m5.go (l := e) w no (by decide) O5.pd (fun y => (m5.live ((w_q_iff _).mp y).1).1)
    have O6 := O5.ls ls6
    obtain ⟨f1, f2, f3, f4, f5, f6, f7, f8, f9, f10, f11⟩ := oGo_f e g5
    have ITE : ∃ x, g_it (w_go e g5) = x ++ g_it g := by
      obtain ⟨x1, z1⟩ := ls2.1
      obtain ⟨x2, z2⟩ := ls3.1
      obtain ⟨x3, z3⟩ := ls4.1
      obtain ⟨x4, z4⟩ := ls5.1
      obtain ⟨x5, z5⟩ := ls6.1
      exact ⟨x5 ++ (x4 ++ (x3 ++ (x2 ++ x1))), by rw [z5, z4, z3, z2, z1]; simp [List.append_assoc]⟩
    have H6 : oHp nt N M res par ret E gh (g_nl g0) (g_nl g0 + c) (oDn T i gh) (g_L g0) e (g_nx g0) g1 (w_go e g5) := ⟨m6, O6, f4.trans nx5, fun y => by
      cases z : g_al (w_go e g5)
      · rfl
      · rw [f1, (f11 z).1] at y; exact absurd y (by decide), by
      have := ls2.mx; have := ls3.mx; have := ls4.mx; have := ls5.mx; have := ls6.mx; omega⟩
    have nl6 : g_nl g0 ≤ g_nl (w_go e g5) := by
      have := ls4.2.1; have := ls5.2.1; have := ls6.2.1; omega
    have cov6 := oCov.it hcov ITE
    generalize w_go e g5 = g6 at *
    -- the others
    cases l with
    | nil =>
      unfold w_ctc; exact H6
    | cons q1 l =>
      have eb : nB nt q = q1 := e5.1
      have nb : ¬ nB nt q = -1 := nd_n1 (by rw [eb]; exact e5.2.1)
      obtain ⟨n1, n2, n3⟩ := nx.resolve_left nb
      have pb := sp_pb_k e3 (a := nB nt q) (by decide) nb
      have Tb := hTr.b h40 e2 pb
      have Tlb := hTr.lb h40 e2 pb
      rw [if_neg nb] at c3
      have gr := oS_gr hT hTr f (nA nt q) a1 a2 (by rcases a3 with z | z <;> rw [z] <;> unfold oSK <;> simp) s1
      -- what the handler leaves in force
      have eff := oHand1 hT hTr f (nA nt q) a1 a2 a3 s1
      exact ih f (nB nt q) g6 _ e5 (by simp) n2 (fun x y => hT1 x (Tb x y)) (by omega) c3 (lf2.2.resolve_left nb) (fun v y => hI1 v (eff v y)) (fun v y1 y2 => gr.2.2.2.2 v (fun x => y2 (hT1 v (Ta v x))) (hI2 v y1 y2)) H6 cov6 nl6
end
