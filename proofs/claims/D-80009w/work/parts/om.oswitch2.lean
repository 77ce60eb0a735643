/-! switches, all well -/
section
variable {nt : sp_NT} {N M : Nat} {res par : Nat → Int32} {ret : Nat} {E : wF} {T : Nat → List Nat} {rs : Int32} {n m z : Nat} {D : Nat → Prop} {g g0 g1 h k : wG} {gh eh gv gt : List oGh} {cx cv ct : List wC} {L0 s0 : List Nat} {rec : wT} {K f B hh : Nat} {i : Int32} {s : sp_SS}
theorem oM.pl' (w : oW N n D gh L0) (a : oM nt N M res par ret E gh n m z D L0 hh [] s0 g1 g) {v p : Nat} (hD : D (if v < 4000 then v else v - 4000)) : oM nt N M res par ret E gh n m z D L0 hh [] s0 g1 (s_pl v p g) ∧ oLs (g_nl g) g (s_pl v p g) := by
  obtain ⟨hc, ch, ct, e1, e2, j, c⟩ := a
  have hm : m ≤ g_nl g := Nat.le_trans j.2.1.2.1.1 j.2.1.2.1.2.1
  have ls : oLs (g_nl g) g (s_pl v p g) := oLs.rf _ g
  have lsn : oLs n g (s_pl v p g) := oLs.rf _ g
  have pl : oPl D g (s_pl v p g) := fun j q => by
    show (if j = v then some p else g_pl g j) = g_pl g j
    refine if_neg (fun e => q ?_)
    rw [e]; exact hD
  obtain ⟨y1, y2, y3, y4, y5, y6⟩ := j.1
  refine ⟨⟨hc, ch, ct, e1, e2, j.tr0 (z1 := 0) ⟨⟨y1, y2.le lsn w.1 (fun e _ => oNw.rf rfl) pl w.2.1 (by have := w.2.2.1; omega), y3, y4, y5, y6⟩, lsn, oPz.rf (g := g) hm, pl⟩ j.2.2.1 j.2.2.2, ?_⟩, ls⟩
  rw [c.nil0]; trivial
/-- the cases' labels are kept beside -/
theorem oM.csp (w : oW N n D gh L0) : ∀ (cs : List (Int32 × Nat)) (g : wG), oM nt N M res par ret E gh n m z D L0 hh [] s0 g1 g → (∀ q, q ∈ cs → D q.1.toNatClampNeg) → (cs.map (fun q => q.1.toNatClampNeg)).Nodup →
    oM nt N M res par ret E gh n m z D L0 hh [] s0 g1 (w_csp cs g) ∧ oLs (g_nl g) g (w_csp cs g) ∧ (∀ q, q ∈ cs → g_pl (w_csp cs g) (4000 + q.1.toNatClampNeg) = some q.2) ∧ (∀ v, v < 4000 → g_pl (w_csp cs g) v = g_pl g v) ∧ (∀ v, (∀ q, q ∈ cs → v ≠ 4000 + q.1.toNatClampNeg) → g_pl (w_csp cs g) v = g_pl g v) ∧ w_q (w_csp cs g) = w_q g ∧ g_L (w_csp cs g) = g_L g ∧ g_nx (w_csp cs g) = g_nx g ∧ g_nl (w_csp cs g) = g_nl g := by
  intro cs
  induction cs with
  | nil => intro g a _ _; exact ⟨a, oLs.rf _ _, (fun q hq => by cases hq), fun _ _ => rfl, fun _ _ => rfl, rfl, rfl, rfl, rfl⟩
  | cons q r ih =>
    intro g a hD hn
    obtain ⟨hn1, hn2⟩ := List.nodup_cons.mp hn
    obtain ⟨m1, ls1⟩ := a.pl' w (v := 4000 + q.1.toNatClampNeg) (p := q.2) (by rw [if_neg (by omega), Nat.add_sub_cancel_left]; exact hD q (List.mem_cons_self ..))
    obtain ⟨m2, ls2, p1, p2, p2', p3, p4, p5, p6⟩ := ih _ m1 (fun x hx => hD x (List.mem_cons_of_mem _ hx)) hn2
    refine ⟨m2, ls1.tr (ls2.low ls1.2.1), fun x hx => ?_, fun v hv => ?_, fun v hv => ?_, p3, p4, p5, p6⟩
    · rcases List.mem_cons.mp hx with y | y
      · have : g_pl (w_csp r (s_pl (4000 + q.1.toNatClampNeg) q.2 g)) (4000 + q.1.toNatClampNeg) = some q.2 := by
          rw [p2' _ (fun x hx e => hn1 (by rw [List.mem_map]; exact ⟨x, hx, (by show x.1.toNatClampNeg = q.1.toNatClampNeg; omega)⟩))]
          exact if_pos rfl
        rw [y]; exact this
      · exact p1 x y
    · show g_pl (w_csp r _) v = _
      rw [p2 v hv]; exact if_neg (by omega)
    · show g_pl (w_csp r _) v = _
      rw [p2' v (fun x hx => hv x (List.mem_cons_of_mem _ hx))]; exact if_neg (hv q (List.mem_cons_self ..))
/-- the cases' nodes are of the chain's tree, and distinct -/
theorem oCh_mem (hT : wTb nt N M res par) (hTr : oTr nt N T) : ∀ (l : List Int32) (p : Int32), sp_Ch nt N 82 l p → (∀ x, x ∈ l → (nA nt x).toNatClampNeg ∈ oT T p) ∧ (l.map (fun x => (nA nt x).toNatClampNeg)).Nodup := by
  intro l
  induction l with
  | nil => intro p _; exact ⟨fun x hx => (by cases hx), List.nodup_nil⟩
  | cons q l ih =>
    intro p h
    obtain ⟨e1, e2, e3, e4, e5⟩ := h
    subst e1
    have h40 := hT.2.2
    have pa := sp_pa_k e3 (a := nA nt p) (by decide) (nd_n1 e4)
    have Ta := hTr.a h40 e2 pa
    have self := hTr.self h40 e4
    obtain ⟨i1, i2⟩ := ih _ e5
    refine ⟨fun x hx => ?_, List.nodup_cons.mpr ⟨fun hm => ?_, i2⟩⟩
    · rcases List.mem_cons.mp hx with y | y
      · rw [y]; exact Ta _ self
      · cases l with
        | nil => cases y
        | cons q1 l1 =>
          have eb : nB nt p = q1 := e5.1
          have pb := sp_pb_k e3 (a := nB nt p) (by decide) (nd_n1 (by rw [eb]; exact e5.2.1))
          exact hTr.b h40 e2 pb _ (i1 x y)
    · obtain ⟨x, hx, ex⟩ := List.mem_map.mp hm
      cases l with
      | nil => cases hx
      | cons q1 l1 =>
        have eb : nB nt p = q1 := e5.1
        have pb := sp_pb_k e3 (a := nB nt p) (by decide) (nd_n1 (by rw [eb]; exact e5.2.1))
        have := i1 x hx
        rw [ex] at this
        exact hTr.dj h40 e2 pa pb _ self this
/-- cases leave nothing in force -/
theorem oCas1 (hT : wTb nt N M res par) (hTr : oTr nt N T) (f : Nat) (h : Int32) (a1 : sp_nd N h = true) (a2 : nD nt h ≤ f) (a3 : nK nt h = 83 ∨ nK nt h = 84) (s1 : sp_SS) : ∀ v, (sp_sc nt f h s1).2.2.1 v = true → s1.2.1 v = true := by
  cases f with
  | zero => have := (hT.d a1).1; omega
  | succ f =>
  have z3 : wA nt N f (nB nt h) := by rcases a3 with z | z; exact wE_case hT a1 a2 z; exact wE_dflt hT a1 a2 z
  intro v y
  have e : sp_sc nt (f + 1) h s1 = sp_al s1.1 (sp_sc nt f (nB nt h) s1) := by rcases a3 with z | z; exact oc83 z s1; exact oc84 z s1
  rw [e] at y
  exact ((oS_gr hT hTr f (nB nt h) z3.1 z3.2.2 (Or.inl z3.2.1) s1).al (r := sp_sc nt f (nB nt h) s1)).2 v y
theorem oCases_eff (hT : wTb nt N M res par) (hTr : oTr nt N T) : ∀ (f : Nat) (q : Int32), sp_nd N q = true → nD nt q ≤ f → nK nt q = 82 → ∀ (s1 : sp_SS) (v : Nat), (sp_sc nt f q s1).2.2.1 v = true → s1.2.1 v = true := by
  intro f
  induction f with
  | zero => intro q h1 h2; have := (hT.d h1).1; omega
  | succ f ih =>
    intro q h1 h2 h3 s1 v y
    obtain ⟨⟨a1, a2, a3⟩, nx⟩ := wE_cases hT h1 h2 h3
    rw [oc82 h3] at y
    have eff := oCas1 hT hTr f (nA nt q) a1 a2 a3 s1
    unfold sp_th at y
    cases z : (sp_sc nt f (nA nt q) s1).1
    · rw [z] at y; exact eff v y
    · rw [z] at y
      simp only [cond_true] at y
      rcases nx with n | ⟨n1, n2, n3⟩
      · rw [if_pos n] at y; exact eff v y
      · rw [if_neg (nd_n1 n1)] at y
        exact eff v (ih _ n1 n2 n3 _ v y)
/-- a point between cases -/
def oKp2 (nt : sp_NT) (N M : Nat) (res par : Nat → Int32) (ret : Nat) (E : wF) (gh : List oGh) (n m : Nat) (D : Nat → Prop) (L0 : List Nat) (e nx : Nat) (hd : oGh) (g1 g : wG) : Prop :=
  oM nt N M res par ret E gh n m 0 D L0 0 [hd] [] g1 g ∧ oOw L0 [] e g ∧ g_nx g = nx ∧ (w_q g = false → g_L g = L0)
theorem oCses (IH : oSc nt N M res par ret E T rs rec K) {f0 : Nat} (b : oBg nt N M res par ret E T rs K f0 i g0 s gh B) {gv g1 : wG} {m : Nat} (w : oW N (g_nl gv) (oDn T i gh) gh (g_L g0)) {Bb : Nat} (B1 : oB Bb g1) (Bo : Bb + 70 * K + 170 ≤ 20000)
    (plx : ∀ v, v < N → s.2.1 v = true → g_pl g1 v = g_pl g0 v) :
    ∀ (l : List Int32) (f : Nat) (q : Int32) (lb : Nat) (g : wG) (s1 : sp_SS), sp_Ch nt N 82 l q → l ≠ [] → nD nt q ≤ f → (∀ x, x ∈ oT T q → x ∈ oT T i) → (oT T q).length + 1 ≤ (oT T i).length → (sp_sc nt f q s1).1 = true → sp_lf nt rs f q (oLo gh) (oWa gh + 1) = true
      → (∀ v, s1.2.1 v = true → s.2.1 v = true) → (∀ v, s.2.1 v = true → ¬ v ∈ oT T i → s1.2.1 v = true)
      → oKp2 nt N M res par ret E gh (g_nl gv) m (oDn T i gh) (g_L g0) (g_nl gv) (g_nx g0) (oHd 1 0 (g_nl gv) 0 (g_L g0) s.2.1) g1 g → g_nl gv < lb → (∀ j, j < l.length → oOw (g_L g0) [] (lb + j) g) → (∀ p, p ∈ w_csl nt lb l → g_pl g (4000 + p.1.toNatClampNeg) = some p.2)
      → oKp2 nt N M res par ret E gh (g_nl gv) m (oDn T i gh) (g_L g0) (g_nl gv) (g_nx g0) (oHd 1 0 (g_nl gv) 0 (g_L g0) s.2.1) g1 (w_cses nt rec (w_csl nt lb l) g) ∧ ∀ k, k < g_nl g → g_goes g k = true → g_goes (w_cses nt rec (w_csl nt lb l) g) k = true := by
  intro l
  induction l with
  | nil => intro f q lb g s1 _ h; exact absurd rfl h
  | cons q0 l ih =>
    intro f q lb g s1 hch _ hd hT1 hT2 hsc hlf hI1 hI2 H hlb hown hpl
    have b' := b
    obtain ⟨⟨p1, p2, p3, p4, p5, p6, p7, p8, p9, p10, p11, p12, p13, p14⟩, b2, hN, hT, hTr, hA⟩ := b'
    obtain ⟨e1, e2, e3, e4, e5⟩ := hch
    subst e1
    have h40 := hT.2.2
    obtain ⟨H1, H2, H3, H4⟩ := H
    cases f with
    | zero => have := (hT.d e2).1; omega
    | succ f =>
    obtain ⟨⟨a1, a2, a3⟩, nx⟩ := wE_cases hT e2 hd e3
    have pa := sp_pa_k e3 (a := nA nt q) (by decide) (nd_n1 a1)
    have Ta := hTr.a h40 e2 pa
    have Tl := hTr.la h40 e2 pa
    rw [oc82 e3] at hsc
    obtain ⟨c1, c2, c3⟩ := sp_th_t hsc
    rw [ol82 e3] at hlf
    have lf2 : sp_lf nt rs f (nA nt q) (oLo gh) (oWa gh + 1) = true ∧ (nB nt q = -1 ∨ sp_lf nt rs f (nB nt q) (oLo gh) (oWa gh + 1) = true) := by simpa using hlf
    have eff := oCas1 hT hTr f (nA nt q) a1 a2 a3 s1
    have gr := oS_gr hT hTr f (nA nt q) a1 a2 (by rcases a3 with z | z <;> rw [z] <;> unfold oSK <;> simp) s1
    have we : ∀ d, d ∈ [oHd 1 0 (g_nl gv) 0 (g_L g0) s.2.1] → h_L d <+: g_L g0 := fun d hd => by rw [List.mem_singleton.mp hd]; exact List.prefix_refl _
    -- the case's statement
    cases f with
    | zero => have := (hT.d a1).1; omega
    | succ f =>
    have ws : wA nt N f (nB nt (nA nt q)) := by rcases a3 with z | z; exact wE_case hT a1 a2 z; exact wE_dflt hT a1 a2 z
    have d1 : (sp_sc nt f (nB nt (nA nt q)) s1).1 = true := by
      have e : sp_sc nt (f + 1) (nA nt q) s1 = sp_al s1.1 (sp_sc nt f (nB nt (nA nt q)) s1) := by rcases a3 with z | z; exact oc83 z s1; exact oc84 z s1
      rw [e, sp_al_1] at c1; exact c1
    have d2 : sp_lf nt rs f (nB nt (nA nt q)) (oLo gh) (oWa gh + 1) = true := by
      have l1 := lf2.1
      rcases a3 with z | z
      · rw [ol83 z] at l1; exact l1
      · rw [ol84 z] at l1; exact l1
    have pk := sp_pb_of (k := nK nt (nA nt q)) (a := nB nt (nA nt q)) (by rcases a3 with z | z <;> rw [z] <;> decide) (nd_n1 ws.1)
    have Tk := hTr.b h40 a1 pk
    have Tkl := hTr.lb h40 a1 pk
    show oKp2 nt N M res par ret E gh (g_nl gv) m (oDn T i gh) (g_L g0) (g_nl gv) (g_nx g0) (oHd 1 0 (g_nl gv) 0 (g_L g0) s.2.1) g1 (w_cses nt rec (w_csl nt (lb + 1) l) (w_aln rec (nB nt (nA nt q)) (w_put lb (s_ok (g_pl g (4000 + (nA nt q).toNatClampNeg) = some lb) g)))) ∧ ∀ k, k < g_nl g → g_goes g k = true → g_goes (w_cses nt rec (w_csl nt (lb + 1) l) (w_aln rec (nB nt (nA nt q)) (w_put lb (s_ok (g_pl g (4000 + (nA nt q).toNatClampNeg) = some lb) g)))) k = true
    have m2 := H1.okk (P := g_pl g (4000 + (nA nt q).toNatClampNeg) = some lb) (hpl (nA nt q, lb) (List.mem_cons_self ..))
    have E2 : oOw (g_L g0) [] (g_nl gv) (s_ok (g_pl g (4000 + (nA nt q).toNatClampNeg) = some lb) g) := H2
    have own2 : ∀ j, j < (q :: l).length → oOw (g_L g0) [] (lb + j) (s_ok (g_pl g (4000 + (nA nt q).toNatClampNeg) = some lb) g) := hown
    have pl2 : g_pl (s_ok (g_pl g (4000 + (nA nt q).toNatClampNeg) = some lb) g) = g_pl g := rfl
    have nx2 : g_nx (s_ok (g_pl g (4000 + (nA nt q).toNatClampNeg) = some lb) g) = g_nx g := rfl
    have go2 : g_goes (s_ok (g_pl g (4000 + (nA nt q).toNatClampNeg) = some lb) g) = g_goes g := rfl
    have nl2 : g_nl (s_ok (g_pl g (4000 + (nA nt q).toNatClampNeg) = some lb) g) = g_nl g := rfl
    generalize s_ok (g_pl g (4000 + (nA nt q).toNatClampNeg) = some lb) g = g2 at *
    obtain ⟨m3, L3, K3, -⟩ := m2.put (l := lb) w (by omega) (own2 0 (Nat.zero_lt_succ _)) (List.prefix_refl _) (fun y => m2.live y) (fun d hd => by
      rw [List.mem_singleton.mp hd]
      exact ⟨fun _ => show g_nl gv ≠ lb by omega, fun y => absurd (show (1 : Nat) = 0 from y) (by decide)⟩)
    obtain ⟨f1, f2, f3, f4, f5, f6, f7, f8, f9, f10, f11, f12⟩ := oPut_f lb g2
    have E3 := E2.put (k := lb) (by omega)
    have own3 : ∀ j, j < l.length → oOw (g_L g0) [] (lb + 1 + j) (w_put lb g2) := fun j hj => by
      have := (own2 (j + 1) (by simp only [List.length_cons]; omega)).put (k := lb) (by omega)
      rw [show lb + 1 + j = lb + (j + 1) by omega]; exact this
    have pl3 : g_pl (w_put lb g2) = g_pl g := f4.trans pl2
    have nx3 : g_nx (w_put lb g2) = g_nx g0 := by rw [f5, nx2, H3]
    have go3 : g_goes (w_put lb g2) = g_goes g := f9.trans go2
    have nl3 : g_nl (w_put lb g2) = g_nl g := f7.trans nl2
    generalize w_put lb g2 = g3 at *
    have gv3 : g_nl gv ≤ g_nl g3 := Nat.le_of_lt E3.1
    have fm3 : w_q g3 = false → oFm nt N s1.2.1 g3 := fun y => by
      refine (p7.cg (h := g3) (L3 ((w_q_iff _).mp y).1) (fun v hv hi => ?_)).mono hI1
      have := p10 v hv hi
      rw [m3.zz.2.2 v (by rw [if_pos (by omega)]; exact fun q => q.elim this.1 this.2)]; exact plx v hv hi
    obtain ⟨m4, nx4, v4, v4', ls4, pl4⟩ := m3.aln (s := s1) IH w we (fun y => ⟨by rw [L3 ((w_q_iff _).mp y).1, nx3]; exact p6.2, fm3 y⟩) ws (b.sbh (e := oHd 1 0 (g_nl gv) 0 (g_L g0) s.2.1) (show (1 : Nat) ≤ 2 by decide) rfl (List.prefix_refl _) (fun x y => hT1 x (Ta x (Tk x y))) d1 (by
      show sp_lf nt rs f (nB nt (nA nt q)) (0 + oLo gh) (1 + oWa gh) = true
      rw [Nat.zero_add, Nat.add_comm 1]; exact d2) (fun v y => Or.inl (hI1 v y)) hI2 (by omega)) B1 Bo (fun x y => oDn_sub (fun x y => hT1 x (Ta x (Tk x y))) x (y.hd (show (1 : Nat) ≠ 3 by decide))) gv3
    have E4 := E3.ls ls4
    have own4 : ∀ j, j < l.length → oOw (g_L g0) [] (lb + 1 + j) (w_aln rec (nB nt (nA nt q)) g3) := fun j hj => (own3 j hj).ls ls4
    have L4 : w_q (w_aln rec (nB nt (nA nt q)) g3) = false → g_L (w_aln rec (nB nt (nA nt q)) g3) = g_L g0 := fun y => (v4 y).2.trans (L3 ((w_q_iff _).mp (v4 y).1).1)
    have go4 : ∀ k, k < g_nl g → g_goes g k = true → g_goes (w_aln rec (nB nt (nA nt q)) g3) k = true := fun k hk y => (ls4.2.2.1 k (by rw [nl3]; exact hk)).2.1 (by rw [go3]; exact y)
    have nl4 : g_nl g ≤ g_nl (w_aln rec (nB nt (nA nt q)) g3) := by rw [← nl3]; exact ls4.2.1
    generalize w_aln rec (nB nt (nA nt q)) g3 = g4 at *
    have H5 : oKp2 nt N M res par ret E gh (g_nl gv) m (oDn T i gh) (g_L g0) (g_nl gv) (g_nx g0) (oHd 1 0 (g_nl gv) 0 (g_L g0) s.2.1) g1 g4 := ⟨m4, E4, nx4.trans nx3, L4⟩
    cases l with
    | nil => exact ⟨H5, go4⟩
    | cons q1 l =>
      have eb : nB nt q = q1 := e5.1
      have nb : ¬ nB nt q = -1 := nd_n1 (by rw [eb]; exact e5.2.1)
      obtain ⟨n1, n2, n3⟩ := nx.resolve_left nb
      have pb := sp_pb_k e3 (a := nB nt q) (by decide) nb
      have Tb := hTr.b h40 e2 pb
      have Tlb := hTr.lb h40 e2 pb
      rw [if_neg nb] at c3
      have later := (oCh_mem hT hTr (q1 :: l) (nB nt q) e5).1
      have pl5 : ∀ p, p ∈ w_csl nt (lb + 1) (q1 :: l) → g_pl g4 (4000 + p.1.toNatClampNeg) = some p.2 := fun p hp => by
        have hin : p.1.toNatClampNeg ∈ oT T (nB nt q) := by
          have hm : p.1 ∈ (w_csl nt (lb + 1) (q1 :: l)).map (fun q => q.1) := List.mem_map.mpr ⟨p, hp, rfl⟩
          rw [(w_csl_s nt (q1 :: l) (lb + 1)).1] at hm
          obtain ⟨x, x1, x2⟩ := List.mem_map.mp hm
          rw [← x2]; exact later x x1
        rw [pl4 _ (by
          rw [if_neg (by omega), Nat.add_sub_cancel_left]
          intro y
          rcases y with y | y
          · exact hTr.dj h40 e2 pa pb _ (Tk _ y) hin
          · exact p11 _ (hT1 _ (Tb _ hin)) ((oIsE.hd (show (1 : Nat) ≠ 3 by decide)).mp y)), pl3]
        exact hpl p (List.mem_cons_of_mem _ hp)
      obtain ⟨r1, r2⟩ := ih (f + 1) (nB nt q) (lb + 1) g4 _ e5 (by simp) n2 (fun x y => hT1 x (Tb x y)) (by omega) c3 (lf2.2.resolve_left nb) (fun v y => hI1 v (eff v y)) (fun v y1 y2 => gr.2.2.2.2 v (fun x => y2 (hT1 v (Ta v x))) (hI2 v y1 y2)) H5 (by omega) own4 pl5
      exact ⟨r1, fun k hk y => r2 k (by omega) (go4 k hk y)⟩
end
