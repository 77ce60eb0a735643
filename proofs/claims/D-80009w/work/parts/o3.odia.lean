/-! values: one way or the other, all well -/
def oUse (nt : sp_NT) : Nat → Int32 → Int32 → Prop
  | 0, _, _ => False
  | f + 1, n, v => ((nK nt n = 6 ∨ nK nt n = 7) ∧ v = nA nt n) ∨ (sp_pa (nK nt n) (nA nt n) = true ∧ oUse nt f (nA nt n) v) ∨ (sp_pb (nK nt n) (nB nt n) = true ∧ oUse nt f (nB nt n) v)
/-- all variables of an expression have places -/
def oVs (nt : sp_NT) (c : Int32) (g : wG) : Prop := ∀ v f, oUse nt f c v → ∃ p, g_pl g v.toNatClampNeg = some p ∧ (g_L g)[p]? = some (nT nt v)
theorem oVs.a {nt : sp_NT} {c : Int32} {g : wG} (h : oVs nt c g) (hk : sp_pa (nK nt c) (nA nt c) = true) : oVs nt (nA nt c) g := fun v f q => h v (f + 1) (Or.inr (Or.inl ⟨hk, q⟩))
theorem oVs.b {nt : sp_NT} {c : Int32} {g : wG} (h : oVs nt c g) (hk : sp_pb (nK nt c) (nB nt c) = true) : oVs nt (nB nt c) g := fun v f q => h v (f + 1) (Or.inr (Or.inr ⟨hk, q⟩))
theorem oVs.v {nt : sp_NT} {c : Int32} {g : wG} (h : oVs nt c g) (hk : nK nt c = 6 ∨ nK nt c = 7) : ∃ p, g_pl g (nA nt c).toNatClampNeg = some p ∧ (g_L g)[p]? = some (nT nt (nA nt c)) := h _ 1 (Or.inl ⟨hk, rfl⟩)
theorem oVs.cg {nt : sp_NT} {c : Int32} {g h : wG} (a : oVs nt c g) (e1 : g_L h = g_L g) (e2 : g_pl h = g_pl g) : oVs nt c h := fun v f q => by rw [e1, e2]; exact a v f q
/-- room for labels -/
def oRb (B : Nat) (g : wG) : Prop := oB B g ∧ B ≤ 20010 ∧ g_fm g ≤ 3000
def oRm (f B : Nat) (g : wG) : Prop := oRb B g ∧ B + 4 * f ≤ 20000 ∧ f ≤ 40
theorem oRb.tr {f B : Nat} {nt : sp_NT} {N M : Nat} {res par : Nat → Int32} {ret : Nat} {E : wF} {g h : wG} (a : oRb B g) (b : oQ nt N M res par ret E f g h) (hf : f ≤ 40) (e : g_ac h = g_ac g) : oRb B h := by
  obtain ⟨a1, a2, a3⟩ := a
  exact ⟨a1.tr b.1.2.2.1 (by rw [e]; exact a1.2.2), a2, by have := b.1.2.2.2.2; omega⟩
theorem oRm.tr {f B : Nat} {nt : sp_NT} {N M : Nat} {res par : Nat → Int32} {ret : Nat} {E : wF} {g h : wG} (a : oRm f B g) (b : oQ nt N M res par ret E f g h) (e : g_ac h = g_ac g) : oRm f B h := ⟨a.1.tr b a.2.2 e, a.2⟩
theorem oRb.lb {B : Nat} {g : wG} {F : wF} (a : oRb B g) (hB : B + 1 ≤ 20010) : oRb (B + 1) (w_lb F g) := by
  obtain ⟨⟨b1, b2, b3⟩, a2, a3⟩ := a
  refine ⟨⟨?_, ?_, b3⟩, hB, by show g_fm g - 1 ≤ 3000; omega⟩
  · show 3 * (g_us g + 1) ≤ g_by g + 3 * (B + 1); omega
  · show (if g_fm g = 0 then g_n1 g + 1 else g_n1 g) ≤ (g_fm g - 1) + g_by g + 3 * g_ac g + (B + 1)
    split <;> omega
section
variable {nt : sp_NT} {N M : Nat} {res par : Nat → Int32} {ret : Nat} {E : wF} {f n : Nat} {s r : List Nat} {g h : wG} {rec : wR}
/-- the recursive calls -/
def oSh (nt : sp_NT) (N M : Nat) (res par : Nat → Int32) (ret : Nat) (E : wF) (rec : wR) (f : Nat) (c : Int32) : Prop := ∀ g B, w_q g = false → oI nt N M res par ret E g → oVs nt c g → oRm f B g → (g_st g).length + 84 * f ≤ 3361 →
  oQ nt N M res par ret E f g (rec c 0 0 g) ∧ oQ nt N M res par ret E f g (rec c 1 0 g) ∧ (nT nt c = 1 → ∀ l, oU g l (g_L g, g_st g) → oQ nt N M res par ret E f g (rec c 2 l g) ∧ oQ nt N M res par ret E f g (rec c 3 l g))
/-- what stands for g stands for h -/
theorem oP.rm {B : Nat} (a : oP nt N M res par ret E f n s g h) (R : oRm f B g) : oRm f B h := R.tr a.2 a.1.1.1.2.2.2.1
theorem oP.vs {c : Int32} (a : oP nt N M res par ret E f n s g h) (v : oVs nt c g) : oVs nt c h := v.cg a.1.2.2.1 a.1.1.1.2.2.2.2.2.2
theorem oP.rc {B : Nat} {c : Int32} (a : oP nt N M res par ret E f n s g h) (hn : n ≤ g_nl g) (R : wSh nt rec c) (O : oSh nt N M res par ret E rec f c) (v : oVs nt c g) (m : oRm f B g) (hs : s.length + 84 * f ≤ 3361) : oP nt N M res par ret E f n (w_tl (nT nt c) ++ s) g (rec c 0 0 h) :=
  ⟨a.1.rc hn R, a.2.tr (O h B a.1.2.1 a.2.1.1 (a.vs v) (a.rm m) (by rw [a.1.2.2.2]; exact hs)).1⟩
/-- one way or the other -/
theorem oQ_dia {B : Nat} {ty : List Nat} {X1 X2 : wG → wG} {g2 : wG} (hq : w_q g = false) (a : oI nt N M res par ret E g) (m : oRb B g) (hB : B + 2 ≤ 20010) (hf : f ≤ 40) (hs : (g_st g).length + 2 ≤ 3366) (hty : ty.length ≤ 2)
    (hc : wCd (g_nl g + 2) (g_nl g) (w_lb (g_L g, ty ++ g_st g) (w_lb (g_L g, g_st g) g)) g2) (oc : oI nt N M res par ret E (w_lb (g_L g, ty ++ g_st g) (w_lb (g_L g, g_st g) g)) → oQ nt N M res par ret E f (w_lb (g_L g, ty ++ g_st g) (w_lb (g_L g, g_st g) g)) g2)
    (q1 : ∀ k, w_q k = true → X1 k = k) (p1 : ∀ k, w_q k = false → g_nl g + 2 ≤ g_nl k → wP (g_nl g + 2) (ty ++ g_st k) k (X1 k))
    (q2 : ∀ k, w_q k = true → X2 k = k) (p2 : ∀ k, w_q k = false → g_nl g + 2 ≤ g_nl k → wP (g_nl g + 2) (ty ++ g_st k) k (X2 k))
    (o1 : ∀ k, w_q k = false → g_L k = g_L g → g_st k = g_st g → g_pl k = g_pl g → oI nt N M res par ret E k → oRb (B + 2) k → oQ nt N M res par ret E f k (X1 k))
    (o2 : ∀ k, w_q k = false → g_L k = g_L g → g_st k = g_st g → g_pl k = g_pl g → oI nt N M res par ret E k → oRb (B + 2) k → oQ nt N M res par ret E f k (X2 k)) :
    oQ nt N M res par ret E f g (w_sl false (g_nl g + 1) (w_put (g_nl g + 1) (X2 (w_sl false (g_nl g) (w_put (g_nl g) (w_go (g_nl g + 1) (X1 g2))))))) := by
  obtain ⟨hal, hov⟩ := (w_q_iff g).mp hq
  -- the labels
  have i0 : oI nt N M res par ret E (w_lb (g_L g, g_st g) g) := a.lb (by show (g_st g).length < 3370; omega) m.1 m.2.1 m.2.2
  have m0 : oRb (B + 1) (w_lb (g_L g, g_st g) g) := m.lb (by omega)
  have i1 : oI nt N M res par ret E (w_lb (g_L g, ty ++ g_st g) (w_lb (g_L g, g_st g) g)) := i0.lb (by show (ty ++ g_st g).length < 3370; rw [List.length_append]; omega) m0.1 m0.2.1 m0.2.2
  have m1 : oRb (B + 2) (w_lb (g_L g, ty ++ g_st g) (w_lb (g_L g, g_st g) g)) := m0.lb hB
  have le1 : oLe g (w_lb (g_L g, ty ++ g_st g) (w_lb (g_L g, g_st g) g)) := oLe_lb.tr oLe_lb
  obtain ⟨l, hl⟩ : ∃ l, l = g_nl g := ⟨_, rfl⟩
  have n1 : g_nl (w_lb (g_L g, ty ++ g_st g) (w_lb (g_L g, g_st g) g)) = l + 2 := by rw [hl]; rfl
  have ac1 : g_ac (w_lb (g_L g, ty ++ g_st g) (w_lb (g_L g, g_st g) g)) = g_ac g := rfl
  have it1 : g_it (w_lb (g_L g, ty ++ g_st g) (w_lb (g_L g, g_st g) g)) = g_it g := rfl
  have by1 : g_by (w_lb (g_L g, ty ++ g_st g) (w_lb (g_L g, g_st g) g)) = g_by g := rfl
  have us1 : g_us (w_lb (g_L g, ty ++ g_st g) (w_lb (g_L g, g_st g) g)) = g_us g + 2 := rfl
  have un1 : g_n1 (w_lb (g_L g, ty ++ g_st g) (w_lb (g_L g, g_st g) g)) + g_fm g = g_n1 g + g_fm (w_lb (g_L g, ty ++ g_st g) (w_lb (g_L g, g_st g) g)) + 2 ∧ g_fm (w_lb (g_L g, ty ++ g_st g) (w_lb (g_L g, g_st g) g)) ≤ g_fm g := by
    show (if (g_fm g - 1) = 0 then (if g_fm g = 0 then g_n1 g + 1 else g_n1 g) + 1 else (if g_fm g = 0 then g_n1 g + 1 else g_n1 g)) + g_fm g = g_n1 g + (g_fm g - 1 - 1) + 2 ∧ g_fm g - 1 - 1 ≤ g_fm g
    split <;> split <;> omega
  have lF0 : g_lF (w_lb (g_L g, ty ++ g_st g) (w_lb (g_L g, g_st g) g)) l = (g_L g, g_st g) := by
    show (if l = g_nl g + 1 then _ else if l = g_nl g then (g_L g, g_st g) else _) = _
    rw [if_neg (by omega), if_pos hl]
  have lF1 : g_lF (w_lb (g_L g, ty ++ g_st g) (w_lb (g_L g, g_st g) g)) (l + 1) = (g_L g, ty ++ g_st g) := by
    show (if l + 1 = g_nl g + 1 then (g_L g, ty ++ g_st g) else _) = _
    rw [if_pos (by omega)]
  have lat0 : g_lat (w_lb (g_L g, ty ++ g_st g) (w_lb (g_L g, g_st g) g)) l = none ∧ g_lat (w_lb (g_L g, ty ++ g_st g) (w_lb (g_L g, g_st g) g)) (l + 1) = none := by
    constructor
    · show (if l = g_nl g + 1 then none else if l = g_nl g then none else _) = none
      rw [if_neg (by omega), if_pos hl]
    · show (if l + 1 = g_nl g + 1 then none else _) = none
      rw [if_pos (by omega)]
  have go0 : g_goes (w_lb (g_L g, ty ++ g_st g) (w_lb (g_L g, g_st g) g)) l = false ∧ g_goes (w_lb (g_L g, ty ++ g_st g) (w_lb (g_L g, g_st g) g)) (l + 1) = false ∧ ∀ k, k < l → g_goes (w_lb (g_L g, ty ++ g_st g) (w_lb (g_L g, g_st g) g)) k = g_goes g k := by
    refine ⟨?_, ?_, fun k hk => ?_⟩
    · show (if l = g_nl g + 1 then false else if l = g_nl g then false else _) = false
      rw [if_neg (by omega), if_pos hl]
    · show (if l + 1 = g_nl g + 1 then false else _) = false
      rw [if_pos (by omega)]
    · show (if k = g_nl g + 1 then false else if k = g_nl g then false else g_goes g k) = _
      rw [if_neg (by omega), if_neg (by omega)]
  have L1 : g_L (w_lb (g_L g, ty ++ g_st g) (w_lb (g_L g, g_st g) g)) = g_L g ∧ g_st (w_lb (g_L g, ty ++ g_st g) (w_lb (g_L g, g_st g) g)) = g_st g ∧ g_pl (w_lb (g_L g, ty ++ g_st g) (w_lb (g_L g, g_st g) g)) = g_pl g := ⟨rfl, rfl, rfl⟩
  rw [← hl] at hc p1 p2 ⊢
  have oc := oc i1
  generalize w_lb (g_L g, ty ++ g_st g) (w_lb (g_L g, g_st g) g) = g1 at *
  obtain ⟨cX, cov, cc⟩ := hc
  have nl2 : l + 2 ≤ g_nl g2 := by have := cX.2.2.1; omega
  have c12 : w_cg (g_goes g1) (l + 2) = w_cg (g_goes g) l := by
    show w_cg (g_goes g1) l + (bif g_goes g1 l then 1 else 0) + (bif g_goes g1 (l + 1) then 1 else 0) = _
    rw [go0.1, go0.2.1, w_cg_eq go0.2.2]; rfl
  -- up to the first label
  have s4 : ∃ g4, g4 = w_go (l + 1) (X1 g2) ∧ oQ nt N M res par ret E f g1 g4 ∧ wX (l + 2) [l, l + 1] g1 g4 ∧ g_al g4 = false ∧ g_ov g4 = false ∧ (g_goes g4 l = true ∨ g_goes g4 (l + 1) = true) := by
    refine ⟨_, rfl, ?_⟩
    rcases cc with ⟨al2, Lg2, st2⟩ | ⟨al2, lk⟩
    · have hq2 : w_q g2 = false := (w_q_iff g2).mpr ⟨al2, cov⟩
      obtain ⟨bX, bq, bL, bst⟩ := p1 g2 hq2 nl2
      have m2 := m1.tr oc hf cX.1.2.2.2.1
      have o := o1 g2 hq2 (Lg2.trans L1.1) (st2.trans L1.2.1) (cX.1.2.2.2.2.2.2.trans L1.2.2) oc.1.1 m2
      obtain ⟨d1, d2, d3, d4, d5, d6⟩ := w_go_f (l := l + 1) bq
      have lFx : g_lF (X1 g2) (l + 1) = (g_L g, ty ++ g_st g) := by rw [(bX.2.2.2.1 (l + 1) (by omega)).2.1, (cX.2.2.2.1 (l + 1) (by omega)).2.1, lF1]
      have latx : g_lat (X1 g2) (l + 1) = none := by rw [(bX.2.2.2.1 (l + 1) (by omega)).1, (cX.2.2.2.1 (l + 1) (by omega)).1, lat0.2]
      have og : oQ nt N M res par ret E f (X1 g2) (w_go (l + 1) (X1 g2)) := oQ.go o.1.1 (fun _ => ⟨by have := bX.2.2.1; omega, by rw [lFx, bL, bst, Lg2, st2, L1.1, L1.2.1]; exact w_fit.rf _, fun j q => by rw [latx] at q; simp at q⟩) (by rw [bst, st2, L1.2.1, List.length_append]; omega)
      refine ⟨(oc.tr o).tr og, ((cX.mono (tg := [l, l + 1]) (fun z hz => by simp at hz; simp [hz])).tr (bX.t1 (wX_go (n := l + 2) (tg := [l, l + 1]) (l := l + 1) (Or.inr (by simp)))) (fun _ z => z) (fun z hz _ => hz)), d1, d2, Or.inr ?_⟩
      rw [d3]; exact if_pos rfl
    · have hq2 : w_q g2 = true := by unfold w_q; rw [al2]; rfl
      rw [q1 _ hq2, w_go_q hq2]
      exact ⟨oc, cX.mono (fun z hz => by simp at hz; simp [hz]), al2, cov, Or.inl lk⟩
  obtain ⟨g4, e4, o4, X4, al4, ov4, gg4⟩ := s4
  rw [← e4]
  clear e4
  -- the first label
  have nl4 : l + 2 ≤ g_nl g4 := by have := X4.2.2.1; omega
  have o5 := oQ.put (f := f) (l := l) o4.1.1 (by omega) (by rw [(X4.2.2.2.1 l (by omega)).1, lat0.1]) (fun z => by rw [al4] at z; exact absurd z (by decide)) (by rw [(X4.2.2.2.1 l (by omega)).2.1, lF0, o4.2.1, L1.1])
  obtain ⟨u1, u2, u3, u4⟩ := w_put_lb l g4
  have X5 : wX l [] g4 (w_put l g4) := wX_put (Nat.le_refl _)
  have lat5 : g_lat (w_put l g4) (l + 1) = none := by
    have : g_lat (w_put l g4) (l + 1) = g_lat g4 (l + 1) := by
      unfold w_put
      rw [al4]; simp only [cond_false]
      cases g_goes g4 l
      · exact if_neg (by omega)
      · exact if_neg (by omega)
    rw [this, (X4.2.2.2.1 (l + 1) (by omega)).1, lat0.2]
  have o15 := o4.tr o5
  have re : g_goes g4 l = true → g_al (w_put l g4) = true ∧ (g_L (w_put l g4), g_st (w_put l g4)) = g_lF g4 l := fun z => w_put_re al4 z
  have no : g_goes g4 l = false → g_al (w_put l g4) = false := fun z => w_put_no al4 z
  have ac5 : g_ac (w_put l g4) = g_ac g4 := X5.1.2.2.2.1
  have pl5 : g_pl (w_put l g4) = g_pl g4 := X5.1.2.2.2.2.2.2
  generalize w_put l g4 = g5 at *
  have m5 := m1.tr o15 hf (by rw [ac5, X4.1.2.2.2.1])
  -- sealed
  obtain ⟨o6, le6⟩ := o5.1.1.sl (by have := m5.2.2; omega) false l
  obtain ⟨z1, z2, z3, z4, z5, z6, z7, z8, z9⟩ := w_sl_n false l g5
  obtain ⟨-, f2, f3, f4, f5, -, -, -, -, f10⟩ := w_sl_f false l g5
  have pl6 : g_pl (w_sl false l g5) = g_pl g5 := (f10 0 []).1.2.2.2.2.2.2
  have lF6 : g_lF (w_sl false l g5) (l + 1) = (g_L g, ty ++ g_st g) := by rw [z3, u2, (X4.2.2.2.1 (l + 1) (by omega)).2.1, lF1]
  generalize w_sl false l g5 = g6 at *
  have nl6 : l + 2 ≤ g_nl g6 := by omega
  -- the other way
  have s7 : ∃ g7, g7 = X2 g6 ∧ oQ nt N M res par ret E f g6 g7 ∧ wX (l + 2) [] g6 g7 ∧ g_ov g7 = false ∧ (g_al g7 = true → (g_L g7, g_st g7) = (g_L g, ty ++ g_st g)) := by
    refine ⟨_, rfl, ?_⟩
    cases hg : g_goes g4 l
    · have a6 : g_al g6 = false := by rw [f2]; exact no hg
      have hq6 : w_q g6 = true := by unfold w_q; rw [a6]; rfl
      rw [q2 _ hq6]
      exact ⟨oQ.rf o6, wX.rf _ _ _, by rw [f3, u4, ov4], fun z => by rw [a6] at z; exact absurd z (by decide)⟩
    · obtain ⟨r1, r2⟩ := re hg
      have hq6 : w_q g6 = false := (w_q_iff _).mpr ⟨by rw [f2]; exact r1, by rw [f3, u4, ov4]⟩
      rw [(X4.2.2.2.1 l (by omega)).2.1, lF0] at r2
      have eL : g_L g6 = g_L g := by rw [f4]; exact (Prod.mk.inj r2).1
      have es : g_st g6 = g_st g := by rw [f5]; exact (Prod.mk.inj r2).2
      obtain ⟨bX, bq, bL, bst⟩ := p2 g6 hq6 nl6
      have b6 : oRb (B + 2) g6 := by
        obtain ⟨⟨b1, b2, b3⟩, m2, m3⟩ := m5
        have fm6 : g_fm g6 = g_fm g5 := by rw [z9]; cases g_goes g5 l <;> rfl
        have us6 : g_us g6 ≤ g_us g5 := by rw [z8]; cases g_goes g5 l <;> simp
        refine ⟨⟨?_, ?_, by rw [z6]; exact b3⟩, m2, by rw [fm6]; exact m3⟩
        · unfold g_by; rw [z5]; unfold g_by at b1; omega
        · unfold g_by; rw [z5, z6, z7, fm6]; exact b2
      refine ⟨o2 g6 hq6 eL es (by rw [pl6, pl5, X4.1.2.2.2.2.2.2, L1.2.2]) o6 b6, bX, ((w_q_iff _).mp bq).2, fun _ => by rw [bL, bst, eL, es]⟩
  obtain ⟨g7, e7, o7, X7, ov7, v7⟩ := s7
  rw [← e7]
  clear e7
  -- the other label
  have lF7 : g_lF g7 (l + 1) = (g_L g, ty ++ g_st g) := by rw [(X7.2.2.2.1 (l + 1) (by omega)).2.1, lF6]
  have o8 := oQ.put (f := f) (l := l + 1) o7.1.1 (by have := X7.2.2.1; omega) (by rw [(X7.2.2.2.1 (l + 1) (by omega)).1, z4, lat5]) (fun z => by rw [v7 z, lF7]; exact w_fit.rf _) (by rw [lF7, o7.2.1, f4, o15.2.1, L1.1])
  obtain ⟨y1, y2, y3, y4⟩ := w_put_lb (l + 1) g7
  have o68 := o7.tr o8
  generalize w_put (l + 1) g7 = g8 at *
  have fm8 : g_fm g8 < 3999 := by
    have h1 := o68.1.2.2.2.2
    have h2 : g_fm g6 = g_fm g5 := by rw [z9]; cases g_goes g5 l <;> rfl
    have := m5.2.2
    omega
  obtain ⟨o9, le9⟩ := o8.1.1.sl fm8 false (l + 1)
  obtain ⟨x1, x2, x3, x4, x5, x6, x7, x8, x9⟩ := w_sl_n false (l + 1) g8
  have x10 := (w_sl_f false (l + 1) g8).2.2.2.1
  generalize w_sl false (l + 1) g8 = g9 at *
  -- the account
  obtain ⟨⟨-, le15, ⟨p1', p2', p3', p4', p5', p6'⟩, us15, fm15⟩, L15, nw15⟩ := o15
  obtain ⟨⟨-, le68, ⟨r1', r2', r3', r4', r5', r6'⟩, us68, fm68⟩, L68, nw68⟩ := o68
  have le := ((le1.tr le15).tr le6).tr (le68.tr le9)
  rw [n1] at p2' p5' p6'
  have mid := w_cg_mid (go := g_goes g6) (go' := g_goes g8) (m := l + 2) (n := g_nl g6) nl6 r2'
  have ex : ∀ x : wG, w_cg (g_goes x) (l + 2) = w_cg (g_goes x) l + (bif g_goes x l then 1 else 0) + (bif g_goes x (l + 1) then 1 else 0) := fun x => rfl
  rw [c12, ex g5] at p5' p6'
  rw [ex g6, ex g8] at mid
  have b08 : g_goes g5 l = true → g_goes g8 l = true := fun q => r2' l (by omega) (by rw [z2]; exact q)
  have b18 : g_goes g5 (l + 1) = true → g_goes g8 (l + 1) = true := fun q => r2' (l + 1) (by omega) (by rw [z2]; exact q)
  have gg5 : g_goes g5 l = true ∨ g_goes g5 (l + 1) = true := by rw [u1]; exact gg4
  have by6 : g_by g6 = g_by g5 := by unfold g_by; rw [z5]
  have by9 : g_by g9 = g_by g8 := by unfold g_by; rw [x5]
  rw [z2] at r5' r6' mid
  have cgle := w_cg_le (go := g_goes g5) (go' := g_goes g8) (n := l) (fun k hk q => r2' k (by omega) (by rw [z2]; exact q))
  have nlg : g_nl g ≤ g_nl g9 := le.2.1
  have fm6 : g_fm g6 = g_fm g5 := by rw [z9]; cases g_goes g5 l <;> rfl
  have fm9 : g_fm g9 = g_fm g8 := by rw [x9]; cases g_goes g8 (l + 1) <;> rfl
  have m05 : (bif g_goes g5 l then 1 else 0) ≤ (bif g_goes g8 l then 1 else 0) := by
    cases q : g_goes g5 l
    · exact Nat.zero_le _
    · rw [b08 q]; exact Nat.le_refl _
  have m15 : (bif g_goes g5 (l + 1) then 1 else 0) ≤ (bif g_goes g8 (l + 1) then 1 else 0) := by
    cases q : g_goes g5 (l + 1)
    · exact Nat.zero_le _
    · rw [b18 q]; exact Nat.le_refl _
  have one : 1 ≤ (bif g_goes g5 l then 1 else 0) + (bif g_goes g5 (l + 1) then 1 else 0) := by
    rcases gg5 with z | z <;> rw [z]
    · exact Nat.le_add_right _ _
    · exact Nat.le_add_left _ _
  have us5 : 2 ≤ g_us g5 := by omega
  have us6 : g_us g6 + 1 = g_us g5 + (bif g_goes g5 l then 1 else 0) := by
    rw [z8]; cases g_goes g5 l <;> simp only [cond_true, cond_false] <;> omega
  have us9 : g_us g9 + 1 = g_us g8 + (bif g_goes g8 (l + 1) then 1 else 0) := by
    rw [x8]; cases g_goes g8 (l + 1) <;> simp only [cond_true, cond_false] <;> omega
  have top18 : (bif g_goes g8 (l + 1) then 1 else 0) ≤ 1 := by cases g_goes g8 (l + 1) <;> decide
  generalize (bif g_goes g5 l then 1 else 0) = b05 at *
  generalize (bif g_goes g8 l then 1 else 0) = b08n at *
  generalize (bif g_goes g5 (l + 1) then 1 else 0) = b15 at *
  generalize (bif g_goes g8 (l + 1) then 1 else 0) = b18n at *
  have e9 : g_L g9 = g_L g := by rw [x10, L68, f4, L15, L1.1]
  have w15 : oNw (g_L g) g g5 := fun k i F h1 h2 => by rw [← L1.1]; exact nw15 k i F (by rw [it1]; exact h1) h2
  have w19 : oNw (g_L g) g g9 := by
    refine (w15.tr (h := g5) (k := g6) (.rf z5) ⟨[], z5⟩).tr (h := g6) (k := g9) ?_ (le68.1.elim fun e q => ⟨e, by rw [x5]; exact q⟩)
    intro k i F h1 h2
    rw [x5] at h2
    have := nw68 k i F h1 h2
    rw [f4, L15, L1.1] at this; exact this
  refine ⟨⟨o9, le, ⟨nlg, fun k hk q => (le.2.2.1 k hk).2.1 q, by omega, by omega, ?_, ?_⟩, by omega, by omega⟩, e9, w19⟩
  · rw [← hl, x2]; omega
  · rw [← hl, x2]; omega
end
