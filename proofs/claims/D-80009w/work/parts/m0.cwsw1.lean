/-! CodeWriter: a switch: the labels of its cases -/
section
variable {nt : sp_NT} {N M : Nat} {P : yP} {X : List (Nat × Bool)} {b hp : Nat} {H V : List wSl} {O : List (Int32 × List (Nat × Nat))} {K u sb : Nat} {C : Nat → Prop} {o : Option Int32} {lm lm' lm1 : Nat → Nat} {lv lv' lv1 ct ct' : Nat → Bool} {x y x1 : mj_X} {g G : wG} {res par : Nat → Int32} {f : Nat} {n : Int32}
/-- a case has its label -/
theorem Y2.pct {k l : Nat} {v : Int32} (hk : k < 4000) (hkind : nt 0 k = 83 ∨ nt 0 k = 84) (hl : l < g_nl g) (hv : lv l = true) (hvl : v = nI (lm l)) (hcx : x.1 0 29 = 0 → ∀ s, s ∈ H ++ V → True) (h : Y2 nt N P hp H O K u sb C o V lm lv ct x g) :
    Y2 nt N P hp H O K u sb (fun j => C j ∨ j = k) o V lm lv (fun j => if j = l then true else ct j) (mj_wI x 35 k v) (s_pl (4000 + k) l g) := by
  have f2 : yfr (yw2 P K) (p_pf P) x (mj_wI x 35 k v) := (yfr.rf _ _ x).w _ (by unfold yw2; exact Bool.or_true _)
  obtain ⟨he, hS, hC, hX⟩ := h
  have h5 : ¬ nt 0 k = 5 := fun e => by rcases hkind with q | q <;> (rw [q] at e; revert e; decide)
  have hC' : yCt nt (fun j => C j ∨ j = k) (g_nl g) lm lv (fun j => if j = l then true else ct j) (mj_wI x 35 k v) := by
    intro j hj
    by_cases e : j = k
    · subst e
      refine ⟨hk, hkind, l, hl, hv, if_pos rfl, ?_⟩
      show upd (x.1 35) j v j = _
      rw [pk_us]; exact hvl
    · obtain ⟨h1, h2, m, h3, h4, h5, h6⟩ := hC j (hj.resolve_right e)
      refine ⟨h1, h2, m, h3, h4, ?_, ?_⟩
      · show (if m = l then true else ct m) = true
        split
        · rfl
        · exact h5
      · show upd (x.1 35) k v j = _
        rw [pk_un e]; exact h6
  refine ⟨he.fr2 f2, hS, hC', ?_⟩
  rcases hX with ⟨h0, h1, h2, h3, a1, a2, a3, a4, a5⟩ | ⟨h0, m1, m2, m3⟩
  · have e0 : yV0 x (mj_wI x 35 k v) := by
      refine ⟨fun _ _ => rfl, fun j hk => ?_, rfl⟩
      have : j ≠ 35 := fun z => by rw [z] at hk; revert hk; decide
      funext i; rw [mj_wI_1, if_neg this]
    refine Or.inl ⟨h0, fun j r hj4 hr => ?_, h2.v0 e0, h3.v0 e0, a1, a2, fun j m hj => ?_, a4, a5⟩
    · have hr : (if j = 4000 + k then some l else g_pl g j) = some r := hr
      rw [if_neg (by omega)] at hr
      have := h1 j r hj4 hr
      show upd (x.1 35) k v j = nI r ∧ r < 256 ∧ nt 0 j = 5
      rw [pk_un (fun z => h5 (by rw [← z]; exact this.2.2))]; exact this
    · have hj : (if 4000 + j = 4000 + k then some l else g_pl g (4000 + j)) = some m := hj
      show (C j ∨ j = k) ∧ m < g_nl g ∧ lv m = true ∧ (if m = l then true else ct m) = true ∧ upd (x.1 35) k v j = nI (lm m)
      by_cases e : j = k
      · subst e
        rw [if_pos rfl] at hj
        injection hj with hj
        subst hj
        rw [if_pos rfl, pk_us]; exact ⟨Or.inr rfl, hl, hv, rfl, hvl⟩
      · rw [if_neg (by omega)] at hj
        obtain ⟨p0, p1, p2, p3, p4⟩ := a3 j m hj
        refine ⟨Or.inl p0, p1, p2, ?_, ?_⟩
        · split
          · rfl
          · exact p3
        · rw [pk_un e]; exact p4
  · exact Or.inr ⟨h0, m1, m2, m3⟩
/-- a label, when it was much -/
theorem Y2.lbM {d u0 : Nat} {F : wF} (hd : 1 ≤ d) (h : Y2 nt N P hp H O K u sb C none V lm lv ct x g) (h0 : ¬ x.1 0 29 = 0) (hL : yL [] (g_nl g) lm lv x u0) (hu : u0 + 1 ≤ 49600) :
    ∃ i lm' lv' ct' x', kX0 d 64 [.ref 0] x = some (some (.int (nI i)), x') ∧ Y2 nt N P hp H O K u sb C none V lm' lv' ct' x' (w_lb F g) ∧ (lm' (g_nl g) = i ∧ lv' (g_nl g) = true ∧ ct' (g_nl g) = false) ∧ (∀ l, l < g_nl g → lm' l = lm l ∧ lv' l = lv l ∧ ct' l = ct l) ∧ ¬ x'.1 0 29 = 0 ∧ yfr (yw (p_pf P) (p_lf P)) (p_pf P) x x' ∧ yL [] (g_nl (w_lb F g)) lm' lv' x' (u0 + 1) := by
  obtain ⟨i, x', e, hL', f, f2, h36, h37, hj⟩ := e_label hd hL (by omega)
  have fy := yz_yw (pf := p_pf P) (lf := p_lf P) f f2
  have eU := yU.of fy
  have z0 : ¬ x'.1 0 29 = 0 := by rw [f.1 0 29 rfl]; exact h0
  have hA := hL'.adopt
  obtain ⟨m1, m2, m3⟩ := h.mc h0
  obtain ⟨he, hS, hC, -⟩ := h
  have hlab : ∀ l, l < g_nl g → (fun l => if l = g_nl g then i else lm l) l = lm l ∧ (fun l => if l = g_nl g then true else lv l) l = lv l ∧ (fun l => if l < g_nl g then ct l else false) l = ct l := fun l hl => ⟨if_neg (by omega), if_neg (by omega), if_pos hl⟩
  have hm : wM g (w_lb F g) := (wM.rf g).lb F
  have hM : yM P x' := by
    have ef := f.1
    unfold yM at *
    rw [ef 0 29 rfl, ef 0 30 rfl, ef 0 31 rfl, ef 0 43 rfl, ef 0 28 rfl, ef 0 48 rfl]; exact m1
  refine ⟨i, _, _, (fun l => if l < g_nl g then ct l else false), x', e, ⟨he.fr2 (K := K) fy.up, hS.eq (cx := g_cx (w_lb F g)) eU, hC.eq (eU.2 35 rfl) hlab hm.nl, Or.inr ⟨z0, hM, ?_, m3.mono hm⟩⟩, ⟨if_pos rfl, if_pos rfl, if_neg (Nat.lt_irrefl _)⟩, hlab, z0, fy, hA⟩
  exact yL.mono (show yL [] (g_nl g + 1) _ _ x' (u0 + 1) from hA) hu
/-- a label, however it is -/
theorem Y2.lb2 {d u0 : Nat} {F : wF} (hd : 1 ≤ d) (h : Y2 nt N P hp H O K u sb C none V lm lv ct x g) (hL : ¬ x.1 0 29 = 0 → yL [] (g_nl g) lm lv x u0) (hu : u0 + 1 ≤ 49600) (hok : g_ok (w_lb F g)) :
    ∃ i lm' lv' ct' x', kX0 d 64 [.ref 0] x = some (some (.int (nI i)), x') ∧ Y2 nt N P hp H O K u sb C none V lm' lv' ct' x' (w_lb F g) ∧ (lm' (g_nl g) = i ∧ lv' (g_nl g) = true ∧ ct' (g_nl g) = false) ∧ (∀ l, l < g_nl g → lm' l = lm l ∧ lv' l = lv l ∧ ct' l = ct l) ∧ x'.1 0 29 = x.1 0 29 ∧ yfr (yw (p_pf P) (p_lf P)) (p_pf P) x x' ∧ (¬ x'.1 0 29 = 0 → yL [] (g_nl (w_lb F g)) lm' lv' x' (u0 + 1)) ∧ (x'.1 0 29 = 0 → yT x g x' (w_lb F g)) := by
  by_cases h0 : x.1 0 29 = 0
  · obtain ⟨i, lm', lv', ct', x', e, q, a, c, z, f, t⟩ := Y2.lb (F := F) hd h h0 hok
    exact ⟨i, lm', lv', ct', x', e, q, a, c, z.trans h0.symm, f, fun w => absurd z w, fun _ => t⟩
  · obtain ⟨i, lm', lv', ct', x', e, q, a, c, z, f, hL'⟩ := Y2.lbM (F := F) hd h h0 (hL h0) hu
    have e29 : x'.1 0 29 = x.1 0 29 := by rw [q.mc z |>.1 |>.1, (h.mc h0).1.1]
    exact ⟨i, lm', lv', ct', x', e, q, a, c, e29, f, fun _ => hL', fun w => absurd w z⟩
/-- the least and the greatest of the keys so far -/
def y_lg (nt : sp_NT) : Nat × Int32 × Int32 → List Int32 → Nat × Int32 × Int32
  | s, [] => s
  | s, k :: r => if nK nt k = 84 then y_lg nt s r else y_lg nt (s.1 + 1, (if s.1 = 0 then nA nt k else mj_min s.2.1 (nA nt k)), (if s.1 = 0 then nA nt k else mj_max s.2.2 (nA nt k))) r
/-- labels for all cases -/
theorem k_swL {d : Nat} {F : wF} {a1 a2 a3 : Int32} (hd : 1 ≤ d) (hT : wTb nt N M res par) :
    ∀ (l : List Int32) (q : Int32) (s : Nat × Int32 × Int32) (oth u0 : Nat) (C : Nat → Prop) (lm : Nat → Nat) (lv ct : Nat → Bool) (x : mj_X) (g : wG) (o9 : Option Value), sp_Ch nt N 82 l q → (∀ k, k ∈ l → nK nt (nA nt k) = 83 ∨ nK nt (nA nt k) = 84) → s.1 + l.length < 4000 → u0 + l.length ≤ 49600 → oth < g_nl g → Y2 nt N P hp H O K u sb C none V lm lv ct x g → (¬ x.1 0 29 = 0 → yL [] (g_nl g) lm lv x u0) → g_ok (w_sw2 F (w_csl nt (g_nl g) l) g) →
      ∃ C' lm' lv' ct' x' o9', rX0_choose d (26, [some (.ref 0), some (.int a1), some (.int a2), some (.int a3), some (.int (nI s.1)), some (.int s.2.1), some (.int s.2.2), some (.int (nI (lm oth))), some (.int q), o9, none, none, none, none], [], x) = rX0_choose d (149, [some (.ref 0), some (.int a1), some (.int a2), some (.int a3), some (.int (nI (y_lg nt s (l.map (fun k => nA nt k))).1)), some (.int (y_lg nt s (l.map (fun k => nA nt k))).2.1), some (.int (y_lg nt s (l.map (fun k => nA nt k))).2.2), some (.int (nI (lm' (z_of nt oth (w_csl nt (g_nl g) l))))), some (.int (-1 : Int32)), o9', none, none, none, none], [], x')
        ∧ Y2 nt N P hp H O K u sb C' none V lm' lv' ct' x' (w_sw2 F (w_csl nt (g_nl g) l) g) ∧ (∀ k, C k → C' k) ∧ (∀ i, i < g_nl g → lm' i = lm i ∧ lv' i = lv i ∧ ct' i = ct i) ∧ (∀ p, p ∈ w_csl nt (g_nl g) l → C' p.1.toNatClampNeg ∧ lv' p.2 = true ∧ ct' p.2 = true) ∧ yfr (yw2 P K) (p_pf P) x x' ∧ x'.1 0 29 = x.1 0 29 ∧ (x'.1 0 29 = 0 → yT x g x' (w_sw2 F (w_csl nt (g_nl g) l) g)) ∧ oth < g_nl (w_sw2 F (w_csl nt (g_nl g) l) g) := by
  intro l
  induction l with
  | nil =>
    intro q s oth u0 C lm lv ct x g o9 hl _ _ _ ho h hL hok
    have hq : q = -1 := hl
    rw [bX0_choose_26, if_pos hq, hq]
    exact ⟨C, lm, lv, ct, x, o9, rfl, h, fun _ q => q, fun _ _ => ⟨rfl, rfl, rfl⟩, fun p hp => (by cases hp), yfr.rf _ _ _, rfl, fun _ => yT.rf rfl rfl rfl, ho⟩
  | cons p r ih =>
    intro q s oth u0 C lm lv ct x g o9 hl hkn hs hu ho h hL hok
    obtain ⟨e1, e2, e3, e4, e5⟩ := hl
    subst e1
    simp only [List.length_cons] at hs hu
    have hk := hkn q (List.mem_cons_self ..)
    have E : w_sw2 F (w_csl nt (g_nl g) (q :: r)) g = w_sw2 F (w_csl nt (g_nl g + 1) r) (s_pl (4000 + (nA nt q).toNatClampNeg) (g_nl g) (w_lb F g)) := rfl
    rw [E] at hok ⊢
    have mAll := (w_sw2_f F (w_csl nt (g_nl g + 1) r) (s_pl (4000 + (nA nt q).toNatClampNeg) (g_nl g) (w_lb F g))).1
    have okl : g_ok (w_lb F g) := mAll.1 hok
    obtain ⟨i, lm1, lv1, ct1, x1, e, q1, a, c, z29, f1, hL1, t1⟩ := Y2.lb2 (F := F) hd h hL (by omega) okl
    have f1 : yfr (yw (p_pf P) (p_lf P)) (p_pf P) x x1 := f1
    have n1 : g_nl (w_lb F g) = g_nl g + 1 := rfl
    have hk4 : (nA nt q).toNatClampNeg < 4000 := Nat.lt_of_lt_of_le (sp_nd_lt h.T.2.2.2.2 e4) h.T.2.2.2.2
    have q2 := q1.pct (k := (nA nt q).toNatClampNeg) (l := g_nl g) (v := nI i) hk4 hk (by omega) a.2.1 (by rw [a.1]) (fun _ _ _ => trivial)
    have n2' : g_nl (s_pl (4000 + (nA nt q).toNatClampNeg) (g_nl g) (w_lb F g)) = g_nl g + 1 := rfl
    have c0 := fun i (hi : i < g_nl g) => c i hi
    have hx2 : x.1 2 q.toNatClampNeg = nA nt q := by rw [h.T.2.1]
    have f2 : yfr (yw2 P K) (p_pf P) x1 (mj_wI x1 35 (nA nt q).toNatClampNeg (nI i)) := (yfr.rf _ _ x1).w _ (by unfold yw2; exact Bool.or_true _)
    obtain ⟨y, hy⟩ : ∃ y, y = mj_wI x1 35 (nA nt q).toNatClampNeg (nI i) := ⟨_, rfl⟩
    rw [← hy] at q2 f2
    have y29 : y.1 0 29 = x1.1 0 29 := by rw [hy]; rfl
    have y35 : y.1 35 (nA nt q).toNatClampNeg = nI i := by rw [hy]; exact pk_us
    have hL2 : ¬ y.1 0 29 = 0 → yL [] (g_nl (s_pl (4000 + (nA nt q).toNatClampNeg) (g_nl g) (w_lb F g))) lm1 lv1 y (u0 + 1) := fun w => by
      rw [hy]; exact (hL1 (by rw [← y29]; exact w)).fr rfl rfl rfl rfl
    rw [bX0_choose_26, if_neg (nd_n1 e2), h.nd e2, e, mj_rI_k, hx2, h.nd e4, ← hy, bX0_choose_52, h.nd e4, show y.1 1 (nA nt q).toNatClampNeg = nK nt (nA nt q) by rw [q2.T.1]]
    have fin : ∀ (s' : Nat × Int32 × Int32) (oth' : Nat) (o9' : Option Value), s'.1 + r.length < 4000 → oth' < g_nl g + 1 → ∃ C' lm' lv' ct' x' o9'', rX0_choose d (26, [some (.ref 0), some (.int a1), some (.int a2), some (.int a3), some (.int (nI s'.1)), some (.int s'.2.1), some (.int s'.2.2), some (.int (nI (lm1 oth'))), some (.int (nB nt q)), o9', none, none, none, none], [], y) = rX0_choose d (149, [some (.ref 0), some (.int a1), some (.int a2), some (.int a3), some (.int (nI (y_lg nt s' (r.map (fun k => nA nt k))).1)), some (.int (y_lg nt s' (r.map (fun k => nA nt k))).2.1), some (.int (y_lg nt s' (r.map (fun k => nA nt k))).2.2), some (.int (nI (lm' (z_of nt oth' (w_csl nt (g_nl g + 1) r))))), some (.int (-1 : Int32)), o9'', none, none, none, none], [], x')
        ∧ Y2 nt N P hp H O K u sb C' none V lm' lv' ct' x' (w_sw2 F (w_csl nt (g_nl g + 1) r) (s_pl (4000 + (nA nt q).toNatClampNeg) (g_nl g) (w_lb F g))) ∧ (∀ k, C k → C' k) ∧ (∀ i, i < g_nl g → lm' i = lm i ∧ lv' i = lv i ∧ ct' i = ct i) ∧ (∀ p, p ∈ w_csl nt (g_nl g) (q :: r) → C' p.1.toNatClampNeg ∧ lv' p.2 = true ∧ ct' p.2 = true) ∧ yfr (yw2 P K) (p_pf P) x x' ∧ x'.1 0 29 = x.1 0 29 ∧ (x'.1 0 29 = 0 → yT x g x' (w_sw2 F (w_csl nt (g_nl g + 1) r) (s_pl (4000 + (nA nt q).toNatClampNeg) (g_nl g) (w_lb F g)))) ∧ oth' < g_nl (w_sw2 F (w_csl nt (g_nl g + 1) r) (s_pl (4000 + (nA nt q).toNatClampNeg) (g_nl g) (w_lb F g))) := by
      intro s' oth' o9' hs' ho'
      obtain ⟨C', lm', lv', ct', x', o9'', run, q3, cc, lab, cs, f3, z3, t3, ho3⟩ := ih (nB nt q) s' oth' (u0 + 1) _ lm1 lv1 _ y (s_pl (4000 + (nA nt q).toNatClampNeg) (g_nl g) (w_lb F g)) o9' e5 (fun k hk => hkn k (List.mem_cons_of_mem _ hk)) hs' (by omega) ho' q2 hL2 hok
      have lg := lab (g_nl g) (by omega)
      refine ⟨C', lm', lv', ct', x', o9'', run, q3, fun k hk => cc k (Or.inl hk), fun i hi => ?_, fun p hp => ?_, (f1.up.tr f2).tr f3, z3.trans (y29.trans z29), fun w => ?_, ho3⟩
      · have a1 := lab i (by omega)
        have a2 := c0 i hi
        exact ⟨a1.1.trans a2.1, a1.2.1.trans a2.2.1, a1.2.2.trans ((if_neg (by omega)).trans a2.2.2)⟩
      · rcases List.mem_cons.mp hp with rfl | hp
        · exact ⟨cc _ (Or.inr rfl), lg.2.1.trans a.2.1, lg.2.2.trans (if_pos rfl)⟩
        · exact cs p hp
      · have w1 : x1.1 0 29 = 0 := by rw [← y29, ← z3]; exact w
        have ty : yT x1 (w_lb F g) y (s_pl (4000 + (nA nt q).toNatClampNeg) (g_nl g) (w_lb F g)) := by rw [hy]; exact yT.rf rfl rfl rfl
        exact ((t1 w1).tr ty).tr (t3 w)
    have hy3 : y.1 3 q.toNatClampNeg = nB nt q := by rw [q2.T.2.2.1]
    have hy2 : y.1 2 (nA nt q).toNatClampNeg = nA nt (nA nt q) := by rw [q2.T.2.1]
    have zof : ∀ e0, z_of nt e0 (w_csl nt (g_nl g) (q :: r)) = z_of nt (if nK nt (nA nt q) = 84 then g_nl g else e0) (w_csl nt (g_nl g + 1) r) := fun _ => rfl
    have ylg : y_lg nt s ((q :: r).map (fun k => nA nt k)) = if nK nt (nA nt q) = 84 then y_lg nt s (r.map (fun k => nA nt k)) else y_lg nt (s.1 + 1, (if s.1 = 0 then nA nt (nA nt q) else mj_min s.2.1 (nA nt (nA nt q))), (if s.1 = 0 then nA nt (nA nt q) else mj_max s.2.2 (nA nt (nA nt q)))) (r.map (fun k => nA nt k)) := rfl
    rw [zof oth, ylg]
    by_cases k84 : nK nt (nA nt q) = 84
    · rw [if_pos k84, if_pos k84, if_pos k84, h.nd e4, h.nd e2, y35, hy3, ← a.1]
      obtain ⟨C', lm', lv', ct', x', o9'', r1, r2, r3, r4, r5, r6, r7, r8, r9⟩ := fin s (g_nl g) (some (.int (nA nt q))) (by omega) (by omega)
      exact ⟨C', lm', lv', ct', x', o9'', r1, r2, r3, r4, r5, r6, r7, r8, by omega⟩
    · rw [if_neg k84, if_neg k84, if_neg k84]
      have ho1 : nI (lm oth) = nI (lm1 oth) := by rw [(c0 oth ho).1]
      rw [ho1]
      obtain ⟨C', lm', lv', ct', x', o9'', r1, r2⟩ := fin (s.1 + 1, (if s.1 = 0 then nA nt (nA nt q) else mj_min s.2.1 (nA nt (nA nt q))), (if s.1 = 0 then nA nt (nA nt q) else mj_max s.2.2 (nA nt (nA nt q)))) oth (some (.int (nA nt q))) (by show s.1 + 1 + r.length < 4000; omega) (by omega)
      refine ⟨C', lm', lv', ct', x', o9'', ?_, r2⟩
      rw [← r1]
      have e3' : nI s.1 + (1 : Int32) = nI (s.1 + 1) := nI_add s.1 1
      by_cases s0 : s.1 = 0
      · have hz : nI s.1 = (0 : Int32) := by rw [s0]; rfl
        rw [if_pos hz, h.nd e4, hy2, bX0_choose_103, if_pos hz, h.nd e4, hy2, bX0_choose_132, h.nd e2, hy3, e3']
        simp only [if_pos s0]
      · have hz : ¬ nI s.1 = (0 : Int32) := fun w => s0 ((nI_eq (b := 0) (by omega) (by omega)).mp w)
        rw [if_neg hz, h.nd e4, hy2, bX0_choose_103, if_neg hz, h.nd e4, hy2, bX0_choose_132, h.nd e2, hy3, e3']
        simp only [if_neg s0]
end
