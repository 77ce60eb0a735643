/-! CodeWriter: statements: the relation -/
/-- so many pieces are kept elsewhere -/
def pH (P : yP) (hp : Nat) : yP := (p_M P, p_w P, p_cf P, p_pf P, p_rf P + hp, p_lf P, p_tb P)
/-- ranges -/
def y_rg (w : Bool) (rf : Nat) (its : List (wI × wF)) (s45 : Int32) (a22 : Nat → Int32) (rg : List (Nat × Nat × Nat × Int32)) : Prop := s45 = nI (rf + rg.length) ∧ rf + rg.length ≤ 20000
  ∧ (∀ e, e ∈ rg → e.1 ≤ its.length ∧ e.2.1 ≤ its.length ∧ e.2.2.1 ≤ its.length)
  ∧ z_l1 (fun k e => a22 (4 * (rf + k)) = nI (w_at w its e.1) ∧ a22 (4 * (rf + k) + 1) = nI (w_at w its e.2.1) ∧ a22 (4 * (rf + k) + 2) = nI (w_at w its e.2.2.1) ∧ a22 (4 * (rf + k) + 3) = e.2.2.2) rg
/-- what a context keeps while all is exact -/
def y_sb (nl : Nat) (lm : Nat → Nat) (lv : Nat → Bool) (x : mj_X) (s : wSl) : Prop := (s.2.2.1 ≤ 1 → s.2.2.2.2.1 < nl ∧ lv s.2.2.2.2.1 = true ∧ x.1 54 s.1 = nI (lm s.2.2.2.2.1))
  ∧ (s.2.2.1 = 0 → s.2.2.2.2.2.1 < nl ∧ lv s.2.2.2.2.2.1 = true ∧ x.1 55 s.1 = nI (lm s.2.2.2.2.2.1)) ∧ x.1 56 s.1 = nI s.2.2.2.2.2.2.1 ∧ s.2.2.2.2.2.2.1 ≤ 8000 ∧ (s.2.2.1 = 3 → x.1 53 s.1 = s.2.2.2.1) ∧ (s.2.2.1 = 4 → x.1 57 s.1 = s.2.2.2.1)
/-- in both modes -/
def yS2 (P : yP) (H V : List wSl) (K u sb : Nat) (o : Option Int32) (x : mj_X) (cx : List wC) : Prop :=
  V.map (fun s => s.2.2) = cx ∧ x.1 0 58 = nI K ∧ K ≤ u ∧ u ≤ 200 ∧ x.1 0 61 = nI u ∧ z_ch (o.getD (x.1 0 59)) K V ∧ (H ++ V).Pairwise (fun a b => a.1 ≠ b.1) ∧ (∀ s, s ∈ H ++ V → s.1 < K ∧ x.1 50 s.1 = nI s.2.2.1 ∧ x.1 51 s.1 = s.2.1 ∧ s.2.2.1 ≤ 4)
  ∧ (∃ n, n ≤ 20000 ∧ x.1 0 65 = nI n) ∧ (∃ n, p_rf P ≤ n ∧ n ≤ 20000 ∧ x.1 0 45 = nI n) ∧ x.1 21 (p_M P) = nI (p_rf P) ∧ (∃ t a, x.1 0 66 = nI t ∧ x.1 0 60 = nI a ∧ t ≤ sb + a ∧ a ≤ 60001) ∧ sb ≤ 2000000000
/-- the labels of cases -/
def yCt (nt : sp_NT) (C : Nat → Prop) (nl : Nat) (lm : Nat → Nat) (lv ct : Nat → Bool) (x : mj_X) : Prop := ∀ k, C k → k < 4000 ∧ (nt 0 k = 83 ∨ nt 0 k = 84) ∧ ∃ l, l < nl ∧ lv l = true ∧ ct l = true ∧ x.1 35 k = nI (lm l)
/-- a number that was given -/
def yser (t : Nat) (v : Int32) : Prop := ∃ m, m < t ∧ v = nI m
/-- the pieces of one owner -/
def y_own (v : Int32) (L : List (Int32 × Nat × Nat)) : List (Nat × Nat) := (L.filter (fun e => decide (e.1 = v))).map Prod.snd
/-- pieces, while all is exact: by the numbers of those who own them; O: owners that are no contexts any more -/
def yPc (w : Bool) (hp : Nat) (H V : List wSl) (O : List (Int32 × List (Nat × Nat))) (x : mj_X) (g : wG) : Prop := ∃ (L : List (Int32 × Nat × Nat)) (t : Nat), x.1 0 66 = nI t ∧ t ≤ 2100000000 ∧ x.1 0 65 = nI L.length ∧ L.length ≤ 20000 ∧ L.length ≤ w_ph g + hp
  ∧ z_l1 (fun k e => x.1 63 k = e.1 ∧ x.1 64 k = nI (w_at w (g_it g) e.2.1) ∧ x.1 65 k = nI (w_at w (g_it g) e.2.2)) L ∧ (∀ e, e ∈ L → yser t e.1 ∧ e.2.1 ≤ (g_it g).length ∧ e.2.2 ≤ (g_it g).length)
  ∧ (∀ s, s ∈ H ++ V → yser t (x.1 52 s.1) ∧ c_ps s.2.2 = y_own (x.1 52 s.1) L ∧ (s.2.2.1 ≤ 1 → c_ps s.2.2 = [])) ∧ (∀ q, q ∈ O → yser t q.1 ∧ q.2 = y_own q.1 L)
  ∧ (O.map Prod.fst ++ (H ++ V).map (fun s => x.1 52 s.1)).Nodup
  ∧ ∀ s, s ∈ V → 2 ≤ s.2.2.1 → x.1 58 s.1 = nI (w_at w (g_it g) s.2.2.2.2.2.2.2.1) ∧ s.2.2.2.2.2.2.2.1 ≤ (g_it g).length
def yNn (x : mj_X) (g : wG) : Prop := x.1 0 32 = nI (g_nx g) ∧ g_nx g ≤ 8000 ∧ x.1 0 33 = nI (g_mx g) ∧ g_mx g ≤ 252 ∧ x.1 0 60 = nI (g_ac g) ∧ g_ac g ≤ 60000
def yX (P : yP) (hp : Nat) (H V : List wSl) (O : List (Int32 × List (Nat × Nat))) (C : Nat → Prop) (lm : Nat → Nat) (lv ct : Nat → Bool) (x : mj_X) (g : wG) : Prop := yNn x g ∧ y_rg (p_w P) (p_rf P) (g_it g) (x.1 0 45) (x.1 22) (g_rg g)
  ∧ (∀ k l, g_pl g (4000 + k) = some l → C k ∧ l < g_nl g ∧ lv l = true ∧ ct l = true ∧ x.1 35 k = nI (lm l)) ∧ (∀ s, s ∈ H ++ V → y_sb (g_nl g) lm lv x s) ∧ yPc (p_w P) hp H V O x g
/-- what a statement may change -/
def yw2 (P : yP) (K k j : Nat) : Bool := yw (p_pf P) (p_lf P) k j || (match k with
  | 0 => [32, 33, 45, 58, 59, 60, 61, 65, 66].elem j
  | 22 => Nat.ble (4 * p_rf P) j
  | 35 => true
  | 50 => Nat.ble K j
  | 51 => Nat.ble K j
  | 52 => Nat.ble K j
  | 53 => Nat.ble K j
  | 54 => Nat.ble K j
  | 55 => Nat.ble K j
  | 56 => Nat.ble K j
  | 57 => Nat.ble K j
  | 58 => true
  | 63 => true
  | 64 => true
  | 65 => true
  | _ => false)
theorem yfr.up {P : yP} {K : Nat} {x y : mj_X} (h : yfr (yw (p_pf P) (p_lf P)) (p_pf P) x y) : yfr (yw2 P K) (p_pf P) x y := h.mono (fun k j hz => by unfold yw2 at hz; exact (Bool.or_eq_false_iff.mp hz).1)
theorem yfr.low {P : yP} {K K' : Nat} {x y : mj_X} (h : yfr (yw2 P K) (p_pf P) x y) (hk : K' ≤ K) : yfr (yw2 P K') (p_pf P) x y := h.mono (fun k j hz => by
  have key : Nat.ble K' j = false → Nat.ble K j = false := fun q => by
    rw [← Bool.not_eq_true, Nat.ble_eq] at q ⊢; omega
  unfold yw2 at hz ⊢
  obtain ⟨h1, h2⟩ := Bool.or_eq_false_iff.mp hz
  refine Bool.or_eq_false_iff.mpr ⟨h1, ?_⟩
  revert h2
  split <;> first | exact fun q => q | exact key)
theorem yE.fr2 {nt : sp_NT} {N K : Nat} {P : yP} {x y : mj_X} (h : yE nt N P (fun _ => none) x) (f : yfr (yw2 P K) (p_pf P) x y) : yE nt N P (fun _ => none) y := by
  obtain ⟨⟨t1, t2, t3, t4, t5, t6, t7, t8⟩, ⟨a1, a2, a3, a4⟩, h3, h4, h5, h6, h7, h8, h9, h10⟩ := h
  have e := f.1
  refine ⟨⟨?_, t2, ?_, ?_, ?_, ?_, ?_, ?_⟩, ⟨?_, a2, ?_, a4⟩, ?_, ?_, ?_, h6, h7, h8, h9, fun v p hv hp => by cases hp⟩
  · rw [e 0 6 rfl]; exact t1
  · funext j; rw [e 1 j rfl, t3]
  · funext j; rw [e 2 j rfl, t4]
  · funext j; rw [e 3 j rfl, t5]
  · funext j; rw [e 4 j rfl, t6]
  · funext j; rw [e 5 j rfl, t7]
  · funext j; rw [e 6 j rfl, t8]
  · rw [e 0 7 rfl]; exact a1
  · rw [e 12 _ rfl]; exact a3
  · rw [e 17 _ rfl]; exact h3
  · rw [e 21 _ rfl]; exact h4
  · rw [e 23 _ rfl]; exact h5
theorem yE.any {nt : sp_NT} {N : Nat} {P : yP} {pl : Nat → Option Nat} {x : mj_X} (h : yE nt N P pl x) : yE nt N P (fun _ => none) x := by
  obtain ⟨a1, a2, a3, a4, a5, a6, a7, a8, a9, -⟩ := h
  exact ⟨a1, a2, a3, a4, a5, a6, a7, a8, a9, fun v p _ hv => by cases hv⟩
theorem yE.pH {nt : sp_NT} {N hp : Nat} {P : yP} {pl : Nat → Option Nat} {x : mj_X} (h : yE nt N P pl x) : yE nt N (pH P hp) pl x := by
  obtain ⟨a1, a2, a3, ⟨r, a4, a5⟩, a6⟩ := h
  exact ⟨a1, a2, a3, ⟨r, a4, by show r ≤ p_rf P + hp; omega⟩, a6⟩
/-- with the places of locals -/
theorem yE.pl {nt : sp_NT} {N : Nat} {P : yP} {pl : Nat → Option Nat} {x : mj_X} (h : yE nt N P (fun _ => none) x) (hp : ∀ v p, v < 4000 → pl v = some p → x.1 35 v = nI p ∧ p < 256) : yE nt N P pl x := by
  obtain ⟨a1, a2, a3, a4, a5, a6, a7, a8, a9, -⟩ := h
  exact ⟨a1, a2, a3, a4, a5, a6, a7, a8, a9, hp⟩
section
variable (nt : sp_NT) (N : Nat) (P : yP) (hp : Nat) (H : List wSl) (O : List (Int32 × List (Nat × Nat))) (K u sb : Nat)
def Y2 (C : Nat → Prop) (o : Option Int32) (V : List wSl) (lm : Nat → Nat) (lv ct : Nat → Bool) (x : mj_X) (g : wG) : Prop := yE nt N P (fun _ => none) x ∧ yS2 P H V K u sb o x (g_cx g) ∧ yCt nt C (g_nl g) lm lv ct x
  ∧ ((x.1 0 29 = 0 ∧ (∀ v p, v < 4000 → g_pl g v = some p → x.1 35 v = nI p ∧ p < 256 ∧ nt 0 v = 5) ∧ yL [] (g_nl g) lm lv x (g_us g) ∧ y1 P [] lm lv x g ∧ yX P hp H V O C lm lv ct x g) ∨ (¬ x.1 0 29 = 0 ∧ yM P x ∧ yL [] (g_nl g) lm lv x 49600 ∧ c_over (pH P hp) g))
/-- a statement's result: the first n labels stay, the numbers of contexts are S, much stays much -/
def KS (n : Nat) (S : List (Nat × Int32)) (C : Nat → Prop) (ct : Nat → Bool) (g : wG) (r : mj_R) (x : mj_X) (lm : Nat → Nat) (lv : Nat → Bool) (G : wG) : Prop := ∃ V' C' lm' lv' ct' x', r = some (none, x') ∧ Y2 nt N P hp H O K u sb C' none V' lm' lv' ct' x' G
  ∧ z_skl V' = S ∧ (∀ k, C k → C' k) ∧ (∀ l, l < n → lm' l = lm l ∧ lv' l = lv l ∧ ct' l = ct l) ∧ yfr (yw2 P K) (p_pf P) x x' ∧ (x'.1 0 29 = 0 → x.1 0 29 = 0 ∧ yT x g x' G)
end
/-- what the relation of statements reads beyond that of values -/
def yU (x y : mj_X) : Prop := (∀ j, [32, 33, 45, 58, 59, 60, 61, 65, 66].elem j = true → y.1 0 j = x.1 0 j) ∧ ∀ k, [21, 22, 35, 50, 51, 52, 53, 54, 55, 56, 57, 58, 63, 64, 65].elem k = true → y.1 k = x.1 k
theorem yU.of {pf lf : Nat} {x y : mj_X} (f : yfr (yw pf lf) pf x y) : yU x y := by
  refine ⟨fun j hj => f.1 0 j ?_, fun k hk => funext fun j => f.1 k j ?_⟩
  · have : j = 32 ∨ j = 33 ∨ j = 45 ∨ j = 58 ∨ j = 59 ∨ j = 60 ∨ j = 61 ∨ j = 65 ∨ j = 66 := by simpa using hj
    rcases this with rfl | rfl | rfl | rfl | rfl | rfl | rfl | rfl | rfl <;> rfl
  · have : k = 21 ∨ k = 22 ∨ k = 35 ∨ k = 50 ∨ k = 51 ∨ k = 52 ∨ k = 53 ∨ k = 54 ∨ k = 55 ∨ k = 56 ∨ k = 57 ∨ k = 58 ∨ k = 63 ∨ k = 64 ∨ k = 65 := by simpa using hk
    rcases this with rfl | rfl | rfl | rfl | rfl | rfl | rfl | rfl | rfl | rfl | rfl | rfl | rfl | rfl | rfl <;> rfl
section
variable {nt : sp_NT} {N : Nat} {P : yP} {hp : Nat} {H V : List wSl} {O : List (Int32 × List (Nat × Nat))} {K u sb : Nat} {C : Nat → Prop} {o : Option Int32} {lm lm' : Nat → Nat} {lv lv' ct ct' : Nat → Bool} {x y : mj_X} {g G : wG}
theorem yS2.eq {cx : List wC} (h : yS2 P H V K u sb o x cx) (e : yU x y) : yS2 P H V K u sb o y cx := by
  unfold yS2 at *
  rw [e.1 58 rfl, e.1 61 rfl, e.1 59 rfl, e.1 65 rfl, e.1 45 rfl, e.1 66 rfl, e.1 60 rfl, e.2 50 rfl, e.2 51 rfl, e.2 21 rfl]; exact h
theorem yCt.eq {nl nl' : Nat} (h : yCt nt C nl lm lv ct x) (e : y.1 35 = x.1 35) (hl : ∀ l, l < nl → lm' l = lm l ∧ lv' l = lv l ∧ ct' l = ct l) (hn : nl ≤ nl') : yCt nt C nl' lm' lv' ct' y := by
  intro k hk
  obtain ⟨h1, h2, l, h3, h4, h5, h6⟩ := h k hk
  obtain ⟨e1, e2, e3⟩ := hl l h3
  exact ⟨h1, h2, l, Nat.lt_of_lt_of_le h3 hn, e2.trans h4, e3.trans h5, by rw [e, e1]; exact h6⟩
theorem y_sb.lab {s : wSl} {nl nl' : Nat} (h : y_sb nl lm lv x s) (hl : ∀ l, l < nl → lm' l = lm l ∧ lv' l = lv l) (hn : nl ≤ nl') : y_sb nl' lm' lv' x s := by
  obtain ⟨c1, c2, c3⟩ := h
  refine ⟨fun q => ?_, fun q => ?_, c3⟩
  · obtain ⟨p1, p2, p3⟩ := c1 q
    have := hl _ p1
    rw [this.1, this.2]; exact ⟨Nat.lt_of_lt_of_le p1 hn, p2, p3⟩
  · obtain ⟨p1, p2, p3⟩ := c2 q
    have := hl _ p1
    rw [this.1, this.2]; exact ⟨Nat.lt_of_lt_of_le p1 hn, p2, p3⟩
theorem y_rg.app {w : Bool} {rf : Nat} {its : List (wI × wF)} {s45 : Int32} {a22 : Nat → Int32} {rg : List (Nat × Nat × Nat × Int32)} (e : List (wI × wF)) (h : y_rg w rf its s45 a22 rg) : y_rg w rf (e ++ its) s45 a22 rg := by
  obtain ⟨h1, h2, h3, h4⟩ := h
  refine ⟨h1, h2, fun q hq => ?_, h4.mono (fun k q _ hq a => ?_)⟩
  · have := h3 q hq
    rw [List.length_append]; omega
  · have := h3 q hq
    rw [w_at_app _ _ _ this.1, w_at_app _ _ _ this.2.1, w_at_app _ _ _ this.2.2]; exact a
theorem yPc.eq {w : Bool} (h : yPc w hp H V O x g) (e : yU x y) (hi : ∃ e, g_it G = e ++ g_it g) (hcx : w_ph g ≤ w_ph G) : yPc w hp H V O y G := by
  obtain ⟨L, t, h1, h2, h3, h4, h5, h6, h7, h8, h9, h10, h11⟩ := h
  obtain ⟨i, hi⟩ := hi
  refine ⟨L, t, by rw [e.1 66 rfl]; exact h1, h2, by rw [e.1 65 rfl]; exact h3, h4, by omega, ?_, fun q hq => ?_, by rw [e.2 52 rfl]; exact h8, h9, by rw [e.2 52 rfl]; exact h10, fun s hs hq => ?_⟩
  · rw [e.2 63 rfl, e.2 64 rfl, e.2 65 rfl, hi]
    refine h6.mono (fun k q _ hq a => ?_)
    have := h7 q hq
    rw [w_at_app _ _ _ this.2.1, w_at_app _ _ _ this.2.2]; exact a
  · have := h7 q hq
    rw [hi, List.length_append]; exact ⟨this.1, by omega, by omega⟩
  · obtain ⟨a1, a2⟩ := h11 s hs hq
    rw [e.2 58 rfl, hi, w_at_app _ _ _ a2, List.length_append]
    exact ⟨a1, by omega⟩
theorem yX.eq (h : yX P hp H V O C lm lv ct x g) (e : yU x y) (hl : ∀ l, l < g_nl g → lm' l = lm l ∧ lv' l = lv l ∧ ct' l = ct l) (hi : ∃ e, g_it G = e ++ g_it g) (hn : g_nl g ≤ g_nl G) (hrg : g_rg G = g_rg g) (hcx : g_cx G = g_cx g) (hpl : ∀ k, g_pl G (4000 + k) = g_pl g (4000 + k)) (hN : yNn y G) : yX P hp H V O C lm' lv' ct' y G := by
  obtain ⟨-, a2, a3, a4, a5⟩ := h
  refine ⟨hN, ?_, fun k l hk => ?_, fun s hs => ?_, a5.eq e hi (by unfold w_ph; rw [hrg, hcx]; exact Nat.le_refl _)⟩
  · obtain ⟨i, hi⟩ := hi
    rw [e.1 45 rfl, e.2 22 rfl, hrg, hi]; exact a2.app i
  · rw [hpl] at hk
    obtain ⟨p0, p1, p2, p3, p4⟩ := a3 k l hk
    obtain ⟨e1, e2, e3⟩ := hl _ p1
    rw [e.2 35 rfl, e1, e2, e3]; exact ⟨p0, Nat.lt_of_lt_of_le p1 hn, p2, p3, p4⟩
  · have := (a4 s hs).lab (fun l hl' => ⟨(hl l hl').1, (hl l hl').2.1⟩) hn
    unfold y_sb at *
    rw [e.2 53 rfl, e.2 54 rfl, e.2 55 rfl, e.2 56 rfl, e.2 57 rfl]; exact this
theorem yNn.eq (h : yNn x g) (e : yU x y) (hs : wU g G) : yNn y G := by
  obtain ⟨s1, s2, s3, -⟩ := hs
  unfold yNn at *
  rw [e.1 32 rfl, e.1 33 rfl, e.1 60 rfl, s1, s2, s3]; exact h
theorem y1.nP {X : List (Nat × Bool)} {hp' : Nat} : y1 (pH P hp') X lm lv x g ↔ y1 P X lm lv x g := Iff.rfl
/-- while all is exact, as values see it -/
theorem Y2.vx {b : Nat} (h : Y2 nt N P hp H O K u sb C o V lm lv ct x g) (h0 : x.1 0 29 = 0) (hb : 45000 ≤ b) (hb2 : b ≤ 49900) : Y1 nt N (pH P hp) [] b lm lv x g := by
  obtain ⟨he, -, -, hx⟩ := h
  rcases hx with ⟨-, h1, h2, h3, -⟩ | ⟨q, -⟩
  · exact ⟨(he.pl (fun v p a b => ⟨(h1 v p a b).1, (h1 v p a b).2.1⟩)).pH, by simpa using hb, hb2, Or.inl ⟨h0, h2, h3⟩⟩
  · exact absurd h0 q
theorem Y2.vm (h : Y2 nt N P hp H O K u sb C o V lm lv ct x g) (h0 : ¬ x.1 0 29 = 0) : Y1 nt N (pH P hp) [] 49600 lm lv x (s_mu g) ∧ c_over (pH P hp) g := by
  obtain ⟨he, -, -, hx⟩ := h
  rcases hx with ⟨q, -⟩ | ⟨-, h1, h2, h3⟩
  · exact absurd q h0
  · exact ⟨⟨he.pH, by simp, by decide, Or.inr ⟨h1, h2, Or.inl (Or.inl rfl)⟩⟩, h3⟩
/-- a value within a statement: while all is exact, and when it was much -/
theorem KS.of {r : mj_R} {b : Nat} (hm : wM g G) (h : Y2 nt N P hp H O K u sb C o V lm lv ct x g) (ho : z_ch (x.1 0 59) K V)
    (Cx : x.1 0 29 = 0 → KJ nt N (pH P hp) [] b (g_nl g) g r x lm lv G) (hb : b ≤ 49600)
    (Cm : ¬ x.1 0 29 = 0 → Y1 nt N (pH P hp) [] 49600 lm lv x (s_mu g) → QR nt N (pH P hp) [] 49600 lm lv (s_mu g) r x) (hs : wU g G) : KS nt N P hp H O K u sb (g_nl g) (z_skl V) C ct g r x lm lv G := by
  obtain ⟨he, hS, hC, hX⟩ := h
  have hS0 : yS2 P H V K u sb none x (g_cx g) := ⟨hS.1, hS.2.1, hS.2.2.1, hS.2.2.2.1, hS.2.2.2.2.1, ho, hS.2.2.2.2.2.2⟩
  have hct : ∀ l, l < g_nl g → (fun l => if l < g_nl g then ct l else false) l = ct l := fun l hl => if_pos hl
  by_cases h0 : x.1 0 29 = 0
  · have hX' := hX
    rcases hX with ⟨-, h1, h2, h3, h4⟩ | ⟨q, -⟩
    · obtain ⟨lm1, lv1, x1, e1, q1, l1, f1, t1⟩ := Cx h0
      have f1 : yfr (yw (p_pf P) (p_lf P)) (p_pf P) x x1 := f1
      have eU := yU.of f1
      have hlab : ∀ l, l < g_nl g → lm1 l = lm l ∧ lv1 l = lv l ∧ (fun l => if l < g_nl g then ct l else false) l = ct l := fun l hl => ⟨(l1 l hl).1, (l1 l hl).2, hct l hl⟩
      refine ⟨V, C, lm1, lv1, (fun l => if l < g_nl g then ct l else false), x1, e1, ⟨he.fr2 (K := K) f1.up, ?_, hC.eq (eU.2 35 rfl) hlab hm.nl, ?_⟩, rfl, fun _ h => h, hlab, f1.up, t1⟩
      · rw [hs.2.2.2.2.1]; exact hS0.eq eU
      · rcases q1.2.2.2 with ⟨z0, zL, z1⟩ | ⟨zM, zL, zo⟩
        · refine Or.inl ⟨z0, fun v p hv hp' => ⟨(q1.1.2.2.2.2.2.2.2.2.2 v p hv hp').1, (q1.1.2.2.2.2.2.2.2.2.2 v p hv hp').2, (h1 v p hv (by rw [hs.2.2.2.2.2] at hp'; exact hp')).2.2⟩, ?_, z1, ?_⟩
          · simpa using zL
          · exact h4.eq eU hlab hm.2.1 hm.nl hs.2.2.2.1 hs.2.2.2.2.1 (fun k => by rw [hs.2.2.2.2.2]) (h4.1.eq eU hs)
        · exact Or.inr ⟨by rw [zM.1]; decide, zM, zL.mono hb, zo⟩
    · exact absurd h0 q
  · rcases hX with ⟨q, -⟩ | ⟨-, h1, h2, h3⟩
    · exact absurd q h0
    · obtain ⟨x1, e1, q1, l1, f1, s1⟩ := Cm h0 ⟨he.pH, by simp, by decide, Or.inr ⟨h1, h2, Or.inl (Or.inl rfl)⟩⟩
      have f1 : yfr (yw (p_pf P) (p_lf P)) (p_pf P) x x1 := f1
      have eU := yU.of f1
      have z0 : ¬ x1.1 0 29 = 0 := fun w => h0 (s1 w).1
      obtain ⟨zM, zL, -⟩ := q1.mc z0
      have hlab : ∀ l, l < g_nl g → (fun l => if l < g_nl g then lm l else 0) l = lm l ∧ (fun l => if l < g_nl g then lv l else false) l = lv l ∧ (fun l => if l < g_nl g then ct l else false) l = ct l := fun l hl => ⟨if_pos hl, if_pos hl, if_pos hl⟩
      refine ⟨V, C, _, _, _, x1, e1, ⟨he.fr2 (K := K) f1.up, ?_, hC.eq (eU.2 35 rfl) hlab hm.nl, Or.inr ⟨z0, zM, zL.nl, h3.mono hm⟩⟩, rfl, fun _ h => h, hlab, f1.up, fun w => absurd w z0⟩
      rw [hs.2.2.2.2.1]; exact hS0.eq eU
theorem KS.b {hp' K' u' sb' : Nat} {H' : List wSl} {O' : List (Int32 × List (Nat × Nat))} {n n1 : Nat} {S S1 : List (Nat × Int32)} {r : mj_R} {k : mj_X → mj_R} {L : wG} (hn : n ≤ n1) (hKK : K' ≤ K) (h : KS nt N P hp H O K u sb n1 S1 C ct g r x lm lv G)
    (hk : ∀ V' C' lm' lv' ct' x', Y2 nt N P hp H O K u sb C' none V' lm' lv' ct' x' G → z_skl V' = S1 → (∀ k, C k → C' k) → (∀ l, l < n1 → lm' l = lm l ∧ lv' l = lv l ∧ ct' l = ct l) → yfr (yw2 P K) (p_pf P) x x' → (x'.1 0 29 = 0 → x.1 0 29 = 0) → KS nt N P hp' H' O' K' u' sb' n S C' ct' G (k x') x' lm' lv' L) :
    KS nt N P hp' H' O' K' u' sb' n S C ct g (mj_rV r k) x lm lv L := by
  obtain ⟨V1, C1, lm1, lv1, ct1, x1, e1, q1, v1, c1, l1, f1, t1⟩ := h
  obtain ⟨V2, C2, lm2, lv2, ct2, x2, e2, q2, v2, c2, l2, f2, t2⟩ := hk V1 C1 lm1 lv1 ct1 x1 q1 v1 c1 l1 f1 (fun w => (t1 w).1)
  refine ⟨V2, C2, lm2, lv2, ct2, x2, by rw [e1, mj_rV_k, e2], q2, v2, fun k hk => c2 k (c1 k hk), fun l hl => ?_, (f1.low hKK).tr f2, fun w => ?_⟩
  · have a := l1 l (by omega)
    have b := l2 l hl
    exact ⟨b.1.trans a.1, b.2.1.trans a.2.1, b.2.2.trans a.2.2⟩
  · obtain ⟨u1, u2⟩ := t2 w
    obtain ⟨v1, v2⟩ := t1 u1
    exact ⟨v1, v2.tr u2⟩
theorem KS.id_ {n : Nat} (h : Y2 nt N P hp H O K u sb C none V lm lv ct x g) : KS nt N P hp H O K u sb n (z_skl V) C ct g (some (none, x)) x lm lv g := ⟨V, C, lm, lv, ct, x, rfl, h, rfl, fun _ h => h, fun _ _ => ⟨rfl, rfl, rfl⟩, yfr.rf _ _ _, fun w => ⟨w, yT.rf rfl rfl rfl⟩⟩
theorem KS.end_ {n : Nat} {S : List (Nat × Int32)} {r : mj_R} (h : KS nt N P hp H O K u sb n S C ct g r x lm lv G) : KS nt N P hp H O K u sb n S C ct g (mj_rV r fun x1 => some (none, x1)) x lm lv G := by
  obtain ⟨V1, C1, lm1, lv1, ct1, x1, e1, q1⟩ := h
  exact ⟨V1, C1, lm1, lv1, ct1, x1, by rw [e1, mj_rV_k], q1⟩
theorem KS.le {n n1 : Nat} {S : List (Nat × Int32)} {r : mj_R} (h : KS nt N P hp H O K u sb n1 S C ct g r x lm lv G) (hn : n ≤ n1) : KS nt N P hp H O K u sb n S C ct g r x lm lv G := by
  obtain ⟨V1, C1, lm1, lv1, ct1, x1, e1, q1, v1, c1, l1, f1⟩ := h
  exact ⟨V1, C1, lm1, lv1, ct1, x1, e1, q1, v1, c1, fun l hl => l1 l (by omega), f1⟩
/-- a write at the end, or at the start -/
theorem KS.ret {n : Nat} (h : Y2 nt N P hp H O K u sb C none V lm lv ct y G) (f : yfr (yw2 P K) (p_pf P) x y) (t : y.1 0 29 = 0 → x.1 0 29 = 0 ∧ yT x g y G) : KS nt N P hp H O K u sb n (z_skl V) C ct g (some (none, y)) x lm lv G := ⟨V, C, lm, lv, ct, y, rfl, h, rfl, fun _ h => h, fun _ _ => ⟨rfl, rfl, rfl⟩, f, t⟩
theorem KS.pre {n : Nat} {S : List (Nat × Int32)} {r : mj_R} {L : wG} (h : KS nt N P hp H O K u sb n S C ct g r y lm lv L) (f : yfr (yw2 P K) (p_pf P) x y) (t : y.1 0 29 = 0 → x.1 0 29 = 0 ∧ yT x G y g) : KS nt N P hp H O K u sb n S C ct G r x lm lv L := by
  obtain ⟨V1, C1, lm1, lv1, ct1, x1, e1, q1, v1, c1, l1, f1, t1⟩ := h
  refine ⟨V1, C1, lm1, lv1, ct1, x1, e1, q1, v1, c1, l1, f.tr f1, fun w => ?_⟩
  obtain ⟨u1, u2⟩ := t1 w
  obtain ⟨v1, v2⟩ := t u1
  exact ⟨v1, v2.tr u2⟩
/-- the end of a result, told anew -/
theorem KS.fin {hp' K' u' sb' : Nat} {H' : List wSl} {O' : List (Int32 × List (Nat × Nat))} {n : Nat} {S S' : List (Nat × Int32)} {r : mj_R} {L : wG} (hKK : K' ≤ K) (h : KS nt N P hp H O K u sb n S C ct g r x lm lv G) (hT : ∀ x', yT x g x' G → yT x g x' L) (hk : ∀ V' C' lm' lv' ct' x', Y2 nt N P hp H O K u sb C' none V' lm' lv' ct' x' G → z_skl V' = S → ∃ V2, Y2 nt N P hp' H' O' K' u' sb' C' none V2 lm' lv' ct' x' L ∧ z_skl V2 = S') : KS nt N P hp' H' O' K' u' sb' n S' C ct g r x lm lv L := by
  obtain ⟨V1, C1, lm1, lv1, ct1, x1, e1, q1, v1, c1, l1, f1, t1⟩ := h
  obtain ⟨V2, q2, v2⟩ := hk V1 C1 lm1 lv1 ct1 x1 q1 v1
  exact ⟨V2, C1, lm1, lv1, ct1, x1, e1, q2, v2, c1, l1, f1.low hKK, fun w => ⟨(t1 w).1, hT _ (t1 w).2⟩⟩
theorem Y2.T (h : Y2 nt N P hp H O K u sb C o V lm lv ct x g) : x.1 1 = nt 0 ∧ x.1 2 = nt 1 ∧ x.1 3 = nt 2 ∧ x.1 4 = nt 3 ∧ N ≤ 4000 := ⟨h.1.1.2.2.1, h.1.1.2.2.2.1, h.1.1.2.2.2.2.1, h.1.1.2.2.2.2.2.1, h.1.1.2.1⟩
theorem Y2.nd (h : Y2 nt N P hp H O K u sb C o V lm lv ct x g) {n : Int32} (hn : sp_nd N n = true) (r : mj_R) : mj_g n 4000 r = r := mj_g_k (sp_nd_in h.T.2.2.2.2 hn (Nat.le_refl _)) r
theorem Y2.ex (h : Y2 nt N P hp H O K u sb C o V lm lv ct x g) (h0 : x.1 0 29 = 0) : (∀ v p, v < 4000 → g_pl g v = some p → x.1 35 v = nI p ∧ p < 256 ∧ nt 0 v = 5) ∧ yL [] (g_nl g) lm lv x (g_us g) ∧ y1 P [] lm lv x g ∧ yX P hp H V O C lm lv ct x g := by
  rcases h.2.2.2 with q | q
  · exact q.2
  · exact absurd h0 q.1
theorem Y2.mc (h : Y2 nt N P hp H O K u sb C o V lm lv ct x g) (h0 : ¬ x.1 0 29 = 0) : yM P x ∧ yL [] (g_nl g) lm lv x 49600 ∧ c_over (pH P hp) g := by
  rcases h.2.2.2 with q | q
  · exact absurd q.1 h0
  · exact q.2
theorem Y2.live (h : Y2 nt N P hp H O K u sb C o V lm lv ct x g) (hl : ¬ yq x) : x.1 0 29 = 0 ∧ x.1 0 30 = 1 ∧ w_q g = false := by
  have h2 : x.1 0 29 = 0 := Decidable.byContradiction fun q => hl (Or.inr q)
  exact (h.vx (b := 45000) h2 (by decide) (by decide)).live hl
theorem Y2.dead (h : Y2 nt N P hp H O K u sb C o V lm lv ct x g) (hl : yq x) (h0 : x.1 0 29 = 0) : x.1 0 30 = 0 ∧ g_al g = false ∧ w_q g = true := (h.vx (b := 45000) h0 (by decide) (by decide)).dead hl h0
/-- when it was much nothing more is asked of what S goes on to do -/
theorem Y2.skip (h : Y2 nt N P hp H O K u sb C o V lm lv ct x g) (h0 : ¬ x.1 0 29 = 0) (hm : wM g G) : ∃ V' lm' lv' ct', Y2 nt N P hp H O K u sb C o V' lm' lv' ct' x G ∧ z_skl V' = z_skl V ∧ ∀ l, l < g_nl g → lm' l = lm l ∧ lv' l = lv l ∧ ct' l = ct l := by
  obtain ⟨m1, m2, m3⟩ := h.mc h0
  obtain ⟨he, hS, hC, -⟩ := h
  obtain ⟨s1, s2, s3, s4, s5, s6, s7, s8, s9⟩ := hS
  have hk := hm.2.2.2.2.2.1
  rw [← s1] at hk
  obtain ⟨r1, r2, r3⟩ := z_re_s V (g_cx G) hk
  have hlab : ∀ l, l < g_nl g → (fun l => if l < g_nl g then lm l else 0) l = lm l ∧ (fun l => if l < g_nl g then lv l else false) l = lv l ∧ (fun l => if l < g_nl g then ct l else false) l = ct l := fun l hl => ⟨if_pos hl, if_pos hl, if_pos hl⟩
  refine ⟨z_re V (g_cx G), _, _, _, ⟨he, ⟨r1, s2, s3, s4, s5, s6.skl r2, ?_, fun t ht => ?_, s9⟩, hC.eq rfl hlab hm.nl, Or.inr ⟨h0, m1, m2.nl, m3.mono hm⟩⟩, r2, hlab⟩
  · refine pw_ne ?_ s7
    rw [List.map_append, List.map_append, pw_skl r2]
  · rcases List.mem_append.mp ht with q | q
    · exact s8 t (List.mem_append.mpr (Or.inl q))
    · obtain ⟨s, hs, e1, e2, e3⟩ := r3 t q
      have := s8 s (List.mem_append.mpr (Or.inr hs))
      have e : t.2.2.1 = s.2.2.1 := by have := congrArg Prod.fst e3; exact this
      rw [e1, e2, e]; exact this
theorem KS.skip {n : Nat} (h : Y2 nt N P hp H O K u sb C none V lm lv ct x g) (h0 : ¬ x.1 0 29 = 0) (hm : wM g G) (hn : n ≤ g_nl g) : KS nt N P hp H O K u sb n (z_skl V) C ct g (some (none, x)) x lm lv G := by
  obtain ⟨V', lm', lv', ct', q, v, l⟩ := h.skip h0 hm
  exact ⟨V', C, lm', lv', ct', x, rfl, q, v, fun _ h => h, fun i hi => l i (by omega), yfr.rf _ _ _, fun w => absurd w h0⟩
end
