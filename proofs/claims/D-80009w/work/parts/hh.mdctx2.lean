/-! statements of CodeWriterModel: what they keep survives values; results that follow one another -/
section
variable {nt : sp_NT} {N M : Nat} {w : Bool} {ba pf rf lf c hp : Nat} {H V : List wSl} {K u : Nat} {o : Option Int32} {lm lm' : Nat → Nat} {lv lv' : Nat → Bool} {x y : mj_X} {g G : wG}
theorem zS.eq {cx : List wC} (h : zS M rf H V K u o x cx) (e : eS M x y) : zS M rf H V K u o y cx := by
  obtain ⟨⟨e41, e58, e59, e17⟩, ⟨e61, e62⟩, ⟨e44, e72⟩, e68, e69, e74⟩ := e
  unfold zS z_sk at *
  rw [e41, e44, e58, e59, e72, e17, e61, e62, e68, e69, e74]; exact h
theorem z_sb.lab {s : wSl} {nl nl' : Nat} (h : z_sb nl lm lv x s) (hl : ∀ l, l < nl → lm' l = lm l ∧ lv' l = lv l) (hn : nl ≤ nl') : z_sb nl' lm' lv' x s := by
  obtain ⟨c1, c2, c3⟩ := h
  refine ⟨fun q => ?_, fun q => ?_, c3⟩
  · obtain ⟨p1, p2, p3⟩ := c1 q
    have := hl _ p1
    rw [this.1, this.2]; exact ⟨Nat.lt_of_lt_of_le p1 hn, p2, p3⟩
  · obtain ⟨p1, p2, p3⟩ := c2 q
    have := hl _ p1
    rw [this.1, this.2]; exact ⟨Nat.lt_of_lt_of_le p1 hn, p2, p3⟩
theorem z_sb.eq {s : wSl} {nl : Nat} (h : z_sb nl lm lv x s) (e : eX x y) : z_sb nl lm lv y s := by
  obtain ⟨-, e63, e64, e65, e66, -⟩ := e
  unfold z_sb at *; rw [e63, e64, e65, e66]; exact h
theorem z_sx.eq {its : List (wI × wF)} {s : wSl} {ps : List Nat} (h : z_sx w its x s ps) (e : eX x y) (e68 : y.1 68 = x.1 68) (e69 : y.1 69 = x.1 69) : z_sx w its y s ps := by
  obtain ⟨-, -, -, -, -, e67, e70, e71, e72⟩ := e
  unfold z_sx at *; rw [e67, e68, e69, e70, e71, e72]; exact h
theorem zP.eq (h : zP w hp H V x g) (e : eZ x y) (e' : eX x y) (hi : ∃ e, g_it G = e ++ g_it g) (hph : w_ph g ≤ w_ph G) : zP w hp H V y G := by
  obtain ⟨n, ps, h1, h2, h3, h4⟩ := h
  obtain ⟨i, hi⟩ := hi
  refine ⟨n, ps, by rw [e.1.2]; exact h1, by omega, fun s hs => ⟨?_, (h3 s hs).2⟩, h4⟩
  rw [hi]
  exact ((h3 s hs).1.app i).eq e' e.2.1 e.2.2.1
theorem zX.eq (h : zX w rf hp lm lv H V x g) (e : eZ x y) (e' : eX x y) (hl : ∀ l, l < g_nl g → lm' l = lm l ∧ lv' l = lv l) (hi : ∃ e, g_it G = e ++ g_it g) (hn : g_nl g ≤ g_nl G) (hrg : g_rg G = g_rg g) (hcx : g_cx G = g_cx g) (hpl : ∀ k, g_pl G (4000 + k) = g_pl g (4000 + k)) (hN : zN y G) : zX w rf hp lm' lv' H V y G := by
  obtain ⟨-, a2, a3, a4, a5⟩ := h
  have hph : w_ph g ≤ w_ph G := by unfold w_ph; rw [hrg, hcx]; exact Nat.le_refl _
  refine ⟨hN, ?_, fun k l hk => ?_, fun s hs => ((a4 s hs).lab hl hn).eq e', a5.eq e e' hi hph⟩
  · obtain ⟨i, hi⟩ := hi
    rw [e.1.1, e'.1, hrg, hi]; exact a2.app i
  · rw [hpl] at hk
    obtain ⟨p1, p2, p3⟩ := a3 k l hk
    have := hl _ p1
    rw [e.2.2.2, this.1, this.2]; exact ⟨Nat.lt_of_lt_of_le p1 hn, p2, p3⟩
theorem zN.ofzw (h : zN x g) (f : zfr (zw ba pf lf) x y) (hs : wU g G) : zN y G := by
  obtain ⟨s1, s2, s3, -⟩ := hs
  unfold zN at *
  rw [f.2 0 38 rfl, f.2 0 39 rfl, f.2 0 40 rfl, s1, s2, s3]; exact h
/-- what Q1 does not read -/
def zo (k j : Nat) : Bool := match k with
  | 0 => [38, 39, 40, 41, 44, 58, 59, 72].elem j
  | 24 => true
  | 61 => true
  | 62 => true
  | 63 => true
  | 64 => true
  | 65 => true
  | 66 => true
  | 67 => true
  | 68 => true
  | 69 => true
  | 70 => true
  | 71 => true
  | 72 => true
  | 74 => true
  | 75 => true
  | _ => false
/-- the same for Q1 -/
def wWq (g G : wG) : Prop := g_it G = g_it g ∧ g_al G = g_al g ∧ g_ov G = g_ov g ∧ g_st G = g_st g ∧ g_ms G = g_ms g ∧ g_ln G = g_ln g ∧ g_pn G = g_pn g ∧ g_po G = g_po g ∧ G.2.2.2.2.2.2.2.2.1 = g.2.2.2.2.2.2.2.2.1 ∧ g_pl G = g_pl g
theorem z_env.ofzo {pl : Nat → Option Nat} (h : z_env nt N M ba pf lf pl x) (f : zfr zo x y) : z_env nt N M ba pf lf pl y := by
  obtain ⟨⟨t1, t2, t3, t4, t5, t6, t7, t8⟩, h2, h3, h4, h5, h6, h7, h8, h9⟩ := h
  have E : ∀ k, (∀ j, zo k j = false) → y.1 k = x.1 k := fun k hk => funext fun j => f.2 k j (hk j)
  have e := f.2
  refine ⟨⟨?_, t2, ?_, ?_, ?_, ?_, ?_, ?_⟩, ?_, h3, ?_, ?_, h6, h7, h8, ?_⟩
  · rw [e 0 0 rfl]; exact t1
  · rw [E 2 (fun _ => rfl)]; exact t3
  · rw [E 3 (fun _ => rfl)]; exact t4
  · rw [E 4 (fun _ => rfl)]; exact t5
  · rw [E 5 (fun _ => rfl)]; exact t6
  · rw [E 6 (fun _ => rfl)]; exact t7
  · rw [E 7 (fun _ => rfl)]; exact t8
  · rw [e 0 7 rfl]; exact h2
  · rw [e 16 M rfl]; exact h4
  · rw [e 18 M rfl]; exact h5
  · rw [E 48 (fun _ => rfl)]; exact h9
theorem m1.ofzo (h : m1 ba lf c x) (f : zfr zo x y) : m1 ba lf c y := by
  refine h.of (fun j hj => f.2 0 j ?_) (funext fun j => f.2 57 j rfl)
  have : j = 31 ∨ j = 33 ∨ j = 35 ∨ j = 50 ∨ j = 57 ∨ j = 45 ∨ j = 34 ∨ j = 32 ∨ j = 55 := by simpa using hj
  rcases this with rfl | rfl | rfl | rfl | rfl | rfl | rfl | rfl | rfl <;> rfl
theorem Q1.ext (h : Q1 nt N M w ba pf rf lf c lm lv x g) (f : zfr zo x y) (s : wWq g G) (hph : w_ph g ≤ w_ph G) : Q1 nt N M w ba pf rf lf c lm lv y G := by
  obtain ⟨he, hlm, h⟩ := h
  obtain ⟨s1, s2, s3, s4, s5, s6, s7, s8, s9, s10⟩ := s
  have E : ∀ k, (∀ j, zo k j = false) → y.1 k = x.1 k := fun k hk => funext fun j => f.2 k j (hk j)
  have e := f.2
  refine ⟨by rw [s10]; exact he.ofzo f, by rw [show g_nl G = g_nl g from congrArg Prod.fst s9]; exact hlm, ?_⟩
  rcases h with ⟨ho, h⟩ | ⟨h, ho⟩
  · left
    refine ⟨by rw [s3]; exact ho, ?_⟩
    unfold z1 at *
    rw [s1, s2, s4, s5, s6, s7, s8, s9, show g_nl G = g_nl g from congrArg Prod.fst s9, e 0 34 rfl, e 0 31 rfl, e 0 32 rfl, e 0 33 rfl, E 19 (fun _ => rfl), e 0 55 rfl, E 52 (fun _ => rfl), E 53 (fun _ => rfl), E 54 (fun _ => rfl), E 55 (fun _ => rfl), e 0 50 rfl, e 0 57 rfl, E 49 (fun _ => rfl), E 50 (fun _ => rfl), E 57 (fun _ => rfl), e 0 42 rfl, e 0 43 rfl, E 20 (fun _ => rfl), E 21 (fun _ => rfl), E 22 (fun _ => rfl), E 23 (fun _ => rfl), e 0 45 rfl, e 0 46 rfl, E 25 (fun _ => rfl), e 0 35 rfl, e 0 36 rfl, e 0 37 rfl]
    exact h
  · right
    refine ⟨h.ofzo f, ?_⟩
    unfold w_over at *
    rw [s1, s3, s6]
    rcases ho with ho | ho | ho | ho
    · exact Or.inl ho
    · exact Or.inr (Or.inl ho)
    · exact Or.inr (Or.inr (Or.inl (by omega)))
    · exact Or.inr (Or.inr (Or.inr ho))
theorem Q1.mu {hp' : Nat} (hlm : ∀ l, l < g_nl g → lm l < 300000) (he : z_env nt N M ba pf lf (fun _ => none) x) (hm : m1 ba lf c x) : Q1 nt N M w ba pf hp' lf c lm lv x (s_mu g) := ⟨he, hlm, Or.inr ⟨hm, Or.inl rfl⟩⟩
theorem lm_ext (hlm : ∀ l, l < g_nl g → lm l < 300000) : (∀ l, l < g_nl G → (fun l => if l < g_nl g then lm l else 0) l < 300000) ∧ ∀ l, l < g_nl g → (fun l => if l < g_nl g then lm l else 0) l = lm l := by
  refine ⟨fun l _ => ?_, fun l hl => if_pos hl⟩
  show (if l < g_nl g then lm l else 0) < 300000
  by_cases q : l < g_nl g
  · rw [if_pos q]; exact hlm l q
  · rw [if_neg q]; decide
/-- a value within a statement: while all is exact, and when it was much -/
theorem J2.of3 {r : mj_R} (hm : wM g G) (h : Q2 nt N M w ba pf rf lf c hp H K u none V lm lv x g)
    (C : x.1 0 34 = 0 → Q1 nt N M w ba pf (rf + hp) lf c lm lv x g → J1 nt N M w ba pf (rf + hp) lf c r x lm lv g G)
    (Cm : ¬ x.1 0 34 = 0 → m1 ba lf c x → ∃ x', r = some (none, x') ∧ zfr (zw ba pf lf) x x' ∧ m1 ba lf c x') (hs : wU g G) : J2 nt N M w ba pf rf lf c hp H K u (g_nl g) (z_skl V) r x lm lv G := by
  obtain ⟨hlm, he, hS, hX⟩ := h
  rcases hX with ⟨h0, q, hx⟩ | ⟨h0, hm1, ho⟩
  · obtain ⟨lm1, lv1, x1, e1, q1, l1, f1⟩ := C h0 q
    refine ⟨V, lm1, lv1, x1, e1, ⟨q1.2.1, he.fr f1, ?_, ?_⟩, rfl, l1, f1.up, fun n => absurd h0 n⟩
    · rw [hs.2.2.2.2.1]; exact hS.eq (eS.of_zw f1)
    · by_cases h1 : x1.1 0 34 = 0
      · exact Or.inl ⟨h1, q1, hx.eq (eS.of_zw (M := M) f1).2.2 (eX.of_zw f1) l1 hm.2.1 hm.2.2.2.2.2.2.1 hs.2.2.2.1 hs.2.2.2.2.1 (fun k => by rw [hs.2.2.2.2.2]) (hx.1.ofzw f1 hs)⟩
      · rcases q1.2.2 with p | p
        · exact absurd p.2.1 h1
        · exact Or.inr ⟨h1, p⟩
  · obtain ⟨x1, e1, f1, p⟩ := Cm h0 hm1
    have hl := lm_ext (g := g) (G := G) hlm
    refine ⟨V, _, lv, x1, e1, ⟨hl.1, he.fr f1, ?_, Or.inr ⟨by rw [p.1]; decide, p, ho.mono hm⟩⟩, rfl, fun l hl' => ⟨hl.2 l hl', rfl⟩, f1.up, fun _ => by rw [p.1]; decide⟩
    rw [hs.2.2.2.2.1]; exact hS.eq (eS.of_zw f1)
theorem J2.of {r : mj_R} {T : wG → wG} (hT : ∀ k, wM k (T k)) (hoks : g_ok (T (s_mu g))) (h : Q2 nt N M w ba pf rf lf c hp H K u none V lm lv x g)
    (C : ∀ k, k = g ∨ k = s_mu g → Q1 nt N M w ba pf (rf + hp) lf c lm lv x k → g_ok (T k) → J1 nt N M w ba pf (rf + hp) lf c r x lm lv k (T k)) (hok : g_ok (T g)) (hs : wU g (T g)) : J2 nt N M w ba pf rf lf c hp H K u (g_nl g) (z_skl V) r x lm lv (T g) := by
  refine J2.of3 (hT g) h (fun _ q => C g (Or.inl rfl) q hok) (fun _ hm => ?_) hs
  obtain ⟨lm1, lv1, x1, e1, q1, l1, f1⟩ := C (s_mu g) (Or.inr rfl) (Q1.mu h.1 h.2.1 hm) hoks
  refine ⟨x1, e1, f1, ?_⟩
  rcases q1.2.2 with p | p
  · exact absurd p.1 (by rw [(hT (s_mu g)).2.2.1 rfl]; decide)
  · exact p.1
theorem J2.b {hp' K' u' : Nat} {H' : List wSl} {n n1 : Nat} {S S1 : List (Nat × Int32)} {r : mj_R} {k : mj_X → mj_R} {L : wG} (hn : n ≤ n1) (h : J2 nt N M w ba pf rf lf c hp H K u n1 S1 r x lm lv G)
    (hk : ∀ V' lm' lv' x', Q2 nt N M w ba pf rf lf c hp H K u none V' lm' lv' x' G → z_skl V' = S1 → (∀ l, l < n1 → lm' l = lm l ∧ lv' l = lv l) → zfr (zw2 ba pf rf lf) x x' → (¬ x.1 0 34 = 0 → ¬ x'.1 0 34 = 0) → J2 nt N M w ba pf rf lf c hp' H' K' u' n S (k x') x' lm' lv' L) :
    J2 nt N M w ba pf rf lf c hp' H' K' u' n S (mj_rV r k) x lm lv L := by
  obtain ⟨V1, lm1, lv1, x1, e1, q1, v1, l1, f1, m1⟩ := h
  obtain ⟨V2, lm2, lv2, x2, e2, q2, v2, l2, f2, m2⟩ := hk V1 lm1 lv1 x1 q1 v1 l1 f1 m1
  refine ⟨V2, lm2, lv2, x2, by rw [e1, mj_rV_k, e2], q2, v2, fun l hl => ?_, f1.tr f2, fun q => m2 (m1 q)⟩
  have a := l1 l (by omega)
  have b := l2 l hl
  exact ⟨b.1.trans a.1, b.2.trans a.2⟩
theorem J2.id_ {n : Nat} (h : Q2 nt N M w ba pf rf lf c hp H K u none V lm lv x g) : J2 nt N M w ba pf rf lf c hp H K u n (z_skl V) (some (none, x)) x lm lv g := ⟨V, lm, lv, x, rfl, h, rfl, fun _ _ => ⟨rfl, rfl⟩, zfr.rf _ x, fun q => q⟩
theorem J2.end_ {n : Nat} {S : List (Nat × Int32)} {r : mj_R} (h : J2 nt N M w ba pf rf lf c hp H K u n S r x lm lv G) : J2 nt N M w ba pf rf lf c hp H K u n S (mj_rV r fun x1 => some (none, x1)) x lm lv G := by
  obtain ⟨V1, lm1, lv1, x1, e1, q1⟩ := h
  exact ⟨V1, lm1, lv1, x1, by rw [e1, mj_rV_k], q1⟩
theorem J2.ret {n : Nat} (h : Q2 nt N M w ba pf rf lf c hp H K u none V lm lv y g) (f : zfr (zw2 ba pf rf lf) x y) (hm : ¬ x.1 0 34 = 0 → ¬ y.1 0 34 = 0) : J2 nt N M w ba pf rf lf c hp H K u n (z_skl V) (some (none, y)) x lm lv g := ⟨V, lm, lv, y, rfl, h, rfl, fun _ _ => ⟨rfl, rfl⟩, f, hm⟩
/-- the start of a result may be moved back over writes -/
theorem J2.pre {n : Nat} {S : List (Nat × Int32)} {r : mj_R} (h : J2 nt N M w ba pf rf lf c hp H K u n S r y lm lv G) (f : zfr (zw2 ba pf rf lf) x y) (hm : ¬ x.1 0 34 = 0 → ¬ y.1 0 34 = 0) : J2 nt N M w ba pf rf lf c hp H K u n S r x lm lv G := by
  obtain ⟨V1, lm1, lv1, x1, e1, q1, v1, l1, f1, m1⟩ := h
  exact ⟨V1, lm1, lv1, x1, e1, q1, v1, l1, f.tr f1, fun q => m1 (hm q)⟩
theorem J2.le {n n1 : Nat} {S : List (Nat × Int32)} {r : mj_R} (h : J2 nt N M w ba pf rf lf c hp H K u n1 S r x lm lv G) (hn : n ≤ n1) : J2 nt N M w ba pf rf lf c hp H K u n S r x lm lv G := by
  obtain ⟨V1, lm1, lv1, x1, e1, q1, v1, l1, f1⟩ := h
  exact ⟨V1, lm1, lv1, x1, e1, q1, v1, fun l hl => l1 l (by omega), f1⟩
/-- what the end of a result is may be told anew -/
theorem J2.fin {hp' K' u' : Nat} {H' : List wSl} {n : Nat} {S S' : List (Nat × Int32)} {r : mj_R} {L : wG} (h : J2 nt N M w ba pf rf lf c hp H K u n S r x lm lv G) (hk : ∀ V' lm' lv' x', Q2 nt N M w ba pf rf lf c hp H K u none V' lm' lv' x' G → z_skl V' = S → ∃ V2, Q2 nt N M w ba pf rf lf c hp' H' K' u' none V2 lm' lv' x' L ∧ z_skl V2 = S') : J2 nt N M w ba pf rf lf c hp' H' K' u' n S' r x lm lv L := by
  obtain ⟨V1, lm1, lv1, x1, e1, q1, v1, l1, f1⟩ := h
  obtain ⟨V2, q2, v2⟩ := hk V1 lm1 lv1 x1 q1 v1
  exact ⟨V2, lm1, lv1, x1, e1, q2, v2, l1, f1⟩
/-- a new label -/
theorem J2.lb {hp' K' u' : Nat} {H' : List wSl} {d n : Nat} {S : List (Nat × Int32)} (hd : 1 ≤ d) (hc0 : 1 ≤ c) (hc : c ≤ 4000) {F : wF} {k : Int32 → mj_X → mj_R} {L : wG} (h : Q2 nt N M w ba pf rf lf c hp H K u o V lm lv x g) (hok : g_ok (w_lb F g)) (hn : n ≤ g_nl g)
    (hk : ∀ lm' lv' x', Q2 nt N M w ba pf rf lf c hp H K u o V lm' lv' x' (w_lb F g) → lv' (g_nl g) = true → (∀ l, l < g_nl g → lm' l = lm l ∧ lv' l = lv l) → zfr (zw ba pf lf) x x' → (¬ x.1 0 34 = 0 → ¬ x'.1 0 34 = 0) → J2 nt N M w ba pf rf lf c hp' H' K' u' n S (k (nI (lm' (g_nl g))) x') x' lm' lv' L) :
    J2 nt N M w ba pf rf lf c hp' H' K' u' n S (mj_rI (kX1 d 45 [.ref 0] x) k) x lm lv L := by
  obtain ⟨c', rfl⟩ : ∃ c', c = c' + 1 := ⟨c - 1, by omega⟩
  obtain ⟨hlm, he, hS, hX⟩ := h
  have key : ∃ i x', kX1 d 45 [.ref 0] x = some (some (.int (nI i)), x') ∧ zfr (zw ba pf lf) x x' ∧ Q2 nt N M w ba pf rf lf (c' + 1) hp H K u o V (fun l => if l = g_nl g then i else lm l) (fun l => if l = g_nl g then true else lv l) x' (w_lb F g) ∧ (¬ x.1 0 34 = 0 → ¬ x'.1 0 34 = 0) := by
    have hag : ∀ i : Nat, ∀ l, l < g_nl g → (fun l => if l = g_nl g then i else lm l) l = lm l ∧ (fun l => if l = g_nl g then true else lv l) l = lv l := fun i l hl => ⟨if_neg (by omega), if_neg (by omega)⟩
    rcases hX with ⟨h0, q, hx⟩ | ⟨h0, hm, ho⟩
    · obtain ⟨i, x1, e1, f1, -, q1⟩ := m_lb hd hc q hok
      refine ⟨i, x1, e1, f1, ⟨q1.2.1, he.fr f1, hS.eq (eS.of_zw f1), ?_⟩, fun n => absurd h0 n⟩
      by_cases h1 : x1.1 0 34 = 0
      · exact Or.inl ⟨h1, q1.mono (Nat.le_succ _), hx.eq (g := g) (eS.of_zw (M := M) f1).2.2 (eX.of_zw f1) (hag i) ⟨[], rfl⟩ (Nat.le_succ _) rfl rfl (fun _ => rfl) (hx.1.ofzw (g := g) f1 ⟨rfl, rfl, rfl, rfl, rfl, rfl⟩)⟩
      · rcases q1.2.2 with p | p
        · exact absurd p.2.1 h1
        · exact Or.inr ⟨h1, p.1.mono (Nat.le_succ _), p.2⟩
    · obtain ⟨i, x1, e1, f1, -, q1⟩ := m_lb hd hc (Q1.mu (w := w) (lv := lv) (hp' := rf + hp) hlm he hm) (F := F) hok
      have p : m1 ba lf c' x1 := by
        rcases q1.2.2 with p | p
        · exact absurd p.1 (by show ¬ true = false; decide)
        · exact p.1
      exact ⟨i, x1, e1, f1, ⟨q1.2.1, he.fr f1, hS.eq (eS.of_zw f1), Or.inr ⟨by rw [p.1]; decide, p.mono (Nat.le_succ _), ho.mono ((wM.rf g).lb F)⟩⟩, fun _ => by rw [p.1]; decide⟩
  obtain ⟨i, x1, e1, f1, q1, m1⟩ := key
  have hag : ∀ l, l < g_nl g → (fun l => if l = g_nl g then i else lm l) l = lm l ∧ (fun l => if l = g_nl g then true else lv l) l = lv l := fun l hl => ⟨if_neg (by omega), if_neg (by omega)⟩
  obtain ⟨V2, lm2, lv2, x2, e2, q2, v2, l2, f2, m2⟩ := hk _ _ x1 q1 (if_pos rfl) hag f1 m1
  rw [if_pos rfl] at e2
  refine ⟨V2, lm2, lv2, x2, by rw [e1, mj_rI_k, e2], q2, v2, fun l hl => ?_, f1.up.tr f2, fun q => m2 (m1 q)⟩
  have a := l2 l hl
  have b := hag l (by omega)
  exact ⟨a.1.trans b.1, a.2.trans b.2⟩
theorem Q2.T (h : Q2 nt N M w ba pf rf lf c hp H K u o V lm lv x g) : x.1 2 = nt 0 ∧ x.1 3 = nt 1 ∧ x.1 4 = nt 2 ∧ x.1 5 = nt 3 ∧ N ≤ 4000 := ⟨h.2.1.1.2.2.1, h.2.1.1.2.2.2.1, h.2.1.1.2.2.2.2.1, h.2.1.1.2.2.2.2.2.1, h.2.1.1.2.1⟩
theorem Q2.nd (h : Q2 nt N M w ba pf rf lf c hp H K u o V lm lv x g) {n : Int32} (hn : sp_nd N n = true) (r : mj_R) : mj_g n 4000 r = r := mj_g_k (sp_nd_in h.T.2.2.2.2 hn (Nat.le_refl _)) r
theorem Q2.ex (h : Q2 nt N M w ba pf rf lf c hp H K u o V lm lv x g) (h0 : x.1 0 34 = 0) : Q1 nt N M w ba pf (rf + hp) lf c lm lv x g ∧ zX w rf hp lm lv H V x g := by
  rcases h.2.2.2 with q | q
  · exact q.2
  · exact absurd h0 q.1
theorem Q2.mc (h : Q2 nt N M w ba pf rf lf c hp H K u o V lm lv x g) (h0 : ¬ x.1 0 34 = 0) : m1 ba lf c x ∧ w_over w (rf + hp) lf g := by
  rcases h.2.2.2 with q | q
  · exact absurd q.1 h0
  · exact q.2
theorem z_sk.wCs {s t : wSl} (h : z_sk x s) (h1 : t.1 = s.1) (h2 : t.2.1 = s.2.1) (h3 : wCs t.2.2 = wCs s.2.2) : z_sk x t := by
  have e : t.2.2.1 = s.2.2.1 := by have := congrArg Prod.fst h3; exact this
  unfold z_sk at *; rw [h1, h2, e]; exact h
/-- the contexts of a state with the numbers of another's -/
def z_re : List wSl → List wC → List wSl
  | [], _ => []
  | _ :: _, [] => []
  | s :: r, c :: q => (s.1, s.2.1, c) :: z_re r q
theorem z_re_s : ∀ (V : List wSl) (cx : List wC), wK (V.map (fun s => s.2.2)) cx → (z_re V cx).map (fun s => s.2.2) = cx ∧ z_skl (z_re V cx) = z_skl V ∧ (∀ t, t ∈ z_re V cx → ∃ s, s ∈ V ∧ t.1 = s.1 ∧ t.2.1 = s.2.1 ∧ wCs t.2.2 = wCs s.2.2) := by
  intro V
  induction V with
  | nil => intro cx h; cases cx with
    | nil => exact ⟨rfl, rfl, fun t ht => by cases ht⟩
    | cons _ _ => exact h.elim
  | cons s r ih => intro cx h; cases cx with
    | nil => exact h.elim
    | cons c q =>
      obtain ⟨i1, i2, i3⟩ := ih q h.2
      refine ⟨by show c :: _ = _; rw [i1], by show (s.1, s.2.1) :: z_skl (z_re r q) = (s.1, s.2.1) :: z_skl r; rw [i2], fun t ht => ?_⟩
      rcases List.mem_cons.mp ht with rfl | ht
      · exact ⟨s, by simp, rfl, rfl, h.1.1⟩
      · obtain ⟨a, b, e⟩ := i3 t ht
        exact ⟨a, List.mem_cons_of_mem _ b, e⟩
theorem z_ch.skl : ∀ {V V2 : List wSl} {hr : Int32} {k : Nat}, z_ch hr k V → z_skl V2 = z_skl V → z_ch hr k V2 := by
  intro V
  induction V with
  | nil => intro V2 hr k h e; cases V2 with
    | nil => exact h
    | cons _ _ => simp [z_skl] at e
  | cons s r ih => intro V2 hr k h e; cases V2 with
    | nil => simp [z_skl] at e
    | cons t q =>
      have e1 : (t.1, t.2.1) = (s.1, s.2.1) := by injection e
      have e2 : z_skl q = z_skl r := by injection e
      have e3 : t.1 = s.1 := by have := congrArg Prod.fst e1; exact this
      have e4 : t.2.1 = s.2.1 := by have := congrArg Prod.snd e1; exact this
      obtain ⟨a, b, d⟩ := h
      refine ⟨by rw [e3]; exact a, by rw [e3]; exact b, ?_⟩
      rw [e3, e4]; exact ih d e2
theorem pw_skl {V V2 : List wSl} (e : z_skl V2 = z_skl V) : V2.map (fun s => s.1) = V.map (fun s => s.1) := by
  have := congrArg (List.map Prod.fst) e
  unfold z_skl at this
  rw [List.map_map, List.map_map] at this; exact this
theorem pw_ne {A B : List wSl} (e : B.map (fun s => s.1) = A.map (fun s => s.1)) (h : A.Pairwise (fun a b => a.1 ≠ b.1)) : B.Pairwise (fun a b => a.1 ≠ b.1) := by
  have h1 : (A.map (fun s => s.1)).Pairwise (· ≠ ·) := List.pairwise_map.mpr h
  rw [← e] at h1
  exact List.pairwise_map.mp h1
/-- when it was much nothing more is asked of what S goes on to do -/
theorem Q2.skip (h : Q2 nt N M w ba pf rf lf c hp H K u o V lm lv x g) (h0 : ¬ x.1 0 34 = 0) (hm : wM g G) : ∃ V' lm', Q2 nt N M w ba pf rf lf c hp H K u o V' lm' lv x G ∧ z_skl V' = z_skl V ∧ ∀ l, l < g_nl g → lm' l = lm l := by
  obtain ⟨hlm, he, hS, hX⟩ := h
  have hX := hX.resolve_left (fun q => h0 q.1)
  have hl := lm_ext (g := g) (G := G) hlm
  obtain ⟨s1, s2, s3, s4, s5, s6, s7, s8, s9⟩ := hS
  have hk := hm.2.2.2.2.2.1
  rw [← s1] at hk
  obtain ⟨r1, r2, r3⟩ := z_re_s V (g_cx G) hk
  refine ⟨z_re V (g_cx G), _, ⟨hl.1, he, ⟨r1, s2, s3, s4, s5, s6.skl r2, ?_, fun t ht => ?_, s9⟩, Or.inr ⟨h0, hX.2.1, hX.2.2.mono hm⟩⟩, r2, hl.2⟩
  · refine pw_ne ?_ s7
    rw [List.map_append, List.map_append, pw_skl r2]
  · rcases List.mem_append.mp ht with q | q
    · exact s8 t (List.mem_append.mpr (Or.inl q))
    · obtain ⟨s, hs, e1, e2, e3⟩ := r3 t q
      have := s8 s (List.mem_append.mpr (Or.inr hs))
      exact ⟨by rw [e1]; exact this.1, this.2.wCs e1 e2 e3⟩
end
