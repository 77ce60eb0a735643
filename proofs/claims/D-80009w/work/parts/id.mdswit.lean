/-! a switch of CodeWriterModel: labels of the cases, table, cases -/
def z_of (nt : sp_NT) : Nat → List (Int32 × Nat) → Nat
  | e, [] => e
  | e, q :: r => z_of nt (if nK nt q.1 = 84 then q.2 else e) r
def z_n83 (nt : sp_NT) (r : List Int32) : Nat := (r.filter (fun q => decide (nK nt (nA nt q) = 83))).length
theorem z_of_none {nt : sp_NT} : ∀ (cs : List (Int32 × Nat)) (e : Nat), (∀ q, q ∈ cs → ¬ nK nt q.1 = 84) → z_of nt e cs = e := by
  intro cs
  induction cs with
  | nil => intro e _; rfl
  | cons q r ih =>
    intro e h
    show z_of nt (if nK nt q.1 = 84 then q.2 else e) r = e
    rw [if_neg (h q (List.mem_cons_self ..))]
    exact ih e (fun a ha => h a (List.mem_cons_of_mem _ ha))
theorem z_of_oth {nt : sp_NT} : ∀ (cs : List (Int32 × Nat)) (e : Nat), cs.Pairwise (fun a b => ¬ (nK nt a.1 = 84 ∧ nK nt b.1 = 84)) → z_of nt e cs = w_oth nt e cs := by
  intro cs
  induction cs with
  | nil => intro e _; rfl
  | cons q r ih =>
    intro e h
    obtain ⟨h1, h2⟩ := List.pairwise_cons.mp h
    show z_of nt (if nK nt q.1 = 84 then q.2 else e) r = _
    by_cases k : nK nt q.1 = 84
    · rw [if_pos k, z_of_none r q.2 (fun a ha e => h1 a ha ⟨k, e⟩)]
      unfold w_oth
      rw [List.find?_cons_of_pos (by simpa using k)]
    · rw [if_neg k, ih e h2]
      unfold w_oth
      rw [List.find?_cons_of_neg (by simpa using k)]
theorem w_csl_s (nt : sp_NT) : ∀ (r : List Int32) (l : Nat), (w_csl nt l r).map (fun q => q.1) = r.map (fun q => nA nt q) ∧ (w_csl nt l r).length = r.length ∧ ∀ q, q ∈ w_csl nt l r → l ≤ q.2 ∧ q.2 < l + r.length := by
  intro r
  induction r with
  | nil => intro l; exact ⟨rfl, rfl, fun q h => by cases h⟩
  | cons a r ih =>
    intro l
    obtain ⟨i1, i2, i3⟩ := ih (l + 1)
    refine ⟨by show nA nt a :: _ = nA nt a :: _; rw [i1], by show (w_csl nt (l + 1) r).length + 1 = r.length + 1; rw [i2], fun q h => ?_⟩
    rcases List.mem_cons.mp h with rfl | h
    · simp
    · have := i3 q h; simp only [List.length_cons]; omega
theorem z_of_mem {nt : sp_NT} : ∀ (cs : List (Int32 × Nat)) (e : Nat), z_of nt e cs = e ∨ ∃ q, q ∈ cs ∧ z_of nt e cs = q.2 := by
  intro cs
  induction cs with
  | nil => intro e; exact Or.inl rfl
  | cons q r ih =>
    intro e
    show z_of nt (if nK nt q.1 = 84 then q.2 else e) r = e ∨ ∃ p, p ∈ q :: r ∧ z_of nt (if nK nt q.1 = 84 then q.2 else e) r = p.2
    by_cases k : nK nt q.1 = 84
    · rw [if_pos k]
      rcases ih q.2 with h | ⟨p, h1, h2⟩
      · exact Or.inr ⟨q, List.mem_cons_self .., h⟩
      · exact Or.inr ⟨p, List.mem_cons_of_mem _ h1, h2⟩
    · rw [if_neg k]
      rcases ih e with h | ⟨p, h1, h2⟩
      · exact Or.inl h
      · exact Or.inr ⟨p, List.mem_cons_of_mem _ h1, h2⟩
/-- what labels and places of cases leave alone -/
theorem w_sw2_f (F : wF) : ∀ (cs : List (Int32 × Nat)) (G : wG), wM G (w_sw2 F cs G) ∧ g_al (w_sw2 F cs G) = g_al G ∧ g_ov (w_sw2 F cs G) = g_ov G ∧ g_L (w_sw2 F cs G) = g_L G ∧ g_st (w_sw2 F cs G) = g_st G ∧ g_nl (w_sw2 F cs G) = g_nl G + cs.length ∧ g_cx (w_sw2 F cs G) = g_cx G ∧ (∀ v, (∀ q, q ∈ cs → v ≠ 4000 + q.1.toNatClampNeg) → g_pl (w_sw2 F cs G) v = g_pl G v) := by
  intro cs
  induction cs with
  | nil => intro G; exact ⟨wM.rf G, rfl, rfl, rfl, rfl, rfl, rfl, fun _ _ => rfl⟩
  | cons q r ih =>
    intro G
    obtain ⟨i1, i2, i3, i4, i5, i6, i7, i8⟩ := ih (s_pl (4000 + q.1.toNatClampNeg) q.2 (w_lb F G))
    refine ⟨(((wM.rf G).lb F).s_pl _ _).tr i1, i2, i3, i4, i5, ?_, i7, fun v hv => ?_⟩
    · show g_nl (w_sw2 F r _) = _
      rw [i6]
      show g_nl G + 1 + r.length = g_nl G + (r.length + 1)
      omega
    · show g_pl (w_sw2 F r _) v = _
      rw [i8 v (fun a ha => hv a (List.mem_cons_of_mem _ ha))]
      show (if v = 4000 + q.1.toNatClampNeg then some q.2 else g_pl G v) = _
      rw [if_neg (hv q (List.mem_cons_self ..))]
theorem w_sw2_get (F : wF) : ∀ (cs : List (Int32 × Nat)) (G : wG), cs.Pairwise (fun a b => a.1.toNatClampNeg ≠ b.1.toNatClampNeg) → ∀ q, q ∈ cs → g_pl (w_sw2 F cs G) (4000 + q.1.toNatClampNeg) = some q.2 := by
  intro cs
  induction cs with
  | nil => intro G _ q hq; cases hq
  | cons a r ih =>
    intro G h q hq
    obtain ⟨h1, h2⟩ := List.pairwise_cons.mp h
    rcases List.mem_cons.mp hq with rfl | hq
    · show g_pl (w_sw2 F r _) _ = _
      rw [(w_sw2_f F r _).2.2.2.2.2.2.2 _ (fun b hb => by have := h1 b hb; omega)]
      show (if _ then _ else _) = _
      rw [if_pos rfl]
    · exact ih _ h2 q hq
theorem ch82_len {nt : sp_NT} {N M : Nat} {res par : Nat → Int32} (hT : wTb nt N M res par) : ∀ (l : List Int32) (p : Int32) (f : Nat), sp_Ch nt N 82 l p → (p = -1 ∨ nD nt p ≤ f) → l.length ≤ f := by
  intro l
  induction l with
  | nil => intro p f _ _; exact Nat.zero_le _
  | cons k l ih =>
    intro p f h hd
    obtain ⟨rfl, h1, h2, h3, h4⟩ := h
    have hd := hd.resolve_left (nd_n1 h1)
    have d1 := (hT.d h1).1
    obtain ⟨f, rfl⟩ : ∃ e, f = e + 1 := ⟨f - 1, by omega⟩
    have hb := (wE_cases hT h1 hd h2).2
    have := ih _ f h4 (by rcases hb with q | q; exact Or.inl q; exact Or.inr q.2.1)
    simp only [List.length_cons]; omega
section
variable {nt : sp_NT} {N M : Nat} {w : Bool} {ba pf rf lf c hp : Nat} {H V : List wSl} {K u : Nat} {o : Option Int32} {lm lm' : Nat → Nat} {lv lv' : Nat → Bool} {x y : mj_X} {g G : wG} {res par : Nat → Int32} {f : Nat} {n : Int32}
theorem Q2.p81 {k l : Nat} (h : Q2 nt N M w ba pf rf lf c hp H K u o V lm lv x g) (hk : k < 4000) (hl : l < g_nl g) (hv : lv l = true) : Q2 nt N M w ba pf rf lf c hp H K u o V lm lv (mj_wI x 74 k (nI (lm l))) (s_pl (4000 + k) l g) := by
  obtain ⟨hlm, he, hS, hX⟩ := h
  have f2 : zfr (zw2 ba pf rf lf) x (mj_wI x 74 k (nI (lm l))) := (zfr.rf _ x).w _ (by unfold zw2; exact Bool.or_true _)
  have h74 : ∀ j, (mj_wI x 74 k (nI (lm l))).1 74 j = if j = k then nI (lm l) else x.1 74 j := by
    intro j
    show upd (x.1 74) k (nI (lm l)) j = _
    by_cases e : j = k
    · rw [e, pk_us, if_pos rfl]
    · rw [pk_un e, if_neg e]
  obtain ⟨s1, s2, s3, s4, s5, s6, s7, s8, s9, s10, s11, s12⟩ := hS
  refine ⟨hlm, he.fr2 f2, ⟨s1, s2, s3, s4, s5, s6, s7, s8, s9, s10, s11, fun j => ?_⟩, ?_⟩
  · rw [h74]
    by_cases e : j = k
    · rw [if_pos e]; exact ⟨_, hlm l hl, rfl⟩
    · rw [if_neg e]; exact s12 j
  · rcases hX with ⟨h0, ⟨q1, q2, q3⟩, a1, a2, a3, a4, a5⟩ | ⟨h0, hm, ho⟩
    · refine Or.inl ⟨h0, ⟨?_, q2, q3⟩, a1, a2, fun j r hj => ?_, a4, a5⟩
      · obtain ⟨e1, e2, e3, e4, e5, e6, e7, e8, e9⟩ := q1
        refine ⟨e1, e2, e3, e4, e5, e6, e7, e8, fun v r hv' hr => ?_⟩
        have hr : (if v = 4000 + k then some l else g_pl g v) = some r := hr
        rw [if_neg (by omega)] at hr
        exact e9 v r hv' hr
      · have hj : (if 4000 + j = 4000 + k then some l else g_pl g (4000 + j)) = some r := hj
        rw [h74]
        by_cases e : j = k
        · rw [if_pos (by omega)] at hj
          injection hj with hj
          rw [if_pos e, ← hj]; exact ⟨hl, hv, rfl⟩
        · rw [if_neg (by omega)] at hj
          rw [if_neg e]; exact a3 j r hj
    · exact Or.inr ⟨h0, hm, ho⟩
/-- the labels of the cases -/
theorem m_swL {d : Nat} (hd : 1 ≤ d) (hc1 : 83 ≤ c) (hc2 : c ≤ 3990) {F : wF} {a1 a2 a3 a4 : Int32} {j hp' K' u' : Nat} {H' : List wSl} {S : List (Nat × Int32)} {L : wG} :
    ∀ (r : List Int32) (q : Int32) (G : wG) (V : List wSl) (lm : Nat → Nat) (lv : Nat → Bool) (x : mj_X) (n o : Nat) (o8 : Option Value), sp_Ch nt N 82 r q → (∀ p, p ∈ r → nK nt (nA nt p) = 83 ∨ nK nt (nA nt p) = 84) → j ≤ g_nl G → o < g_nl G → lv o = true → Q2 nt N M w ba pf rf lf c hp H K u none V lm lv x G → g_ok (w_sw2 F (w_csl nt (g_nl G) r) G) →
      (∀ lm' lv' x' o8', Q2 nt N M w ba pf rf lf c hp H K u none V lm' lv' x' (w_sw2 F (w_csl nt (g_nl G) r) G) → (∀ l, l < g_nl G → lm' l = lm l ∧ lv' l = lv l) → lv' (z_of nt o (w_csl nt (g_nl G) r)) = true → zfr (zw2 ba pf rf lf) x x' → (¬ x.1 0 34 = 0 → ¬ x'.1 0 34 = 0) →
        J2 nt N M w ba pf rf lf c hp' H' K' u' j S (rX1_switched d (35, [some (.ref 0), some (.int a1), some (.int a2), some (.int a3), some (.int a4), some (.int (nI (n + z_n83 nt r))), some (.int (nI (lm' (z_of nt o (w_csl nt (g_nl G) r))))), some (.int (-1)), o8'], [], x')) x' lm' lv' L) →
      J2 nt N M w ba pf rf lf c hp' H' K' u' j S (rX1_switched d (35, [some (.ref 0), some (.int a1), some (.int a2), some (.int a3), some (.int a4), some (.int (nI n)), some (.int (nI (lm o))), some (.int q), o8], [], x)) x lm lv L := by
  intro r
  induction r with
  | nil =>
    intro q G V lm lv x n o o8 hl _ _ _ hv h _ k
    have hq : q = -1 := hl
    subst hq
    exact k lm lv x o8 h (fun _ _ => ⟨rfl, rfl⟩) hv (zfr.rf _ x) (fun q => q)
  | cons p r ih =>
    intro q G V lm lv x n o o8 hl hkk hj ho hv h hok k
    obtain ⟨rfl, e2, e3, e4, e5⟩ := hl
    have mm : wM (s_pl (4000 + (nA nt q).toNatClampNeg) (g_nl G) (w_lb F G)) (w_sw2 F (w_csl nt (g_nl G + 1) r) (s_pl (4000 + (nA nt q).toNatClampNeg) (g_nl G) (w_lb F G))) := (w_sw2_f F _ _).1
    have okl : g_ok (w_lb F G) := mm.1 hok
    have hA4 : (nA nt q).toNatClampNeg < 4000 := Nat.lt_of_lt_of_le (sp_nd_lt h.T.2.2.2.2 e4) h.T.2.2.2.2
    rw [bX1_switched_35, if_neg (nd_n1 e2), h.nd e2]
    refine J2.lb (d := d) hd (by omega) (by omega) h okl hj (fun lm1 lv1 x1 q1 w1 l1 f1 mm1 => ?_)
    rw [h.T.2.1, q1.nd e4, q1.nd e4, q1.T.1]
    have q2 := q1.p81 (k := (nA nt q).toNatClampNeg) (l := g_nl G) hA4 (Nat.lt_succ_self _) w1
    have fw : zfr (zw2 ba pf rf lf) x1 (mj_wI x1 74 (nA nt q).toNatClampNeg (nI (lm1 (g_nl G)))) := (zfr.rf _ x1).w _ (by unfold zw2; exact Bool.or_true _)
    have nb : ∀ {r : mj_R}, mj_g (nA nt q) 4000 r = r := fun {r} => q1.nd e4 r
    have hkq := hkk q (List.mem_cons_self ..)
    have E : w_csl nt (g_nl G) (q :: r) = (nA nt q, g_nl G) :: w_csl nt (g_nl G + 1) r := rfl
    rw [E] at k
    by_cases k84 : nK nt (nA nt q) = 84
    · rw [if_pos k84, q1.nd e4, q1.nd e2, q1.T.2.2.1]
      have hr : (mj_wI x1 74 (nA nt q).toNatClampNeg (nI (lm1 (g_nl G)))).1 74 (nA nt q).toNatClampNeg = nI (lm1 (g_nl G)) := by
        show upd (x1.1 74) _ _ _ = _; rw [pk_us]
      rw [hr]
      refine J2.pre ?_ fw (fun q => q)
      refine ih (nB nt q) (s_pl (4000 + (nA nt q).toNatClampNeg) (g_nl G) (w_lb F G)) V lm1 lv1 _ n (g_nl G) _ e5 (fun p hp => hkk p (List.mem_cons_of_mem _ hp)) (Nat.le_succ_of_le hj) (Nat.lt_succ_self _) w1 q2 hok (fun lm' lv' x' o8' q' l' v' f' m' => ?_)
      have := k lm' lv' x' o8' q' (fun l hl => ⟨(l' l (Nat.lt_succ_of_lt hl)).1.trans (l1 l hl).1, (l' l (Nat.lt_succ_of_lt hl)).2.trans (l1 l hl).2⟩) (by show lv' (z_of nt (if nK nt (nA nt q) = 84 then g_nl G else o) _) = true; rw [if_pos k84]; exact v') (f1.up.tr (fw.tr f')) (fun z => m' (mm1 z))
      have e0 : z_n83 nt (q :: r) = z_n83 nt r := by
        unfold z_n83; rw [List.filter_cons_of_neg (by simp only [decide_eq_true_eq]; intro z; rw [z] at k84; exact absurd k84 (by decide))]
      have e1 : z_of nt o ((nA nt q, g_nl G) :: w_csl nt (g_nl G + 1) r) = z_of nt (g_nl G) (w_csl nt (g_nl G + 1) r) := by
        show z_of nt (if nK nt (nA nt q) = 84 then g_nl G else o) _ = _; rw [if_pos k84]
      rw [e0, e1] at this
      exact this
    · have k83 : nK nt (nA nt q) = 83 := hkq.resolve_right k84
      rw [if_neg k84, q1.nd e2, q1.T.2.2.1, show nI n + (1 : Int32) = nI (n + 1) from nI_add n 1]
      refine J2.pre ?_ fw (fun q => q)
      have hoo := l1 o ho
      rw [← hoo.1]
      refine ih (nB nt q) (s_pl (4000 + (nA nt q).toNatClampNeg) (g_nl G) (w_lb F G)) V lm1 lv1 _ (n + 1) o _ e5 (fun p hp => hkk p (List.mem_cons_of_mem _ hp)) (Nat.le_succ_of_le hj) (Nat.lt_succ_of_lt ho) (by rw [hoo.2]; exact hv) q2 hok (fun lm' lv' x' o8' q' l' v' f' m' => ?_)
      have := k lm' lv' x' o8' q' (fun l hl => ⟨(l' l (Nat.lt_succ_of_lt hl)).1.trans (l1 l hl).1, (l' l (Nat.lt_succ_of_lt hl)).2.trans (l1 l hl).2⟩) (by show lv' (z_of nt (if nK nt (nA nt q) = 84 then g_nl G else o) _) = true; rw [if_neg k84]; exact v') (f1.up.tr (fw.tr f')) (fun z => m' (mm1 z))
      have e0 : n + z_n83 nt (q :: r) = n + 1 + z_n83 nt r := by
        unfold z_n83; rw [List.filter_cons_of_pos (by simpa using k83)]; simp only [List.length_cons]; omega
      have e1 : z_of nt o ((nA nt q, g_nl G) :: w_csl nt (g_nl G + 1) r) = z_of nt o (w_csl nt (g_nl G + 1) r) := by
        show z_of nt (if nK nt (nA nt q) = 84 then g_nl G else o) _ = _; rw [if_neg k84]
      rw [e0, e1] at this
      exact this
theorem Q2.of75 (h : Q2 nt N M w ba pf rf lf c hp H K u o V lm lv x g) (f : zfr z75 x y) : Q2 nt N M w ba pf rf lf c hp H K u o V lm lv y g := by
  obtain ⟨hlm, he, hS, hX⟩ := h
  have E : ∀ k, k ≠ 75 → y.1 k = x.1 k := fun k hk => funext fun j => f.2 k j (by unfold z75; split; exact absurd rfl hk; rfl)
  have E0 : ∀ j, y.1 0 j = x.1 0 j := fun j => congrFun (E 0 (by decide)) j
  have fo : zfr zo x y := f.mono (fun k j hz => by
    unfold z75; split
    · simp [zo] at hz
    · rfl)
  have eS0 : eS M x y := ⟨⟨E0 41, E0 58, E0 59, congrFun (E 17 (by decide)) M⟩, ⟨E 61 (by decide), E 62 (by decide)⟩, ⟨E0 44, E0 72⟩, E 68 (by decide), E 69 (by decide), E 74 (by decide)⟩
  have eX0 : eX x y := ⟨E 24 (by decide), E 63 (by decide), E 64 (by decide), E 65 (by decide), E 66 (by decide), E 67 (by decide), E 70 (by decide), E 71 (by decide), E 72 (by decide)⟩
  refine ⟨hlm, he.ofzo fo, hS.eq eS0, ?_⟩
  rcases hX with ⟨h0, q, hx⟩ | ⟨h0, hm, ho⟩
  · refine Or.inl ⟨by rw [E0]; exact h0, q.ext fo ⟨rfl, rfl, rfl, rfl, rfl, rfl, rfl, rfl, rfl, rfl⟩ (Nat.le_refl _), hx.eq eS0.2.2 eX0 (fun _ _ => ⟨rfl, rfl⟩) ⟨[], rfl⟩ (Nat.le_refl _) rfl rfl (fun _ => rfl) ?_⟩
    have := hx.1
    unfold zN at *
    rw [E0, E0, E0]; exact this
  · exact Or.inr ⟨by rw [E0]; exact h0, hm.ofzo fo, ho⟩
theorem z75_zw2 (f : zfr z75 x y) : zfr (zw2 ba pf rf lf) x y := f.mono (fun k j hz => by
  unfold z75; split
  · exact absurd hz (by unfold zw2; simp)
  · rfl)
theorem wU_comes (l : List (Int32 × Nat)) (i : wI) (off : Nat) (on : List Nat) (g : wG) : wU g (s_al false (w_comes l (w_em i off on g))) := by
  have h1 := (w_comes_f l (w_em i off on g)).2.2.2.2.2.2.2.2
  have h2 : wU g (w_em i off on g) := wU_em i off on
  exact ⟨h1.1.trans h2.1, h1.2.1.trans h2.2.1, h1.2.2.1.trans h2.2.2.1, h1.2.2.2.1.trans h2.2.2.2.1, h1.2.2.2.2.1.trans h2.2.2.2.2.1, h1.2.2.2.2.2.trans h2.2.2.2.2.2⟩
/-- the table -/
theorem m_tabl {d e : Nat} (hd : 7 ≤ d) (hT : wTb nt N M res par) {l : List Int32} {b : Int32} {cs : List (Int32 × Nat)} {oth : Nat} (hl : sp_Ch nt N 82 l b) (hlen : l.length ≤ 40) (hcs : cs.map (fun q => q.1) = l.map (fun q => nA nt q)) (hpl : ∀ q, q ∈ cs → g_pl G (4000 + q.1.toNatClampNeg) = some q.2) (hq : w_q G = false) (ho1 : oth < g_nl G) (ho2 : lv oth = true)
    (h : Q2 nt N M w ba pf rf lf c hp H K u none V lm lv x G) (hok : g_ok (w_comes (w_swi oth (w_keys nt cs)).2.2.2.2 (w_em (w_swi oth (w_keys nt cs)) 1 [] G))) :
    J2 nt N M w ba pf rf lf c hp H K u (g_nl G) (z_skl V) (kX1 d 97 [.ref 0, .int b, .int (nI (z_n83 nt l)), .int (nI (lm oth))] x) x lm lv (s_al false (w_comes (w_swi oth (w_keys nt cs)).2.2.2.2 (w_em (w_swi oth (w_keys nt cs)) 1 [] G))) := by
  obtain ⟨d, rfl⟩ : ∃ c, d = c + 1 := ⟨d - 1, by omega⟩
  have hmem := sp_Ch_mem l b hl
  rw [eX1_table]
  obtain ⟨o6, o7, y, r1, r2, r3, r4, r5, r6⟩ := m_sortL (d := d) (a1 := b) (a2 := nI (z_n83 nt l)) (a3 := nI (lm oth)) h.T.1 h.T.2.1 h.T.2.2.1 h.T.2.2.2.2 l b [] x none none hl (fun q hq => (hmem q hq).2) (fun a ha => by cases ha) (by simp only [List.length_nil]; omega) List.Pairwise.nil (zfr.rf _ x) (fun j a ha => by simp at ha)
  rw [show (0 : Int32) = nI ([] : List Int32).length from rfl, r1]
  have r3 : z_so y (nsort nt (l.map (fun q => nA nt q))) := r3
  have r4 : (nsort nt (l.map (fun q => nA nt q))).Pairwise (fun a b => nA nt a ≤ nA nt b) := r4
  have r5 : ∀ a, a ∈ nsort nt (l.map (fun q => nA nt q)) → sp_nd N a = true := r5
  have hn : (nsort nt (l.map (fun q => nA nt q))).length = z_n83 nt l := by
    have := (nfold_perm (nt := nt) ((l.map (fun q => nA nt q)).filter (fun k => decide (nK nt k = 83))) []).length_eq
    show (((l.map (fun q => nA nt q)).filter (fun k => decide (nK nt k = 83))).foldl (fun s k => nins nt k s) []).length = _
    rw [this, List.append_nil, List.filter_map, List.length_map]
    rfl
  have hstr := nsort_str hT hl (by omega) r4
  have key : w_keys nt cs = (nsort nt (l.map (fun q => nA nt q))).map (fun a => (nA nt a, (g_pl G (4000 + a.toNatClampNeg)).getD 0)) := by
    rw [← hcs]
    exact w_keys_sort (lab := fun a => (g_pl G (4000 + a.toNatClampNeg)).getD 0) cs (fun q hq => by show q.2 = (g_pl G (4000 + q.1.toNatClampNeg)).getD 0; rw [hpl q hq]; rfl)
  have hin : ∀ a, a ∈ nsort nt (l.map (fun q => nA nt q)) → ∃ q, q ∈ cs ∧ q.1 = a := by
    intro a ha
    have := (nfold_perm (nt := nt) ((l.map (fun q => nA nt q)).filter (fun k => decide (nK nt k = 83))) []).mem_iff.mp ha
    rw [List.append_nil] at this
    have := (List.mem_filter.mp this).1
    rw [← hcs] at this
    obtain ⟨q, h1, h2⟩ := List.mem_map.mp this
    exact ⟨q, h1, h2⟩
  rw [show ((((l.map (fun q => nA nt q)).filter (fun k => decide (nK nt k = 83))).foldl (fun s k => nins nt k s) []).length) = (nsort nt (l.map (fun q => nA nt q))).length from rfl, hn]
  have qy := h.of75 r2
  have hn4 : z_n83 nt l < 4000 := by rw [← hn]; have : (nsort nt (l.map (fun q => nA nt q))).length ≤ 0 + l.length := r6; omega
  rw [key] at hok ⊢
  refine J2.pre (y := y) ?_ (z75_zw2 r2) (fun q => by rw [r2.2 0 34 rfl]; exact q)
  refine J2.of3 (((wM.comes _ ((wM.rf G).em _ _ _))).s_al _) qy (fun h0 q => ?_) (fun h0 hm => ?_) (wU_comes _ _ _ _ _)
  · have z3 := (qy.ex h0).2.2.2.1
    have fact : ∀ a, a ∈ nsort nt (l.map (fun q => nA nt q)) → (g_pl G (4000 + a.toNatClampNeg)).getD 0 < g_nl G ∧ lv ((g_pl G (4000 + a.toNatClampNeg)).getD 0) = true ∧ y.1 74 a.toNatClampNeg = nI (lm ((g_pl G (4000 + a.toNatClampNeg)).getD 0)) := by
      intro a ha
      obtain ⟨q, h1, rfl⟩ := hin a ha
      rw [hpl q h1]
      exact z3 _ _ (hpl q h1)
    exact m_tabX (d := d) (n := z_n83 nt l) (lab := fun a => (g_pl G (4000 + a.toNatClampNeg)).getD 0) (oth := oth) (by omega) q h0 hq hn hn4 (fun i j hij hj => hstr i j hij (by rw [hn]; exact hj)) r3 r5 (fun a ha => (fact a ha).2.2) (fun a ha => ⟨(fact a ha).1, (fact a ha).2.1⟩) ho1 ho2 hok
  · exact m_tabM (d := d) (n := z_n83 nt l) (by omega) hm qy.T.2.1 qy.T.2.2.2.2 hn hn4 (fun i j hij hj => hstr i j hij (by rw [hn]; exact hj)) r3 r5 qy.2.2.1.2.2.2.2.2.2.2.2.2.2.2 ⟨_, qy.1 oth ho1, rfl⟩
theorem J2.putM {d m l k : Nat} (hd : 1 ≤ d) (hm : m < 300000) (h : Q2 nt N M w ba pf rf lf c hp H K u none V lm lv x g) (h0 : ¬ x.1 0 34 = 0) (hk : k ≤ g_nl g) : J2 nt N M w ba pf rf lf c hp H K u k (z_skl V) (kX1 d 51 [.ref 0, .int (nI m)] x) x lm lv (w_put l g) := by
  obtain ⟨x', e, f, hm'⟩ := m_putM (pf := pf) hd hm (h.mc h0).1
  have q := h.mz h0 f hm'
  rw [e]
  exact (J2.skM q (by rw [hm'.1]; decide) ((wM.rf g).put l) hk).pre f.up (fun _ => by rw [hm'.1]; decide)
/-- the end of a switch: its context is shut, its end is put -/
theorem J2.stail {d k : Nat} (hd : 1 ≤ d) {e : Nat} {a4 hr : Int32} {V5 : List wSl} {G4 : wG} (hK : K < 4000) (q : Q2 nt N M w ba pf rf lf c hp H (K + 1) u none V5 lm lv x G) (hs : z_skl V5 = (K, hr) :: z_skl V) (hm : wM (w_ctx 1 0 e 0 G4) G) (he : e < g_nl G) (hv : lv e = true) (hvv : a4 = nI (lm e)) (hk : k ≤ g_nl G) (hok : g_ok (w_put e (w_shut G))) :
    J2 nt N M w ba pf rf lf c hp H K u k (z_skl V) (mj_rV (kX1 d 82 [.ref 0, .int (nI K)] x) fun x1 => mj_rV (kX1 d 51 [.ref 0, .int a4] (mj_wI x1 0 58 (nI K))) fun x2 => some (none, x2)) x lm lv (w_put e (w_shut G)) := by
  cases V5 with
  | nil => simp [z_skl] at hs
  | cons s V6 =>
    have e1 : (s.1, s.2.1) = (K, hr) := by injection hs
    have e2 : z_skl V6 = z_skl V := by injection hs
    have e3 : s.1 = K := congrArg Prod.fst e1
    obtain ⟨-, dd, r, hcx, hwk, -⟩ := wM.in_ (g := G4) (c := (1, 0, e, 0, g_nx G4, (g_it G4).length, [])) hm
    have hc := q.2.2.1.1
    rw [hcx] at hc
    have hd0 : s.2.2 = dd := by injection hc
    have hps : c_ps s.2.2 = [] := by rw [hd0]; exact hwk.2.1 (by show 1 < 2; decide)
    have q2 := q.shut e3 hps
    have h62 : x.1 62 K = s.2.1 := by have := (q.sk (s := s) (by simp)).2.1; rw [e3] at this; exact this
    rw [← h62] at q2
    rw [← e2, e_close hd hK, mj_rV_k, hvv]
    have := J2.put (d := d) (l := e) hd (show e < g_nl (w_shut G) from he) hv q2 hok
    exact ((J2.end_ this).le hk).pre (((zfr.rf _ x).w _ rfl).w _ rfl) (fun q => q)
/-- the cases -/
theorem m_swC {d e j : Nat} (hd : 6 * f + 262 ≤ d) (hf : f ≤ 200) (hT : wTb nt N M res par) (R : ∀ m, wA nt N 40 m → mS nt N M w ba pf rf lf c f m) {a1 a2 a4 a5 a6 hr : Int32} {G4 : wG} (hK4 : K < 4000) :
    ∀ (r : List Int32) (q : Int32) (v : Nat) (G : wG) (V5 : List wSl) (lm : Nat → Nat) (lv : Nat → Bool) (x : mj_X) (o8 : Option Value), sp_Ch nt N 82 r q → Q2 nt N M w ba pf rf lf c hp H (K + 1) (200 - f) none V5 lm lv x G → z_skl V5 = (K, hr) :: z_skl V → wM (w_ctx 1 0 e 0 G4) G → e < g_nl G → lv e = true → a4 = nI (lm e) → j ≤ g_nl G → (∀ c, c ∈ g_cx G → w_cok nt N c) → g_ok (w_put e (w_shut (w_cses nt (wS nt f) (w_csl nt v r) G))) →
      J2 nt N M w ba pf rf lf c hp H K (200 - f) j (z_skl V) (rX1_switched d (112, [some (.ref 0), some (.int a1), some (.int a2), some (.int (nI K)), some (.int a4), some (.int a5), some (.int a6), some (.int q), o8], [], x)) x lm lv (w_put e (w_shut (w_cses nt (wS nt f) (w_csl nt v r) G))) := by
  intro r
  induction r with
  | nil =>
    intro q v G V5 lm lv x o8 hl h hs hm he hv hvv hj hC hok
    have hq : q = -1 := hl
    rw [bX1_switched_112, if_pos hq]
    exact J2.stail (by omega) hK4 h hs hm he hv hvv hj hok
  | cons p r ih =>
    intro q v G V5 lm lv x o8 hl h hs hm he hv hvv hj hC hok
    obtain ⟨rfl, e2, e3, e4, e5⟩ := hl
    obtain ⟨⟨n1, n2, n3⟩, -⟩ := wE_cases hT e2 (show nD nt q ≤ 39 + 1 from (hT.d e2).2) e3
    have sb : wA nt N 40 (nB nt (nA nt q)) := by
      have hd1 : nD nt (nA nt q) ≤ 39 + 1 := by omega
      rcases n3 with k | k
      · have := wE_case hT n1 hd1 k; exact ⟨this.1, this.2.1, by have := this.2.2; omega⟩
      · have := wE_dflt hT n1 hd1 k; exact ⟨this.1, this.2.1, by have := this.2.2; omega⟩
    have E : w_cses nt (wS nt f) (w_csl nt v (q :: r)) G = w_cses nt (wS nt f) (w_csl nt (v + 1) r) (w_aln (wS nt f) (nB nt (nA nt q)) (w_put v (s_ok (g_pl G (4000 + (nA nt q).toNatClampNeg) = some v) G))) := rfl
    rw [E] at hok ⊢
    clear E
    have h1 : Q2 nt N M w ba pf rf lf c hp H (K + 1) (200 - f) none V5 lm lv x (s_ok (g_pl G (4000 + (nA nt q).toNatClampNeg) = some v) G) := h
    have n1' : g_nl (s_ok (g_pl G (4000 + (nA nt q).toNatClampNeg) = some v) G) = g_nl G := rfl
    have m0 : wM G (s_ok (g_pl G (4000 + (nA nt q).toNatClampNeg) = some v) G) := (wM.rf G).s_ok _
    have okG : g_ok (s_ok (g_pl G (4000 + (nA nt q).toNatClampNeg) = some v) G) → g_pl G (4000 + (nA nt q).toNatClampNeg) = some v := fun z => z.2
    generalize hG1 : s_ok (g_pl G (4000 + (nA nt q).toNatClampNeg) = some v) G = G1 at *
    have m1 : wM G1 (w_put v G1) := (wM.rf G1).put v
    have m2 : wM (w_put v G1) (w_aln (wS nt f) (nB nt (nA nt q)) (w_put v G1)) := (wM.rf _).aln (wS_mono nt f) _
    have m3 : wM (w_aln (wS nt f) (nB nt (nA nt q)) (w_put v G1)) (w_cses nt (wS nt f) (w_csl nt (v + 1) r) (w_aln (wS nt f) (nB nt (nA nt q)) (w_put v G1))) := wM.cses (wS_mono nt f) _ (wM.rf _)
    have ok3 : g_ok (w_cses nt (wS nt f) (w_csl nt (v + 1) r) (w_aln (wS nt f) (nB nt (nA nt q)) (w_put v G1))) := by
      have := ((wM.rf (w_shut (w_cses nt (wS nt f) (w_csl nt (v + 1) r) (w_aln (wS nt f) (nB nt (nA nt q)) (w_put v G1))))).put e).1 hok
      exact this
    have ok2 := m3.1 ok3
    have ok1 := m2.1 ok2
    have hplv := okG (m1.1 ok1)
    have nn1 : g_nl G1 ≤ g_nl (w_put v G1) := m1.2.2.2.2.2.2.1
    have nn2 : g_nl (w_put v G1) ≤ g_nl (w_aln (wS nt f) (nB nt (nA nt q)) (w_put v G1)) := m2.2.2.2.2.2.2.1
    have hC1 := w_cok.wK (m0.tr m1).2.2.2.2.2.1 hC
    have hC2 := w_cok.wK m2.2.2.2.2.2.1 hC1
    rw [bX1_switched_112, if_neg (nd_n1 e2), h.nd e2, h.T.2.1, h.nd n1]
    have jp : J2 nt N M w ba pf rf lf c hp H (K + 1) (200 - f) (g_nl G1) (z_skl V5) (kX1 d 51 [.ref 0, .int (x.1 74 (nA nt q).toNatClampNeg)] x) x lm lv (w_put v G1) := by
      by_cases h0 : x.1 0 34 = 0
      · obtain ⟨p1, p2, p3⟩ := (h.ex h0).2.2.2.1 _ _ hplv
        rw [p3]
        exact J2.put (d := d) (l := v) (by omega) (by omega) p2 h1 ok1
      · obtain ⟨m, hm1, hm2⟩ := h.2.2.1.2.2.2.2.2.2.2.2.2.2.2 (nA nt q).toNatClampNeg
        rw [hm2]
        exact J2.putM (by omega) hm1 h1 h0 (Nat.le_refl _)
    refine J2.b (n1 := g_nl G1) (by omega) jp (fun V3 lm3 lv3 x3 q3 v3 l3 f3 mm3 => ?_)
    rw [q3.nd e2, q3.T.2.1, q3.nd n1, q3.T.2.2.1]
    refine J2.b (n1 := g_nl (w_put v G1)) (by omega) (J2.block (R _ sb) (d := d) (by omega) hf q3 hC1 ok2) (fun V6 lm6 lv6 x6 q6 v6 l6 f6 mm6 => ?_)
    rw [q6.nd e2, q6.T.2.2.1]
    have c6 : ∀ l, l < g_nl G → lm6 l = lm l ∧ lv6 l = lv l := fun l hl => ⟨(l6 l (by omega)).1.trans (l3 l (by omega)).1, (l6 l (by omega)).2.trans (l3 l (by omega)).2⟩
    exact ih (nB nt q) (v + 1) _ V6 lm6 lv6 x6 _ e5 q6 (by rw [v6, v3]; exact hs) (((hm.tr m0).tr m1).tr m2) (by omega) (by rw [(c6 e he).2]; exact hv) (by rw [(c6 e he).1]; exact hvv) (by omega) hC2 hok
theorem m_switched {d : Nat} (hd : 6 * f + 263 ≤ d) (hc1 : 83 ≤ c) (hc2 : c ≤ 3990) (hf : f ≤ 200) {a b : Int32} (hT : wTb nt N M res par) (ea : wE nt N 40 a) (nb : sp_nd N b = true) (kb : nK nt b = 82) (R : ∀ m, wA nt N 40 m → mS nt N M w ba pf rf lf c f m) (hq : w_q g = false) (hC : ∀ c, c ∈ g_cx g → w_cok nt N c) (hKu : K < 200 - f) (h : Q2 nt N M w ba pf rf lf c hp H K (200 - f) none V lm lv x g)
    (hok : g_ok (w_swt nt (wV nt 40) (wS nt f) a b g)) :
    J2 nt N M w ba pf rf lf c hp H K (200 - f) (g_nl g) (z_skl V) (kX1 d 96 [.ref 0, .int a, .int b] x) x lm lv (w_swt nt (wV nt 40) (wS nt f) a b g) := by
  obtain ⟨d, rfl⟩ : ∃ c, d = c + 1 := ⟨d - 1, by omega⟩
  obtain ⟨l, l1, l2⟩ := hT.chain (K := 82) (Or.inr (Or.inr (Or.inl rfl))) (Or.inr ⟨nb, kb⟩)
  have hlen : l.length ≤ 40 := ch82_len hT l b 40 l1 (Or.inr (hT.d nb).2)
  have hmem := sp_Ch_mem l b l1
  have uq := hT.uniq l b l1 (by omega)
  have hkk : ∀ p, p ∈ l → nK nt (nA nt p) = 83 ∨ nK nt (nA nt p) = 84 := by
    intro p hp
    have hch : wCh nt N 40 82 l := by rw [← l2]; exact hT.ch (K := 82) (Or.inr (Or.inr (Or.inl rfl))) 4001 (Or.inr ⟨nb, (hT.d nb).2, kb⟩)
    obtain ⟨p1, p2, p3⟩ := hch p hp
    exact (wE_cases hT p1 (show nD nt p ≤ 39 + 1 by omega) p3).1.2.2
  have hK4 : K < 4000 := by have := h.2.2.1.2.2.2.1; omega
  have mv := wV_mono nt 40 a 0 0 g
  have sh := ((wV_sh hT 40 a ea).2 g 0 hq (Nat.zero_le _)).1
  have E : w_swt nt (wV nt 40) (wS nt f) a b g = (let g1 := wV nt 40 a 0 0 g
    let cs := w_csl nt (g_nl g1 + 1) l
    let g2 := w_sw2 (g_L g1, (g_st g1).drop 1) cs (w_ctx 1 0 (g_nl g1) 0 (w_lb (g_L g1, (g_st g1).drop 1) g1))
    let i := w_swi (w_oth nt (g_nl g1) cs) (w_keys nt cs)
    w_sl false (g_nl g1) (w_put (g_nl g1) (w_shut (w_cses nt (wS nt f) cs (s_al false (w_comes i.2.2.2.2 (w_em i 1 [] g2))))))) := by
    unfold w_swt
    simp only [l2]
    rw [show w_lbs (g_L (wV nt 40 a 0 0 g), (g_st (wV nt 40 a 0 0 g)).drop 1) ((w_csl nt (g_nl (wV nt 40 a 0 0 g) + 1) l).length + 1) (wV nt 40 a 0 0 g) = w_lbs (g_L (wV nt 40 a 0 0 g), (g_st (wV nt 40 a 0 0 g)).drop 1) (w_csl nt (g_nl (wV nt 40 a 0 0 g) + 1) l).length (w_lb (g_L (wV nt 40 a 0 0 g), (g_st (wV nt 40 a 0 0 g)).drop 1) (wV nt 40 a 0 0 g)) from rfl, w_sw2_eq, w_ctx_sw2]
  rw [E] at hok ⊢
  clear E
  simp only at hok ⊢
  generalize hg1 : wV nt 40 a 0 0 g = g1 at *
  generalize hF : ((g_L g1, (g_st g1).drop 1) : wF) = F at *
  have hokp := ((wM.rf _).sl false (g_nl g1)).1 hok
  refine J2.sl ?_ _
  clear hok
  have hcsl := w_csl_s nt l (g_nl g1 + 1)
  have hcsd : (w_csl nt (g_nl g1 + 1) l).Pairwise (fun a b => a.1.toNatClampNeg ≠ b.1.toNatClampNeg) := by
    have : ((w_csl nt (g_nl g1 + 1) l).map (fun q => q.1)).Pairwise (fun a b => a.toNatClampNeg ≠ b.toNatClampNeg) := by
      rw [hcsl.1, List.pairwise_map]
      refine List.Pairwise.imp_of_mem (fun {p q} hp hq' hh e => ?_) uq
      have ep := sp_nd_eq hT.2.2 (hmem p hp).2
      have eq := sp_nd_eq hT.2.2 (hmem q hq').2
      have e1 : nA nt p = nA nt q := ep.trans ((congrArg nI e).trans eq.symm)
      exact (sp_nw_k hh (by rw [e1])).1 (by rw [e1])
    exact (List.pairwise_map (f := fun q : Int32 × Nat => q.1)).mp this
  have hoth : z_of nt (g_nl g1) (w_csl nt (g_nl g1 + 1) l) = w_oth nt (g_nl g1) (w_csl nt (g_nl g1 + 1) l) := by
    refine z_of_oth _ _ ?_
    have : ((w_csl nt (g_nl g1 + 1) l).map (fun q => q.1)).Pairwise (fun a b => ¬ (nK nt a = 84 ∧ nK nt b = 84)) := by
      rw [hcsl.1, List.pairwise_map]
      exact uq.imp (fun {p q} hh (e : nK nt (nA nt p) = 84 ∧ nK nt (nA nt q) = 84) => (sp_nw_k hh (by rw [e.1, e.2])).2 e.1)
    exact (List.pairwise_map (f := fun q : Int32 × Nat => q.1)).mp this
  have mL : wM g1 (w_lb F g1) := (wM.rf g1).lb F
  have nL : g_nl (w_lb F g1) = g_nl g1 + 1 := rfl
  have nx0 : g_nx (w_lb F g1) = g_nx g1 := rfl
  have it0 : g_it (w_lb F g1) = g_it g1 := rfl
  have cx0 : g_cx (w_lb F g1) = g_cx g1 := rfl
  have al0 : g_al (w_lb F g1) = g_al g1 := rfl
  have ov0 : g_ov (w_lb F g1) = g_ov g1 := rfl
  have f2 := w_sw2_f F (w_csl nt (g_nl g1 + 1) l) (w_ctx 1 0 (g_nl g1) 0 (w_lb F g1))
  have get2 := w_sw2_get F (w_csl nt (g_nl g1 + 1) l) (w_ctx 1 0 (g_nl g1) 0 (w_lb F g1)) hcsd
  have cxn : g_cx (w_ctx 1 0 (g_nl g1) 0 (w_lb F g1)) = (1, 0, g_nl g1, 0, g_nx (w_lb F g1), (g_it (w_lb F g1)).length, []) :: g_cx (w_lb F g1) := rfl
  have n3 : g_nl (w_ctx 1 0 (g_nl g1) 0 (w_lb F g1)) = g_nl g1 + 1 := rfl
  have okc : g_ok (w_ctx 1 0 (g_nl g1) 0 (w_lb F g1)) → g_ok (w_lb F g1) := fun z => z
  have hcok : ∀ c, c ∈ g_cx (w_ctx 1 0 (g_nl g1) 0 (w_lb F g1)) → w_cok nt N c := by
    intro c0 hc0
    rw [cxn] at hc0
    rcases List.mem_cons.mp hc0 with rfl | hc0
    · exact ⟨fun q => absurd q (by show ¬ (1 : Nat) = 3; decide), fun q => absurd q (by show ¬ (1 : Nat) = 4; decide)⟩
    · rw [cx0] at hc0; exact w_cok.wK mv.2.2.2.2.2.1 hC c0 hc0
  have aov3 : g_al (w_ctx 1 0 (g_nl g1) 0 (w_lb F g1)) = g_al g1 ∧ g_ov (w_ctx 1 0 (g_nl g1) 0 (w_lb F g1)) = g_ov g1 := ⟨rfl, rfl⟩
  have hctx : ∀ (hr : Int32) (lm4 : Nat → Nat) (lv4 : Nat → Bool) (x4 : mj_X) (V1 : List wSl), Q2 nt N M w ba pf rf lf c hp H (K + 1) (200 - f) none ((K, hr, (1, 0, g_nl g1, 0, g_nx (w_lb F g1), (g_it (w_lb F g1)).length, [])) :: V1) lm4 lv4 x4 (w_ctx 1 0 (g_nl g1) 0 (w_lb F g1)) → z_skl ((K, hr, (1, 0, g_nl g1, 0, g_nx (w_lb F g1), (g_it (w_lb F g1)).length, [])) :: V1) = (K, hr) :: z_skl V1 := fun _ _ _ _ _ _ => rfl
  generalize hG3 : w_ctx 1 0 (g_nl g1) 0 (w_lb F g1) = G3 at *
  rw [← n3] at f2 get2 hokp hoth hcsl ⊢
  obtain ⟨m23, al2, ov2, -, -, n2, cx2, -⟩ := f2
  have oi : ∀ i : wI, wM (w_sw2 F (w_csl nt (g_nl G3) l) G3) (s_al false (w_comes i.2.2.2.2 (w_em i 1 [] (w_sw2 F (w_csl nt (g_nl G3) l) G3)))) := fun i => (wM.comes _ ((wM.rf _).em _ _ _)).s_al _
  have q2f : w_q (w_sw2 F (w_csl nt (g_nl G3) l) G3) = false := (w_q_iff _).mpr ⟨by rw [al2, aov3.1]; exact ((w_q_iff g1).mp sh.2.1).1, by rw [ov2, aov3.2]; exact ((w_q_iff g1).mp sh.2.1).2⟩
  generalize hcs : w_csl nt (g_nl G3) l = cs at *
  generalize hG2 : w_sw2 F cs G3 = G2 at *
  generalize hi : w_swi (w_oth nt (g_nl g1) cs) (w_keys nt cs) = i at *
  have m5 : wM (s_al false (w_comes i.2.2.2.2 (w_em i 1 [] G2))) (w_cses nt (wS nt f) cs (s_al false (w_comes i.2.2.2.2 (w_em i 1 [] G2)))) := wM.cses (wS_mono nt f) _ (wM.rf _)
  have ok5 : g_ok (w_cses nt (wS nt f) cs (s_al false (w_comes i.2.2.2.2 (w_em i 1 [] G2)))) := by
    have := ((wM.rf (w_shut (w_cses nt (wS nt f) cs (s_al false (w_comes i.2.2.2.2 (w_em i 1 [] G2)))))).put (g_nl g1)).1 hokp
    exact this
  have ok4 := m5.1 ok5
  have ok2 := (oi i).1 ok4
  have ok3 := m23.1 ok2
  have okl := okc ok3
  have nn1 := mv.2.2.2.2.2.2.1
  rw [eX1_switched]
  have jv := J2.val (d := d) (by omega) hc1 hc2 hT ea h (by rw [hg1]; exact mL.1 okl)
  rw [hg1] at jv
  refine J2.b (Nat.le_refl _) jv (fun V1 lm1 lv1 x1 q1 v1 l1' f1 mm1 => ?_)
  obtain ⟨y, ho, qy, fy, y59, y61, y62, y66, y67, y68, y69⟩ := q1.opn (t := 1) hKu
  rw [ho d (by omega), mj_rI_k]
  refine J2.pre ?_ (zk_zw2 fy) (fun q => by rw [fy.2 0 34 rfl]; exact q)
  refine J2.lb (d := d) (by omega) (by omega) (by omega) qy okl nn1 (fun lm4 lv4 x4 q4 w4 l4 f4 mm4 => ?_)
  rw [nI_nd hK4, nI_cl hK4]
  have back : x4.1 0 34 = 0 → x1.1 0 34 = 0 := fun z => by
    have : y.1 0 34 = 0 := Decidable.byContradiction fun p => mm4 p z
    rw [fy.2 0 34 rfl] at this; exact this
  have fK : zfr (zk K) x4 (mj_wI x4 63 K (nI (lm4 (g_nl g1)))) := (zfr.rf _ x4).w _ (zkk K 63 rfl)
  have q5 : Q2 nt N M w ba pf rf lf c hp H (K + 1) (200 - f) (some (x1.1 0 59)) V1 lm4 lv4 (mj_wI x4 63 K (nI (lm4 (g_nl g1)))) (w_lb F g1) :=
    q4.ofzk (k := K) (K' := K + 1) fK (fun s hs => (q1.lt hs).1) q4.2.2.1.2.1 (Nat.le_succ _) q4.2.2.1.2.2.1 q4.2.2.1.2.2.2.2.2.1
  have E4 : ∀ j, [61, 62, 66, 67, 68, 69].elem j = true → (mj_wI x4 63 K (nI (lm4 (g_nl g1)))).1 j K = y.1 j K := by
    intro j hj
    have : j = 61 ∨ j = 62 ∨ j = 66 ∨ j = 67 ∨ j = 68 ∨ j = 69 := by simpa using hj
    rcases this with rfl | rfl | rfl | rfl | rfl | rfl
    · exact f4.2 61 K rfl
    · exact f4.2 62 K rfl
    · exact f4.2 66 K rfl
    · exact f4.2 67 K rfl
    · exact f4.2 68 K rfl
    · exact f4.2 69 K rfl
  have q6 := q5.ctx (k := K) (sort := 1) (b := g_nl g1) (cc := 0) (node := 0) (hr := x1.1 0 59) (Nat.lt_succ_self _) (fun s hs => by have := (q1.lt hs).1; omega) q1.2.2.1.2.2.2.2.2.1 (by show x4.1 0 59 = _; rw [f4.2 0 59 rfl]; exact y59) (by rw [E4 61 rfl]; exact y61) (by decide) (by rw [E4 62 rfl]; exact y62) (by rw [E4 68 rfl]; exact y68) (by rw [E4 69 rfl]; exact y69)
    (fun h4 => ⟨by rw [E4 66 rfl, y66, nx0]; exact (q1.ex (back h4)).2.1.1, by
      rw [E4 67 rfl, y67, it0]
      exact ((q1.ex (back h4)).1.2.2.resolve_right (fun p => absurd (back h4) (by rw [p.1.1]; decide))).2.2.1.2.2.1, fun _ => ⟨by rw [nL]; omega, w4, by show upd (x4.1 63) K _ K = _; rw [pk_us]⟩, fun z => absurd z (by decide), fun z => absurd z (by decide)⟩)
  rw [hG3] at q6
  have hsk := hctx (x1.1 0 59) lm4 lv4 _ V1 q6
  refine J2.pre (y := mj_wI x4 63 K (nI (lm4 (g_nl g1)))) ?_ (zk_zw2 fK) (fun q => q)
  have hsw := m_swL (d := d) (a1 := a) (a2 := b) (a3 := nI K) (a4 := nI (lm4 (g_nl g1))) (F := F) (j := g_nl g) (S := z_skl V) (hp' := hp) (H' := H) (K' := K) (u' := 200 - f)
    (L := w_put (g_nl g1) (w_shut (w_cses nt (wS nt f) cs (s_al false (w_comes i.2.2.2.2 (w_em i 1 [] G2)))))) (by omega) hc1 hc2 l b G3 _ lm4 lv4 _ 0 (g_nl g1) none l1 hkk (by omega) (by omega) w4 q6 (by rw [hcs, hG2]; exact ok2)
  rw [hcs, hG2] at hsw
  refine hsw (fun lm7 lv7 x7 o8 q7 l7 v7 f7 mm7 => ?_)
  clear hsw
  rw [hoth] at v7 ⊢
  have hothl : w_oth nt (g_nl g1) cs < g_nl G2 := by
    rw [← hoth, n2]
    rcases z_of_mem (nt := nt) cs (g_nl g1) with z | ⟨p, z1, z2⟩
    · rw [z]; omega
    · rw [z2]; have := (hcsl.2.2 p z1).2; have := hcsl.2.1; omega
  rw [bX1_switched_35, if_pos rfl, Nat.zero_add]
  have jt := m_tabl (d := d) (e := g_nl g1) (b := b) (cs := cs) (oth := w_oth nt (g_nl g1) cs) (by omega) hT l1 hlen hcsl.1 get2 q2f hothl v7 q7 (by rw [hi]; exact ok4)
  rw [hi] at jt
  have nn3 : g_nl G3 ≤ g_nl G2 := m23.2.2.2.2.2.2.1
  have nn4 : g_nl G2 ≤ g_nl (s_al false (w_comes i.2.2.2.2 (w_em i 1 [] G2))) := (oi i).2.2.2.2.2.2.1
  refine J2.b (n1 := g_nl G2) (by omega) jt (fun V8 lm8 lv8 x8 q8 v8 l8 f8 mm8 => ?_)
  have c8 : lm8 (g_nl g1) = lm4 (g_nl g1) ∧ lv8 (g_nl g1) = lv4 (g_nl g1) := ⟨(l8 _ (by omega)).1.trans (l7 _ (by omega)).1, (l8 _ (by omega)).2.trans (l7 _ (by omega)).2⟩
  rw [← v1]
  have hfin := m_swC (d := d) (e := g_nl g1) (j := g_nl g) (K := K) (V := V1) (a1 := a) (a2 := b) (a4 := nI (lm4 (g_nl g1))) (a5 := nI (z_n83 nt l)) (a6 := nI (lm7 (w_oth nt (g_nl g1) cs))) (hr := x1.1 0 59) (G4 := w_lb F g1) (by omega) hf hT R hK4 l b (g_nl G3) (s_al false (w_comes i.2.2.2.2 (w_em i 1 [] G2))) V8 lm8 lv8 x8 o8 l1 q8 (by rw [v8]; exact hsk) (by rw [hG3]; exact m23.tr (oi i)) (by omega) (by rw [c8.2]; exact w4) (by rw [c8.1]) (by omega) (w_cok.wK (m23.tr (oi i)).2.2.2.2.2.1 hcok) (by rw [hcs]; exact hokp)
  rw [hcs] at hfin
  exact hfin
theorem m_s81 {d : Nat} (hd : 6 * f + 263 ≤ d) (hc1 : 83 ≤ c) (hc2 : c ≤ 3990) (hT : wTb nt N M res par) (hA : wA nt N 40 n) (hk : nK nt n = 81) (hf : f + 1 ≤ 200) (R : ∀ m, wA nt N 40 m → mS nt N M w ba pf rf lf c f m) (hq : w_q g = false) (hC : ∀ c, c ∈ g_cx g → w_cok nt N c) (hK : K ≤ 200 - (f + 1)) (h : Q2 nt N M w ba pf rf lf c hp H K (200 - f) none V lm lv x g) (hok : g_ok (w_bd nt (wV nt 40) (wS nt f) n g)) :
    J2 nt N M w ba pf rf lf c hp H K (200 - (f + 1)) (g_nl g) (z_skl V) (rX1_statement d (389, [some (.ref 0), some (.int n), some (.int (nA nt n)), some (.int (nB nt n)), none], [], x)) x lm lv (w_bd nt (wV nt 40) (wS nt f) n g) := by
  have e : w_bd nt (wV nt 40) (wS nt f) n g = w_swt nt (wV nt 40) (wS nt f) (nA nt n) (nB nt n) g := by unfold w_bd; simp only [hk]; rfl
  rw [e] at hok ⊢
  obtain ⟨ea, ta, b1, b2, b3⟩ := wE_switch hT hA.1 hA.2.2 hk
  exact J2.wrap (bX1_statement_389 ..) (m_switched (by omega) hc1 hc2 (by omega) hT (ea.mono (show 39 ≤ 40 by omega)) b1 b3 R hq hC (by omega) h hok) hK hf
end
