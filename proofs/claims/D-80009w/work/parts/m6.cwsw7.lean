/-! CodeWriter: a switch: its table in the statements' relation -/
theorem w_comes_P : ∀ (l : List (Int32 × Nat)) (Q : Prop) (X : wG), ∃ Q', w_comes l (s_P Q X) = s_P Q' (w_comes l X) := by
  intro l
  induction l with
  | nil => intro Q X; exact ⟨Q, rfl⟩
  | cons b l ih =>
    intro Q X
    have : w_come b.2 (s_P Q X) = s_P (g_ok (w_come b.2 (s_P Q X))) (w_come b.2 X) := rfl
    show ∃ Q', w_comes l (w_come b.2 (s_P Q X)) = s_P Q' (w_comes l (w_come b.2 X))
    rw [this]; exact ih _ _
theorem w_comes_em {i : wI} {g : wG} (hq : w_q g = false) (l : List (Int32 × Nat)) : ∃ Q', w_comes l (w_em i 1 [] g) = s_P Q' (w_comes l (w_es i (g_L g, [] ++ (g_st g).drop 1) g)) := by
  have e : w_em i 1 [] g = s_P (g_ok (s_ok (1 ≤ (g_st g).length) (w_es i (g_L g, [] ++ (g_st g).drop 1) g))) (w_es i (g_L g, [] ++ (g_st g).drop 1) g) := by unfold w_em; rw [hq]; rfl
  rw [e]
  exact w_comes_P l _ _
section
variable {nt : sp_NT} {N M : Nat} {P : yP} {hp : Nat} {H V : List wSl} {O : List (Int32 × List (Nat × Nat))} {K u sb : Nat} {C : Nat → Prop} {o : Option Int32} {lm lm' lm1 : Nat → Nat} {lv lv' lv1 ct ct' : Nat → Bool} {x y x1 : mj_X} {g G : wG} {res par : Nat → Int32} {f : Nat} {n : Int32}
theorem yM.al0 (h : yM P x) : yM P (mj_wI x 0 30 0) := by
  obtain ⟨m1, m2, m3⟩ := h
  exact ⟨m1, ⟨false, rfl⟩, m3⟩
/-- the table -/
theorem k_tab2 {d oth : Nat} {l : List Int32} {b a1 a3 : Int32} {cs : List (Int32 × Nat)} {o9 : Option Value} (hd : 6 ≤ d) (hT : wTb nt N M res par) (hl : sp_Ch nt N 82 l b) (hlen : l.length ≤ 40) (hkk : ∀ p, p ∈ l → nK nt (nA nt p) = 83 ∨ nK nt (nA nt p) = 84) (hcs : cs.map (fun q => q.1) = l.map (fun q => nA nt q)) (hpl : ∀ q, q ∈ cs → g_pl G (4000 + q.1.toNatClampNeg) = some q.2) (hq : w_q G = false) (ho1 : oth < g_nl G) (ho2 : lv oth = true)
    (h : Y2 nt N P hp H O K u sb C none V lm lv ct x G) :
    ∃ z v s0 o12 o13 ct', rX0_choose d (149, [some (.ref 0), some (.int a1), some (.int b), some (.int a3), some (.int (nI (y_lg nt (0, 0, 0) (l.map (fun k => nA nt k))).1)), some (.int (y_lg nt (0, 0, 0) (l.map (fun k => nA nt k))).2.1), some (.int (y_lg nt (0, 0, 0) (l.map (fun k => nA nt k))).2.2), some (.int (nI (lm oth))), some (.int (-1 : Int32)), o9, none, none, none, none], [], x) = rX0_choose d (413, [some (.ref 0), some (.int a1), some (.int b), some (.int a3), some (.int (nI (y_lg nt (0, 0, 0) (l.map (fun k => nA nt k))).1)), some (.int (y_lg nt (0, 0, 0) (l.map (fun k => nA nt k))).2.1), some (.int (y_lg nt (0, 0, 0) (l.map (fun k => nA nt k))).2.2), some (.int (nI (lm oth))), some (.int (x.1 0 28)), some (.int s0), some (.long v), none, o12, o13], [], z)
      ∧ Y2 nt N P hp H O K u sb C none V lm lv ct' (mj_wI z 0 30 0) (s_al false (w_comes (w_swi oth (w_keys nt cs)).2.2.2.2 (w_em (w_swi oth (w_keys nt cs)) 1 [] G))) ∧ (∀ i, i < g_nl G → ct' i = ct i) ∧ yfr (yw (p_pf P) (p_lf P)) (p_pf P) x (mj_wI z 0 30 0) ∧ (z.1 0 29 = 0 → x.1 0 29 = 0 ∧ yT x G (mj_wI z 0 30 0) (s_al false (w_comes (w_swi oth (w_keys nt cs)).2.2.2.2 (w_em (w_swi oth (w_keys nt cs)) 1 [] G)))) := by
  have hmem := sp_Ch_mem l b hl
  have ht := y_tab_mk hT hl hlen (fun p hp => (hmem p hp).2) h.T.2.2.2.2
  obtain ⟨lg1, lg2⟩ := y_tab_lg (nt := nt) (l := l) hkk
  rw [lg1]
  have key : w_keys nt cs = (nsort nt (l.map (fun q => nA nt q))).map (fun a => (nA nt a, (g_pl G (4000 + a.toNatClampNeg)).getD 0)) := by
    rw [← hcs]
    exact w_keys_sort (lab := fun a => (g_pl G (4000 + a.toNatClampNeg)).getD 0) cs (fun q hq => by show q.2 = (g_pl G (4000 + q.1.toNatClampNeg)).getD 0; rw [hpl q hq]; rfl)
  have hin : ∀ a, a ∈ nsort nt (l.map (fun q => nA nt q)) → ∃ q, q ∈ cs ∧ q.1 = a := by
    intro a ha
    obtain ⟨-, p, p1, p2⟩ := ht.nd ha
    have : a ∈ cs.map (fun q => q.1) := by rw [hcs]; exact List.mem_map.mpr ⟨p, p1, p2⟩
    obtain ⟨q, h1, h2⟩ := List.mem_map.mp this
    exact ⟨q, h1, h2⟩
  have hm : wM G (s_al false (w_comes (w_swi oth (w_keys nt cs)).2.2.2.2 (w_em (w_swi oth (w_keys nt cs)) 1 [] G))) := ((wM.comes _ ((wM.rf G).em _ _ _))).s_al _
  have hs := wU_comes (g := G) (w_swi oth (w_keys nt cs)).2.2.2.2 (w_swi oth (w_keys nt cs)) 1 []
  by_cases h0 : x.1 0 29 = 0
  · have ex := (h.ex h0).2.2.2.2.2.1
    have fact : ∀ a, a ∈ nsort nt (l.map (fun q => nA nt q)) → x.1 35 a.toNatClampNeg = nI (lm ((g_pl G (4000 + a.toNatClampNeg)).getD 0)) ∧ (g_pl G (4000 + a.toNatClampNeg)).getD 0 < g_nl G ∧ lv ((g_pl G (4000 + a.toNatClampNeg)).getD 0) = true := by
      intro a ha
      obtain ⟨q, h1, rfl⟩ := hin a ha
      have hq := hpl q h1
      obtain ⟨p0, p1, p2, p3, p4⟩ := ex _ _ hq
      rw [hq]
      exact ⟨p4, p1, p2⟩
    obtain ⟨z, v, s0, o12, o13, e, q1, f1, t1⟩ := k_tabX (d := d) (l := l) (sl := nsort nt (l.map (fun q => nA nt q))) (bb := b) (a1 := a1) (a3 := a3) (lab := fun a => (g_pl G (4000 + a.toNatClampNeg)).getD 0) (o9 := o9) hd (h.vx (b := 49600) h0 (by decide) (by decide)) h0 hq ht lg2 (fun a ha => (fact a ha).1) (fun a ha => (fact a ha).2) ho1 ho2 (g_L G, [] ++ (g_st G).drop 1)
    rw [← key] at q1 t1
    obtain ⟨Q', hQ⟩ := w_comes_em (i := w_swi oth (w_keys nt cs)) hq (w_swi oth (w_keys nt cs)).2.2.2.2
    have q2 := q1.al0
    have q3 : Y1 nt N (pH P hp) [] 49600 lm lv (mj_wI z 0 30 0) (s_al false (w_comes (w_swi oth (w_keys nt cs)).2.2.2.2 (w_em (w_swi oth (w_keys nt cs)) 1 [] G))) := by rw [hQ]; exact q2
    have f2 : yfr (yw (p_pf P) (p_lf P)) (p_pf P) x (mj_wI z 0 30 0) := yfr.w (show yfr (yw (p_pf P) (p_lf P)) (p_pf P) x z from f1) _ rfl
    refine ⟨z, v, s0, o12, o13, _, e, h.ofv (b := 49600) (D := fun _ => False) hm hs f2 (fun l _ _ => ⟨rfl, rfl⟩) (fun _ q => q.elim) (fun _ _ _ => ⟨fun _ q => q, fun _ q => q⟩) (Or.inl ⟨h0, q3, Nat.le_refl _⟩), fun i hi => if_pos hi, f2, fun w => ⟨h0, ?_⟩⟩
    have t2 := t1 w
    rw [hQ]
    exact t2.tr (yT.rf rfl rfl rfl)
  · obtain ⟨m1, m2, m3⟩ := h.mc h0
    obtain ⟨v, s0, o12, o13, e⟩ := k_tabM (d := d) (nt := nt) (N := N) (x := x) (l := l) (sl := nsort nt (l.map (fun q => nA nt q))) (bb := b) (a1 := a1) (a3 := a3) (oth := nI (lm oth)) (o9 := o9) hd ⟨h.T.1, h.T.2.1, h.T.2.2.1⟩ h0 ht lg2
    have f2 : yfr (yw (p_pf P) (p_lf P)) (p_pf P) x (mj_wI x 0 30 0) := (yfr.rf _ _ _).w _ rfl
    have hL : yL [] (g_nl (s_al false (w_comes (w_swi oth (w_keys nt cs)).2.2.2.2 (w_em (w_swi oth (w_keys nt cs)) 1 [] G)))) lm lv (mj_wI x 0 30 0) 49600 := by
      have e1 : g_nl (s_al false (w_comes (w_swi oth (w_keys nt cs)).2.2.2.2 (w_em (w_swi oth (w_keys nt cs)) 1 [] G))) = g_nl G := by
        show g_nl (w_comes _ _) = _
        rw [(w_comes_f _ _).2.2.2.2.2.1]
        unfold w_em w_es; cases w_q G <;> rfl
      rw [e1]
      exact m2.fr rfl rfl rfl rfl
    exact ⟨x, v, s0, o12, o13, _, e, h.ofv (b := 0) (D := fun _ => False) hm hs f2 (fun l _ _ => ⟨rfl, rfl⟩) (fun _ q => q.elim) (fun _ _ _ => ⟨fun _ q => q, fun _ q => q⟩) (Or.inr ⟨h0, h0, m1.al0, hL⟩), fun i hi => if_pos hi, f2, fun w => absurd w h0⟩
/-- the value of a switch: labels are left for its cases -/
theorem k_valB {d : Nat} (hd : 253 ≤ d) (hT : wTb nt N M res par) {n : Int32} (hE : wE nt N 40 n) (hq : w_q g = false) (h0 : x.1 0 29 = 0) (h : Y2 nt N P hp H O K u sb C none V lm lv ct x g) (hok : g_ok (wV nt 40 n 0 0 g)) :
    ∃ lm1 lv1 ct1 x1, kX0 d 35 [.ref 0, .int n, .int (1 : Int32)] x = some (none, x1) ∧ Y2 nt N P hp H O K u sb C none V lm1 lv1 ct1 x1 (wV nt 40 n 0 0 g) ∧ (∀ l, l < g_nl g → lm1 l = lm l ∧ lv1 l = lv l ∧ ct1 l = ct l) ∧ yfr (yw (p_pf P) (p_lf P)) (p_pf P) x x1 ∧ (x1.1 0 29 = 0 → yT x g x1 (wV nt 40 n 0 0 g)) ∧ (¬ x1.1 0 29 = 0 → yL [] (g_nl (wV nt 40 n 0 0 g)) lm1 lv1 x1 45500) := by
  obtain ⟨lm1, lv1, x1, e1, q1, l1, f1, t1⟩ := (kV_all hT 40 n hE (pH P hp) [] 45500 lm lv x g d (by omega) (by omega) (h.vx h0 (by omega) (by omega))).1 hok
  have f1 : yfr (yw (p_pf P) (p_lf P)) (p_pf P) x x1 := f1
  exact ⟨lm1, lv1, _, x1, e1, h.ofv (D := fun _ => False) (wV_mono nt 40 n 0 0 g) ((wV_sh hT 40 n hE).2 g 0 hq (Nat.zero_le _)).1.1.1.2 f1 (fun l hl _ => l1 l hl) (fun _ q => q.elim) (fun _ _ _ => ⟨fun _ q => q, fun _ q => q⟩) (Or.inl ⟨h0, q1, by decide⟩), fun l hl => ⟨(l1 l hl).1, (l1 l hl).2, if_pos hl⟩, f1, fun w => (t1 w).2, fun w => (q1.mc w).2.1⟩
end
