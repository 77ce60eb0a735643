/-! the shape of values, by kinds -/
theorem sp_E_iff {k : Int32} : sp_E k = true ↔ (1 ≤ k.toInt ∧ k.toInt ≤ 4) ∨ (6 ≤ k.toInt ∧ k.toInt ≤ 32) ∨ (34 ≤ k.toInt ∧ k.toInt ≤ 48) ∨ k.toInt = 51 := by
  have e51 : k = 51 ↔ k.toInt = 51 := ⟨fun q => by rw [q]; rfl, fun q => Int32.toInt_inj.mp (by rw [q]; rfl)⟩
  unfold sp_E sp_i
  simp only [Bool.or_eq_true, Bool.and_eq_true, decide_eq_true_eq, Int32.le_iff_toInt_le, e51, show (1 : Int32).toInt = 1 from rfl, show (4 : Int32).toInt = 4 from rfl, show (6 : Int32).toInt = 6 from rfl, show (32 : Int32).toInt = 32 from rfl, show (34 : Int32).toInt = 34 from rfl, show (48 : Int32).toInt = 48 from rfl, or_assoc]
theorem i_ne {k c : Int32} (h : ¬ k = c) : k.toInt ≠ c.toInt := fun r => h (Int32.toInt_inj.mp r)
theorem i_le {k c : Int32} : c ≤ k ↔ c.toInt ≤ k.toInt := Int32.le_iff_toInt_le
theorem i_b18 {k : Int32} (h1 : 10 ≤ k) (h2 : k ≤ 20) : Nat.ble 18 k.toNatClampNeg = decide (18 ≤ k) := by
  obtain ⟨j, hj, e⟩ := i_enum (a := 10) (c := 10) h1 h2 rfl rfl
  have hj : j = 0 ∨ j = 1 ∨ j = 2 ∨ j = 3 ∨ j = 4 ∨ j = 5 ∨ j = 6 ∨ j = 7 ∨ j = 8 ∨ j = 9 ∨ j = 10 := by omega
  subst e
  rcases hj with rfl | rfl | rfl | rfl | rfl | rfl | rfl | rfl | rfl | rfl | rfl <;> decide
theorem i_op {k : Int32} (h1 : 35 ≤ k) (h2 : k ≤ 45) : Nat.ble 18 (k - 25).toNatClampNeg = decide (43 ≤ k) := by
  obtain ⟨j, hj, e⟩ := i_enum (a := 35) (c := 10) h1 h2 rfl rfl
  have hj : j = 0 ∨ j = 1 ∨ j = 2 ∨ j = 3 ∨ j = 4 ∨ j = 5 ∨ j = 6 ∨ j = 7 ∨ j = 8 ∨ j = 9 ∨ j = 10 := by omega
  subst e
  rcases hj with rfl | rfl | rfl | rfl | rfl | rfl | rfl | rfl | rfl | rfl | rfl <;> decide
section
variable {nt : sp_NT} {N M : Nat} {res par : Nat → Int32} {f : Nat} {rec : wR}
theorem nd_n1 {N : Nat} {k : Int32} (h : sp_nd N k = true) : ¬ k = -1 := fun q => by rw [q] at h; exact absurd h (by simp [sp_nd_m1])
theorem wP_v0 (h : wTb nt N M res par) (R : ∀ c, wE nt N f c → wSh nt rec c) {m : Nat} {g : wG} (hq : w_q g = false) (hm : m ≤ g_nl g) {n : Int32} (hE : wE nt N (f + 1) n) (hk : ¬ (23 ≤ nK nt n ∧ nK nt n ≤ 31)) : wP m (w_tl (nT nt n) ++ g_st g) g (w_v0 nt rec n g) := by
  obtain ⟨hn, hE, hd⟩ := hE
  have s0 := wP_rf (n := m) hq rfl
  unfold w_v0
  simp only
  by_cases c1 : 10 ≤ nK nt n ∧ nK nt n ≤ 20
  · rw [if_pos c1]
    obtain ⟨a, b, a1, a2, tb, t⟩ := wE_bin h hn hd c1.1 c1.2
    rw [t]
    refine ((s0.rc hm (R _ a)).rc hm (R _ b)).bin ?_
    rw [tb, i_b18 c1.1 c1.2]
    by_cases q : 18 ≤ nK nt n
    · rw [if_pos q, decide_eq_true q]; rfl
    · rw [if_neg q, decide_eq_false q]; rfl
  rw [if_neg c1]
  by_cases c2 : 35 ≤ nK nt n ∧ nK nt n ≤ 45
  · rw [if_pos c2]
    obtain ⟨x1, x2, x3, x4, x5, b, tb, t⟩ := wE_chg h hn hd c2.1 c2.2
    rw [t]
    refine wP_chg h R hq hm x1 x2 x3 x4 (fun _ => b) (fun _ => ?_) (fun q => absurd q (nd_n1 b.1)) true
    rw [tb, i_op c2.1 c2.2]
    by_cases q : 43 ≤ nK nt n
    · rw [if_pos q, decide_eq_true q]; rfl
    · rw [if_neg q, decide_eq_false q]; rfl
  rw [if_neg c2]
  by_cases c3 : nK nt n = 1 ∨ nK nt n = 2 ∨ nK nt n = 3 ∨ nK nt n = 4
  · rw [if_pos c3]; exact s0.k _ _
  rw [if_neg c3]
  by_cases c4 : nK nt n = 51
  · rw [if_pos c4, w_tl_1 (Or.inr (wE_nil h hn hd c4))]; exact s0.em _ 0 _
  rw [if_neg c4]
  by_cases c5 : nK nt n = 6
  · rw [if_pos c5]
    obtain ⟨-, -, t⟩ := wE_load h hn hd c5
    rw [t]; exact (s0.ok _).ld _ _ _
  rw [if_neg c5]
  by_cases c6 : nK nt n = 7
  · rw [if_pos c6]
    obtain ⟨v1, v2, b, tb, t⟩ := wE_store h hn hd c6
    have ht : 0 < nT nt (nA nt n) := (h.t v1).2 (Or.inl (by rw [v2]; decide))
    have s1 := (s0.ok (g_pl g (nA nt n).toNatClampNeg ≠ none)).rc hm (R _ b)
    rw [tb] at s1
    rw [t]
    exact (s1.dup ht).st _
  rw [if_neg c6]
  by_cases c7 : nK nt n = 8
  · rw [if_pos c7]
    obtain ⟨-, -, -, -, -, t⟩ := wE_at' h hn hd c7
    rw [t]
    obtain ⟨a, b, a1, a2, b1, -⟩ := wE_at h hn hd c7
    have s2 := (s0.rc hm (R _ a)).rc hm (R _ b)
    rw [b1, w_tl_1 (Or.inr ⟨a1, a2⟩)] at s2
    exact s2.eld _
  rw [if_neg c7]
  by_cases c8 : nK nt n = 9
  · rw [if_pos c8]
    obtain ⟨x1, x2, x3, b, tb, t⟩ := wE_put h hn hd c8
    rw [t]; exact wP_pe9 h R hq hm x1 x2 x3 b tb true
  rw [if_neg c8]
  by_cases c9 : nK nt n = 21
  · rw [if_pos c9]
    obtain ⟨a, -, -, t⟩ := wE_neg h hn hd c9
    rw [t]
    exact ((s0.rc hm (R _ a)).em _ _ _).cg (by rw [List.drop_left])
  rw [if_neg c9]
  by_cases c10 : nK nt n = 22
  · rw [if_pos c10]
    obtain ⟨b, -, -, -, -, t⟩ := wE_cast h hn hd c10
    rw [t]; exact (s0.rc hm (R _ b)).cast _
  rw [if_neg c10]
  by_cases c11 : nK nt n = 32
  · rw [if_pos c11]
    obtain ⟨a, ta, b1, b2, b3, t⟩ := wE_choose h hn hd c11
    have hf : ∃ f', f = f' + 1 := by
      cases f with
      | zero => have := (h.d b1).1; omega
      | succ f => exact ⟨f, rfl⟩
    obtain ⟨f', rfl⟩ := hf
    obtain ⟨p, r, p1, p2, tr, tp⟩ := wE_pair h b1 b2 b3
    have Rp := R _ (p.mono (Nat.le_succ _))
    have Rr := R _ (r.mono (Nat.le_succ _))
    rw [t, tp]
    refine wP_dia hm (((R _ a).2 (w_lb (g_L g, w_tl (nT nt (nA nt (nB nt n))) ++ g_st g) (w_lb (g_L g, g_st g) g)) (g_nl g + 2) hq (Nat.le_refl _)).2.2 ta (g_nl g) (by show g_nl g < g_nl g + 1 + 1; omega)).2 (fun k q => (Rp.1 k q).1) (fun k q hk => (Rp.2 k _ q hk).1) (fun k q => (Rr.1 k q).1) (fun k q hk => ?_)
    have := (Rr.2 k _ q hk).1
    rw [tr] at this; exact this
  rw [if_neg c11]
  by_cases c12 : nK nt n = 34
  · rw [if_pos c12]
    obtain ⟨x1, x2, x3, x4, x5, -, -, t⟩ := wE_stp h hn hd c12
    rw [t]; exact wP_stp h R hq hm x1 x2 x3 x4 true
  rw [if_neg c12]
  by_cases c13 : nK nt n = 46
  · rw [if_pos c13]
    obtain ⟨a1, a2, -, b, tb, t⟩ := wE_make h hn hd c13
    have s1 := s0.rc hm (R _ b)
    rw [tb] at s1
    rw [t, w_tl_1 (Or.inr ⟨a1, a2⟩)]
    exact s1.em _ 1 _
  rw [if_neg c13]
  by_cases c14 : nK nt n = 47
  · rw [if_pos c14]
    obtain ⟨a, a1, a2, t⟩ := wE_len h hn hd c14
    have s1 := s0.rc hm (R _ a)
    rw [w_tl_1 (Or.inr ⟨a1, a2⟩)] at s1
    rw [t]
    exact s1.em _ 1 _
  rw [if_neg c14]
  have e48 : nK nt n = 48 := by
    apply Int32.toInt_inj.mp
    show (nK nt n).toInt = 48
    have q := sp_E_iff.mp hE
    have z : ∀ v : Int32, ¬ nK nt n = v → (nK nt n).toInt ≠ v.toInt := fun v => i_ne
    simp only [i_le, not_or] at c1 c2 c3 hk
    have y1 : (nK nt n).toInt ≠ 1 := z 1 c3.1
    have y2 : (nK nt n).toInt ≠ 2 := z 2 c3.2.1
    have y3 : (nK nt n).toInt ≠ 3 := z 3 c3.2.2.1
    have y4 : (nK nt n).toInt ≠ 4 := z 4 c3.2.2.2
    have y51 : (nK nt n).toInt ≠ 51 := z 51 c4
    have y6 : (nK nt n).toInt ≠ 6 := z 6 c5
    have y7 : (nK nt n).toInt ≠ 7 := z 7 c6
    have y8 : (nK nt n).toInt ≠ 8 := z 8 c7
    have y9 : (nK nt n).toInt ≠ 9 := z 9 c8
    have y21 : (nK nt n).toInt ≠ 21 := z 21 c9
    have y22 : (nK nt n).toInt ≠ 22 := z 22 c10
    have y32 : (nK nt n).toInt ≠ 32 := z 32 c11
    have y34 : (nK nt n).toInt ≠ 34 := z 34 c12
    have y46 : (nK nt n).toInt ≠ 46 := z 46 c13
    have y47 : (nK nt n).toInt ≠ 47 := z 47 c14
    have l1 : (10 : Int32).toInt = 10 := rfl
    have l2 : (20 : Int32).toInt = 20 := rfl
    have l3 : (35 : Int32).toInt = 35 := rfl
    have l4 : (45 : Int32).toInt = 45 := rfl
    have l5 : (23 : Int32).toInt = 23 := rfl
    have l6 : (31 : Int32).toInt = 31 := rfl
    omega
  obtain ⟨-, hb, -, -⟩ := wE_call h hn hd e48
  obtain ⟨u, hu, s1⟩ := wP_args h R hm (sp_chain nt 4001 (nB nt n)) (h.ch (Or.inl rfl) 4001 hb) s0
  exact (s1.pe _ _ _ _ _).cg (by rw [← hu, List.drop_left])
theorem wCd.rf {m l : Nat} {g : wG} (hq : w_q g = false) : wCd m l g g := ⟨wX.rf _ _ _, ((w_q_iff g).mp hq).2, Or.inl ⟨((w_q_iff g).mp hq).1, rfl, rfl⟩⟩
theorem wCd_cmp (R : ∀ c, wE nt N f c → wSh nt rec c) {m l : Nat} {g : wG} (hq : w_q g = false) (hm : m ≤ g_nl g) {k a b : Int32} (ha : wE nt N f a) (hb : wE nt N f b) (tb : nT nt b = nT nt a) (so : Bool) : wCd m l g (w_cmp nt rec k a b so l g) := by
  have s1 := (wP_rf (n := m) hq rfl).rc hm (R _ ha)
  have s2 := s1.rc hm (R _ hb)
  unfold w_cmp
  simp only
  by_cases c1 : nT nt a = 1 ∧ nK nt b = 1 ∧ nA nt b = 0
  · rw [if_pos c1]
    rw [c1.1] at s1
    exact wCd_br (u := [1]) s1 rfl
  rw [if_neg c1]
  by_cases c2 : nT nt a = 1
  · rw [if_pos c2]
    rw [tb, c2] at s2
    exact wCd_br (u := [1, 1]) s2 rfl
  rw [if_neg c2]
  rw [tb] at s2
  have s3 := s2.em (12, (if nT nt a = 2 then 148 else (if nT nt a = 3 then 149 else 151) + (if k = 25 ∨ k = 28 then 1 else 0)), 0, 0, []) (2 * (w_tl (nT nt a)).length) [1]
  exact wCd_br (u := [1]) s3 (by rw [Nat.two_mul, ← List.drop_drop, List.drop_left, List.drop_left])
theorem wCd_cd (h : wTb nt N M res par) (R : ∀ c, wE nt N f c → wSh nt rec c) {m l : Nat} {g : wG} (hq : w_q g = false) (hm : m ≤ g_nl g) (hl : l < g_nl g) {n : Int32} (hE : wE nt N (f + 1) n) (ht : nT nt n = 1) (so : Bool) : wCd m l g (w_cd nt rec n so l g) := by
  have hE' := hE
  obtain ⟨hn, -, hd⟩ := hE'
  have Rc : ∀ {c : Int32} {k : wG} {l' m' : Nat} (s : Bool), wE nt N f c → nT nt c = 1 → w_q k = false → m' ≤ g_nl k → l' < g_nl k → wCd m' l' k (rec c (bif s then 2 else 3) l' k) := by
    intro c k l' m' s h1 h2 h3 h4 h5
    have := ((R c h1).2 k m' h3 h4).2.2 h2 l' h5
    cases s
    · exact this.2
    · exact this.1
  have Rq : ∀ {c : Int32} {k : wG} (s : Bool) (l' : Nat), wE nt N f c → w_q k = true → rec c (bif s then 2 else 3) l' k = k := by
    intro c k s l' h1 h2
    have := ((R c h1).1 k h2).2 l'
    cases s
    · exact this.2
    · exact this.1
  have no : ∀ s : Bool, (bif s then 3 else 2) = (bif !s then 2 else 3) := by intro s; cases s <;> rfl
  unfold w_cd
  rw [hq]
  simp only [cond_false]
  by_cases c1 : nK nt n = 1
  · rw [if_pos c1]
    cases (!decide (nA nt n = 0) == so)
    · exact wCd.rf hq
    · exact wCd_go hq
  rw [if_neg c1]
  by_cases c2 : nK nt n = 31
  · rw [if_pos c2]
    obtain ⟨a, ta, -⟩ := wE_not h hn hd c2
    rw [no]; exact Rc _ a ta hq hm hl
  rw [if_neg c2]
  by_cases c3 : nK nt n = 29 ∨ nK nt n = 30
  · rw [if_pos c3]
    have hab : wE nt N f (nA nt n) ∧ nT nt (nA nt n) = 1 ∧ wE nt N f (nB nt n) ∧ nT nt (nB nt n) = 1 := by
      rcases c3 with c | c
      · obtain ⟨a, ta, b, tb, -⟩ := wE_both h hn hd c; exact ⟨a, ta, b, tb⟩
      · obtain ⟨a, ta, b, tb, -⟩ := wE_either h hn hd c; exact ⟨a, ta, b, tb⟩
    obtain ⟨a, ta, b, tb⟩ := hab
    cases (decide (nK nt n = 29) == so)
    · simp only [cond_false]
      have x1 := Rc (l' := l) (m' := m) so a ta hq hm hl
      obtain ⟨X1, o1, z1⟩ := x1
      rcases z1 with ⟨z1, z2, z3⟩ | ⟨z1, z2⟩
      · obtain ⟨X2, o2, y⟩ := Rc (l' := l) (m' := m) so b tb ((w_q_iff _).mpr ⟨z1, o1⟩) (Nat.le_trans hm X1.2.2.1) (Nat.lt_of_lt_of_le hl X1.2.2.1)
        refine ⟨X1.t2 X2, o2, ?_⟩
        rcases y with ⟨y1, y2, y3⟩ | ⟨y1, y2⟩
        · exact Or.inl ⟨y1, y2.trans z2, y3.trans z3⟩
        · exact Or.inr ⟨y1, y2⟩
      · rw [Rq so l b (by unfold w_q; rw [z1]; rfl)]
        exact ⟨X1, o1, Or.inr ⟨z1, z2⟩⟩
    · simp only [cond_true]
      have L1 : wX m [] g (w_lb (g_L g, g_st g) g) := wX_lb hm
      have x1 := Rc (k := w_lb (g_L g, g_st g) g) (l' := g_nl g) (m' := g_nl g + 1) (!so) a ta hq (Nat.le_refl _) (Nat.lt_succ_self _)
      rw [← no] at x1
      have lab : g_lF (w_lb (g_L g, g_st g) g) (g_nl g) = (g_L g, g_st g) := if_pos rfl
      have sL : g_L (w_lb (g_L g, g_st g) g) = g_L g ∧ g_st (w_lb (g_L g, g_st g) g) = g_st g := ⟨rfl, rfl⟩
      have n1 : g_nl (w_lb (g_L g, g_st g) g) = g_nl g + 1 := rfl
      generalize w_lb (g_L g, g_st g) g = g1 at *
      obtain ⟨X1, o1, z⟩ := x1
      have X01 : wX m [] g (rec (nA nt n) (bif so then 3 else 2) (g_nl g) g1) := L1.tr (X1.low (by omega)) (fun _ q => q) (fun k q hk => by have := List.mem_singleton.mp q; omega)
      have lab2 := (X1.2.2.2.1 (g_nl g) (by omega)).2.1
      have fin : ∀ g3, wX m [l] g g3 → g_ov g3 = false → g_lF g3 (g_nl g) = (g_L g, g_st g) → (g_al g3 = true ∨ (g_al g3 = false ∧ (g_goes g3 (g_nl g) = true ∨ g_goes g3 l = true))) → wCd m l g (w_sl true (g_nl g) (w_put (g_nl g) g3)) := by
        intro g3 hX ho hlF hh
        obtain ⟨u1, u2, u3, u4⟩ := w_put_lb (g_nl g) g3
        obtain ⟨-, f2, f3, f4, f5, f6, -, -, -, f10⟩ := w_sl_f true (g_nl g) (w_put (g_nl g) g3)
        refine ⟨(hX.tr (wX_put (m := g_nl g) hm) (tg := [l]) (fun _ q => q) (fun k q => by simp at q)).t2 (f10 m [l]), by rw [f3, u4, ho], ?_⟩
        rw [f2, f4, f5, f6]
        rcases hh with h1 | ⟨h1, h2⟩
        · obtain ⟨v1, v2⟩ := w_put_al (m := g_nl g) h1
          rw [hlF] at v2
          exact Or.inl ⟨v1, (Prod.mk.inj v2).1, (Prod.mk.inj v2).2⟩
        · cases hg : g_goes g3 (g_nl g)
          · exact Or.inr ⟨w_put_no h1 hg, by rw [u1]; rcases h2 with h2 | h2
                                             · rw [hg] at h2; simp at h2
                                             · exact h2⟩
          · obtain ⟨v1, v2⟩ := w_put_re (m := g_nl g) h1 hg
            rw [hlF] at v2
            exact Or.inl ⟨v1, (Prod.mk.inj v2).1, (Prod.mk.inj v2).2⟩
      rcases z with ⟨z1, z2, z3⟩ | ⟨z1, z2⟩
      · have q2 := (w_q_iff _).mpr ⟨z1, o1⟩
        obtain ⟨X2, o2, y⟩ := Rc (l' := l) (m' := g_nl g + 1) so b tb q2 (Nat.le_trans (by omega : g_nl g + 1 ≤ g_nl g1) X1.2.2.1) (Nat.lt_of_lt_of_le hl (Nat.le_trans (by omega : g_nl g ≤ g_nl g1) X1.2.2.1))
        have X03 := X01.t1 (X2.low (by omega : m ≤ g_nl g + 1))
        refine fin _ X03 o2 (by rw [(X2.2.2.2.1 (g_nl g) (by omega)).2.1, lab2, lab]) ?_
        rcases y with ⟨y1, y2, y3⟩ | ⟨y1, y2⟩
        · exact Or.inl y1
        · exact Or.inr ⟨y1, Or.inr y2⟩
      · have q2 : w_q (rec (nA nt n) (bif so then 3 else 2) (g_nl g) g1) = true := by unfold w_q; rw [z1]; rfl
        rw [Rq so l b q2]
        exact fin _ (X01.mono (fun _ q => by simp at q)) o1 (by rw [lab2, lab]) (Or.inr ⟨z1, Or.inl z2⟩)
  rw [if_neg c3]
  by_cases c4 : 23 ≤ nK nt n ∧ nK nt n ≤ 28
  · rw [if_pos c4]
    obtain ⟨a, b, -, -, tb, -⟩ := wE_cmp h hn hd c4.1 c4.2
    exact wCd_cmp R hq hm a b tb so
  rw [if_neg c4]
  have s := wP_v0 h R hq hm hE (fun q => by
    simp only [i_le, not_or] at c3 c4 q
    have y1 : (nK nt n).toInt ≠ 29 := i_ne c3.1
    have y2 : (nK nt n).toInt ≠ 30 := i_ne c3.2
    have y3 : (nK nt n).toInt ≠ 31 := i_ne c2
    have l1 : (23 : Int32).toInt = 23 := rfl
    have l2 : (31 : Int32).toInt = 31 := rfl
    have l3 : (28 : Int32).toInt = 28 := rfl
    omega)
  rw [ht] at s
  exact wCd_br (u := [1]) s rfl
theorem w_em_q {i : wI} {off : Nat} {on : List Nat} {g : wG} (hq : w_q g = true) : w_em i off on g = g := by unfold w_em; rw [hq]; rfl
theorem nT_b (h : wTb nt N M res par) {n : Int32} (hE : wE nt N (f + 1) n) (hk : 23 ≤ nK nt n ∧ nK nt n ≤ 31) : nT nt n = 1 := by
  obtain ⟨hn, -, hd⟩ := hE
  by_cases c4 : nK nt n ≤ 28
  · obtain ⟨-, -, -, -, -, t⟩ := wE_cmp h hn hd hk.1 c4; exact t
  by_cases c1 : nK nt n = 29
  · obtain ⟨-, -, -, -, t⟩ := wE_both h hn hd c1; exact t
  by_cases c2 : nK nt n = 30
  · obtain ⟨-, -, -, -, t⟩ := wE_either h hn hd c2; exact t
  have c3 : nK nt n = 31 := by
    apply Int32.toInt_inj.mp
    show (nK nt n).toInt = 31
    simp only [i_le] at c4 hk
    have y1 : (nK nt n).toInt ≠ 29 := i_ne c1
    have y2 : (nK nt n).toInt ≠ 30 := i_ne c2
    have l2 : (31 : Int32).toInt = 31 := rfl
    have l3 : (28 : Int32).toInt = 28 := rfl
    omega
  exact (wE_not h hn hd c3).2.2
theorem wP_vl (h : wTb nt N M res par) (R : ∀ c, wE nt N f c → wSh nt rec c) {m : Nat} {g : wG} (hq : w_q g = false) (hm : m ≤ g_nl g) {n : Int32} (hE : wE nt N (f + 1) n) : wP m (w_tl (nT nt n) ++ g_st g) g (w_vl nt rec n g) := by
  unfold w_vl
  rw [hq]
  simp only [cond_false]
  by_cases c : 23 ≤ nK nt n ∧ nK nt n ≤ 31
  · rw [if_pos c, nT_b h hE c]
    exact wP_dia (ty := [1]) hm (wCd_cd h R (g := w_lb (g_L g, 1 :: g_st g) (w_lb (g_L g, g_st g) g)) hq (Nat.le_refl _) (show g_nl g < g_nl g + 1 + 1 by omega) hE (nT_b h hE c) false) (fun k q => w_em_q q) (fun k q _ => (wP_em q).cg (by simp)) (fun k q => w_em_q q) (fun k q _ => (wP_em q).cg (by simp))
  · rw [if_neg c]; exact wP_v0 h R hq hm hE c
theorem wP_an (h : wTb nt N M res par) (R : ∀ c, wE nt N f c → wSh nt rec c) {m : Nat} {g : wG} (hq : w_q g = false) (hm : m ≤ g_nl g) {n : Int32} (hE : wE nt N (f + 1) n) : wP m (g_st g) g (w_an nt rec n g) := by
  have hE' := hE
  obtain ⟨hn, -, hd⟩ := hE'
  unfold w_an
  simp only
  by_cases c6 : nK nt n = 7
  · rw [if_pos c6]
    obtain ⟨-, -, b, tb, -⟩ := wE_store h hn hd c6
    have s1 := ((wP_rf (n := m) hq rfl).ok (g_pl g (nA nt n).toNatClampNeg ≠ none)).rc hm (R _ b)
    rw [tb] at s1
    exact s1.st _
  rw [if_neg c6]
  by_cases c8 : nK nt n = 9
  · rw [if_pos c8]
    obtain ⟨x1, x2, x3, b, tb, -⟩ := wE_put h hn hd c8
    exact wP_pe9 h R hq hm x1 x2 x3 b tb false
  rw [if_neg c8]
  by_cases c12 : nK nt n = 34
  · rw [if_pos c12]
    obtain ⟨x1, x2, x3, x4, -⟩ := wE_stp h hn hd c12
    exact wP_stp h R hq hm x1 x2 x3 x4 false
  rw [if_neg c12]
  by_cases c2 : 35 ≤ nK nt n ∧ nK nt n ≤ 45
  · rw [if_pos c2]
    obtain ⟨x1, x2, x3, x4, x5, b, tb, -⟩ := wE_chg h hn hd c2.1 c2.2
    refine wP_chg h R hq hm x1 x2 x3 x4 (fun _ => b) (fun _ => ?_) (fun q => absurd q (nd_n1 b.1)) false
    rw [tb, i_op c2.1 c2.2]
    by_cases q : 43 ≤ nK nt n
    · rw [if_pos q, decide_eq_true q]; rfl
    · rw [if_neg q, decide_eq_false q]; rfl
  rw [if_neg c2]
  have s := wP_vl h R hq hm hE
  by_cases c0 : nT nt n = 0
  · rw [if_pos c0]
    rw [c0] at s; exact s
  · rw [if_neg c0]
    exact (s.em _ _ _).cg (by rw [List.drop_left]; rfl)
/-- the shape of values, of expressions alone, of conditions -/
theorem wV_sh (h : wTb nt N M res par) : ∀ (f : Nat) (n : Int32), wE nt N f n → wSh nt (wV nt f) n := by
  intro f
  induction f with
  | zero => intro n hn; have := (h.d hn.1).1; have := hn.2.2; omega
  | succ f ih =>
    intro n hE
    refine ⟨fun g hq => ⟨?_, fun l => ⟨?_, ?_⟩⟩, fun g m hq hm => ⟨wP_vl h ih hq hm hE, wP_an h ih hq hm hE, fun ht l hl => ⟨wCd_cd h ih hq hm hl hE ht true, wCd_cd h ih hq hm hl hE ht false⟩⟩⟩
    · show w_vl nt (wV nt f) n g = g
      unfold w_vl; rw [hq]; rfl
    · show w_cd nt (wV nt f) n true l g = g
      unfold w_cd; rw [hq]; rfl
    · show w_cd nt (wV nt f) n false l g = g
      unfold w_cd; rw [hq]; rfl
end
