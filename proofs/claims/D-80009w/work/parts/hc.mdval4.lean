/-! values of CodeWriterModel: choices, compares, conditions -/
theorem w_op_n {k : Int32} (h1 : 23 ≤ k) (h2 : k ≤ 28) (so : Bool) : w_op k so ≤ 5 ∧ (((153 : Int32) + k) - 23 = nI (153 + w_op k true)) ∧ (((((153 : Int32) + k) - 23 + 1) ^^^ 1) - 1 = nI (153 + w_op k false)) := by
  obtain ⟨j, hj, e⟩ := i_enum (a := 23) (c := 5) h1 h2 rfl rfl
  have hj : j = 0 ∨ j = 1 ∨ j = 2 ∨ j = 3 ∨ j = 4 ∨ j = 5 := by omega
  subst e
  rcases hj with rfl | rfl | rfl | rfl | rfl | rfl <;> cases so <;> exact ⟨by decide, rfl, rfl⟩
section
variable {nt : sp_NT} {N M : Nat} {w : Bool} {ba pf rf lf c : Nat} {lm : Nat → Nat} {lv : Nat → Bool} {x : mj_X} {g : wG} {res par : Nat → Int32} {f : Nat}
theorem Q1.sl (h : Q1 nt N M w ba pf rf lf c lm lv x g) (l : Nat) : Q1 nt N M w ba pf rf lf c lm lv x (w_sl false l g) := by
  unfold w_sl
  cases g_goes g l
  · exact h
  · exact h
theorem J1.sl {r : mj_R} {G : wG} (h : J1 nt N M w ba pf rf lf c r x lm lv g G) (l : Nat) : J1 nt N M w ba pf rf lf c r x lm lv g (w_sl false l G) := by
  obtain ⟨a, b, y, e1, e2, e3, e4⟩ := h
  exact ⟨a, b, y, e1, e2.sl l, e3, e4⟩
/-- a step of a program, whatever follows -/
def mStep (nt : sp_NT) (N M : Nat) (w : Bool) (ba pf rf lf c : Nat) (P : mj_X → (mj_X → mj_R) → mj_R) (X : wG → wG) : Prop := ∀ (lm : Nat → Nat) (lv : Nat → Bool) (x : mj_X) (g H : wG) (k : mj_X → mj_R), Q1 nt N M w ba pf rf lf c lm lv x g → g_ok (X g) →
  (∀ lm' lv' x', Q1 nt N M w ba pf rf lf c lm' lv' x' (X g) → (∀ l, l < g_nl g → lm' l = lm l ∧ lv' l = lv l) → J1 nt N M w ba pf rf lf c (k x') x' lm' lv' (X g) H) → J1 nt N M w ba pf rf lf c (P x k) x lm lv g H
theorem J1.dia {d : Nat} (hd : 4 ≤ d) (hc : c + 1 ≤ 3990) {F1 F2 : wF} {C X1 X2 : wG → wG} {P1 P2 : mj_X → (mj_X → mj_R) → mj_R} {n : Int32} (h : Q1 nt N M w ba pf rf lf (c + 1) lm lv x g)
    (mC : ∀ k, wM k (C k)) (m1 : ∀ k, wM k (X1 k)) (m2 : ∀ k, wM k (X2 k))
    (hC : ∀ (lm : Nat → Nat) (lv : Nat → Bool) (x : mj_X), Q1 nt N M w ba pf rf lf c lm lv x (w_lb F2 (w_lb F1 g)) → lv (g_nl g) = true → g_ok (C (w_lb F2 (w_lb F1 g))) → J1 nt N M w ba pf rf lf c (kX1 d 46 [.ref 0, .int n, .int (0 : Int32), .int (nI (lm (g_nl g)))] x) x lm lv (w_lb F2 (w_lb F1 g)) (C (w_lb F2 (w_lb F1 g))))
    (hP1 : mStep nt N M w ba pf rf lf c P1 X1) (hP2 : mStep nt N M w ba pf rf lf c P2 X2)
    (hok : g_ok (w_sl false (g_nl g + 1) (w_put (g_nl g + 1) (X2 (w_sl false (g_nl g) (w_put (g_nl g) (w_go (g_nl g + 1) (X1 (C (w_lb F2 (w_lb F1 g))))))))))) :
    J1 nt N M w ba pf rf lf (c + 1) (mj_rI (kX1 d 45 [.ref 0] x) fun v2 x1 => mj_rI (kX1 d 45 [.ref 0] x1) fun v4 x3 => mj_rV (kX1 d 46 [.ref 0, .int n, .int (0 : Int32), .int v2] x3) fun x5 => P1 x5 fun x6 => mj_rV (kX1 d 47 [.ref 0, .int v4] x6) fun x7 => mj_rV (kX1 d 51 [.ref 0, .int v2] x7) fun x8 => P2 x8 fun x9 => mj_rV (kX1 d 51 [.ref 0, .int v4] x9) fun x10 => some (none, x10)) x lm lv g
      (w_sl false (g_nl g + 1) (w_put (g_nl g + 1) (X2 (w_sl false (g_nl g) (w_put (g_nl g) (w_go (g_nl g + 1) (X1 (C (w_lb F2 (w_lb F1 g)))))))))) := by
  have n2 : g_nl (w_lb F2 (w_lb F1 g)) = g_nl g + 2 := rfl
  have l2 : wM (w_lb F1 g) (w_lb F2 (w_lb F1 g)) := (wM.rf _).lb F2
  have h0 : Q1 nt N M w ba pf rf lf (c + 1) lm lv x g := h
  generalize hl : g_nl g = l at *
  -- the states
  have c3 := mC (w_lb F2 (w_lb F1 g))
  generalize hg3 : C (w_lb F2 (w_lb F1 g)) = g3 at *
  have c4 := m1 g3
  generalize hg4 : X1 g3 = g4 at *
  have c5 : wM g4 (w_go (l + 1) g4) := (wM.rf _).go _
  generalize hg5 : w_go (l + 1) g4 = g5 at *
  have c6 : wM g5 (w_put l g5) := (wM.rf _).put _
  generalize hg6 : w_put l g5 = g6 at *
  have c7 : wM g6 (w_sl false l g6) := (wM.rf _).sl _ _
  generalize hg7 : w_sl false l g6 = g7 at *
  have c8 := m2 g7
  generalize hg8 : X2 g7 = g8 at *
  have c9 : wM g8 (w_put (l + 1) g8) := (wM.rf _).put _
  have c10 : wM (w_put (l + 1) g8) (w_sl false (l + 1) (w_put (l + 1) g8)) := (wM.rf _).sl _ _
  have ok9 := c10.1 hok
  have ok8 := c9.1 ok9
  have ok7 := c8.1 ok8
  have ok6 := c7.1 ok7
  have ok5 := c6.1 ok6
  have ok4 := c5.1 ok5
  have ok3 := c4.1 ok4
  have ok2 := c3.1 ok3
  have ok1 := l2.1 ok2
  have nn3 : l + 2 ≤ g_nl g3 := by have := c3.2.2.2.2.2.2.1; omega
  have nn4 : l + 2 ≤ g_nl g4 := Nat.le_trans nn3 c4.2.2.2.2.2.2.1
  have nn5 : l + 2 ≤ g_nl g5 := Nat.le_trans nn4 c5.2.2.2.2.2.2.1
  have nn6 : l + 2 ≤ g_nl g6 := Nat.le_trans nn5 c6.2.2.2.2.2.2.1
  have nn7 : l + 2 ≤ g_nl g7 := Nat.le_trans nn6 c7.2.2.2.2.2.2.1
  have nn8 : l + 2 ≤ g_nl g8 := Nat.le_trans nn7 c8.2.2.2.2.2.2.1
  refine J1.mono (c := c) ?_ (Nat.le_succ _)
  refine J1.lb (by omega) (by omega) h0 ok1 (fun lm1 lv1 x1 q1 w1 _ => ?_)
  rw [hl] at w1 ⊢
  refine J1.lb (by omega) (by omega) (q1.mono (Nat.le_succ _)) ok2 (fun lm2 lv2 x2 q2 w2 a2 => ?_)
  have e2 : g_nl (w_lb F1 g) = l + 1 := by rw [← hl]; rfl
  rw [e2] at w2 a2 ⊢
  have a20 := a2 l (by omega)
  rw [← a20.1]
  have v20 : lv2 l = true := by rw [a20.2]; exact w1
  have hC2 := hC lm2 lv2 x2 q2 v20
  refine J1.b c3 (hC2 ok3) (fun lm3 lv3 x3 q3 a3 _ => ?_)
  refine hP1 lm3 lv3 x3 g3 _ _ q3 (by rw [hg4]; exact ok4) (fun lm4 lv4 x4 q4 a4 => ?_)
  rw [hg4] at q4 ⊢
  have b3 : ∀ k, k < l + 2 → lm3 k = lm2 k ∧ lv3 k = lv2 k := fun k hk => a3 k (by rw [n2]; exact hk)
  have b4 : ∀ k, k < l + 2 → lm4 k = lm2 k ∧ lv4 k = lv2 k := fun k hk => ⟨(a4 k (by omega)).1.trans (b3 k hk).1, (a4 k (by omega)).2.trans (b3 k hk).2⟩
  refine J1.b c5 (by
    have := m_go (d := d) (l := l + 1) hd q4 (by rw [hg5]; exact ok5) (by omega) (by rw [(b4 (l + 1) (by omega)).2]; exact w2)
    rw [(b4 (l + 1) (by omega)).1, hg5] at this; exact this) (fun lm5 lv5 x5 q5 a5 _ => ?_)
  have b5 : ∀ k, k < l + 2 → lm5 k = lm2 k ∧ lv5 k = lv2 k := fun k hk => ⟨(a5 k (by omega)).1.trans (b4 k hk).1, (a5 k (by omega)).2.trans (b4 k hk).2⟩
  refine J1.b c6 (by
    have := m_put (d := d) (l := l) (by omega) q5 (by rw [hg6]; exact ok6) (by omega) (by rw [(b5 l (by omega)).2]; exact v20)
    rw [(b5 l (by omega)).1, hg6] at this; exact this) (fun lm6 lv6 x6 q6 a6 _ => ?_)
  have b6 : ∀ k, k < l + 2 → lm6 k = lm2 k ∧ lv6 k = lv2 k := fun k hk => ⟨(a6 k (by omega)).1.trans (b5 k hk).1, (a6 k (by omega)).2.trans (b5 k hk).2⟩
  have q7 := q6.sl l
  rw [hg7] at q7
  have key : J1 nt N M w ba pf rf lf c (P2 x6 fun x9 => mj_rV (kX1 d 51 [.ref 0, .int (nI (lm2 (l + 1)))] x9) fun x10 => some (none, x10)) x6 lm6 lv6 g7 (w_sl false (l + 1) (w_put (l + 1) g8)) := by
    refine hP2 lm6 lv6 x6 g7 _ _ q7 (by rw [hg8]; exact ok8) (fun lm8 lv8 x8 q8 a8 => ?_)
    rw [hg8] at q8 ⊢
    have b8 : ∀ k, k < l + 2 → lm8 k = lm2 k ∧ lv8 k = lv2 k := fun k hk => ⟨(a8 k (by omega)).1.trans (b6 k hk).1, (a8 k (by omega)).2.trans (b6 k hk).2⟩
    have := m_put (d := d) (l := l + 1) (by omega) q8 ok9 (by omega) (by rw [(b8 (l + 1) (by omega)).2]; exact w2)
    rw [(b8 (l + 1) (by omega)).1] at this
    exact (J1.end_ this).sl _
  obtain ⟨lmz, lvz, xz, z1_, z2, z3, z4⟩ := key
  exact ⟨lmz, lvz, xz, z1_, z2, fun k hk => z3 k (Nat.lt_of_lt_of_le hk c7.2.2.2.2.2.2.1), z4⟩
theorem m_cmp {d : Nat} (hd : 5 * f + 9 ≤ d) (hf : 2 * f + 1 ≤ c) (hc : c ≤ 3990) (hT : wTb nt N M res par) (R : ∀ n, wE nt N f n → mV nt N M w ba pf rf lf f n) {k a b : Int32} (hk1 : 23 ≤ k) (hk2 : k ≤ 28) (ha : wE nt N f a) (hb : wE nt N f b) (ht1 : 1 ≤ nT nt a) (ht4 : nT nt a ≤ 4) (so : Bool) {l : Nat} (hl : l < g_nl g) (hv : lv l = true) (h : Q1 nt N M w ba pf rf lf c lm lv x g)
    (hok : g_ok (w_cmp nt (wV nt f) k a b so l g)) : J1 nt N M w ba pf rf lf c (kX1 d 52 [.ref 0, .int k, .int a, .int b, .int (sp_b so), .int (nI (lm l))] x) x lm lv g (w_cmp nt (wV nt f) k a b so l g) := by
  obtain ⟨d, rfl⟩ : ∃ c, d = c + 1 := ⟨d - 1, by omega⟩
  obtain ⟨o1, o2, o3⟩ := w_op_n hk1 hk2 so
  have tya : x.1 5 a.toNatClampNeg = nI (nT nt a) := by rw [h.T.2.2.2.1]; exact hT.ty ha.1
  have e33 : kX1 (d + 1) 52 [.ref 0, .int k, .int a, .int b, .int (sp_b so), .int (nI (lm l))] x = rX1_compare d (33, [some (.ref 0), some (.int k), some (.int a), some (.int b), some (.int (sp_b so)), some (.int (nI (lm l))), some (.int (nI (nT nt a))), some (.int (((153 : Int32) + k) - (23 : Int32))), none], [.int (nI (153 + w_op k so))], x) := by
    obtain ⟨d', rfl⟩ : ∃ d', d = d' + 1 := ⟨d - 1, by omega⟩
    rw [eX1_compare, h.nd ha.1, tya]
    cases so
    · rw [if_pos (by rfl), eX1_contrary, mj_rI_k, o3]
    · rw [if_neg (by decide), o2]
  rw [e33, bX1_compare_33]
  have hE : w_cmp nt (wV nt f) k a b so l g = (if nT nt a = 1 ∧ nK nt b = 1 ∧ nA nt b = 0 then w_br (153 + w_op k so) 1 l (wV nt f a 0 0 g) else if nT nt a = 1 then w_br (159 + w_op k so) 2 l (wV nt f b 0 0 (wV nt f a 0 0 g)) else w_br (153 + w_op k so) 1 l (w_em (12, (if nT nt a = 2 then 148 else (if nT nt a = 3 then 149 else 151) + (if k = 25 ∨ k = 28 then 1 else 0)), 0, 0, []) (2 * (w_tl (nT nt a)).length) [1] (wV nt f b 0 0 (wV nt f a 0 0 g)))) := rfl
  rw [hE] at hok ⊢
  have ma := wV_mono nt f a 0 0 g
  generalize hga : wV nt f a 0 0 g = ga at *
  have mb := wV_mono nt f b 0 0 ga
  have oka : g_ok ga := by
    by_cases c1 : nT nt a = 1 ∧ nK nt b = 1 ∧ nA nt b = 0
    · rw [if_pos c1] at hok; exact ((wM.rf ga).br _ _ _).1 hok
    · rw [if_neg c1] at hok
      by_cases c2 : nT nt a = 1
      · rw [if_pos c2] at hok; exact (mb.br _ _ _).1 hok
      · rw [if_neg c2] at hok; exact ((mb.em _ _ _).br _ _ _).1 hok
  refine J1.b ma (by
    have := (R _ ha d c lm lv x g (by omega) hf hc h).1 (by rw [hga]; exact oka)
    rw [hga] at this; exact this) (fun lm1 lv1 x1 q1 a1 _ => ?_)
  have a1l := a1 l hl
  have hl1 : l < g_nl ga := Nat.lt_of_lt_of_le hl ma.2.2.2.2.2.2.1
  have hv1 : lv1 l = true := by rw [a1l.2]; exact hv
  rw [← a1l.1]
  have r75 : ¬ (nT nt a = 1 ∧ nK nt b = 1 ∧ nA nt b = 0) → J1 nt N M w ba pf rf lf c (rX1_compare d (75, [some (.ref 0), some (.int k), some (.int a), some (.int b), some (.int (sp_b so)), some (.int (nI (lm1 l))), some (.int (nI (nT nt a))), some (.int (nI (153 + w_op k so))), none], [], x1)) x1 lm1 lv1 ga (if nT nt a = 1 ∧ nK nt b = 1 ∧ nA nt b = 0 then w_br (153 + w_op k so) 1 l ga else if nT nt a = 1 then w_br (159 + w_op k so) 2 l (wV nt f b 0 0 ga) else w_br (153 + w_op k so) 1 l (w_em (12, (if nT nt a = 2 then 148 else (if nT nt a = 3 then 149 else 151) + (if k = 25 ∨ k = 28 then 1 else 0)), 0, 0, []) (2 * (w_tl (nT nt a)).length) [1] (wV nt f b 0 0 ga))) := by
    intro hn
    rw [if_neg hn] at hok ⊢
    rw [bX1_compare_75]
    have okb : g_ok (wV nt f b 0 0 ga) := by
      by_cases c2 : nT nt a = 1
      · rw [if_pos c2] at hok; exact ((wM.rf _).br _ _ _).1 hok
      · rw [if_neg c2] at hok; exact (((wM.rf _).em _ _ _).br _ _ _).1 hok
    refine J1.b mb ((R _ hb d c lm1 lv1 x1 ga (by omega) hf hc q1).1 okb) (fun lm2 lv2 x2 q2 a2 _ => ?_)
    have a2l := a2 l hl1
    have hl2 : l < g_nl (wV nt f b 0 0 ga) := Nat.lt_of_lt_of_le hl1 mb.2.2.2.2.2.2.1
    have hv2 : lv2 l = true := by rw [a2l.2]; exact hv1
    rw [← a2l.1]
    by_cases c2 : nT nt a = 1
    · rw [if_pos (by rw [c2]; rfl)]
      rw [if_pos c2] at hok ⊢
      rw [show nI (153 + w_op k so) + (6 : Int32) = nI (159 + w_op k so) by rw [show (6 : Int32) = nI 6 from rfl, nI_add]; congr 1; omega]
      exact J1.end_ (m_br (off := 2) (by omega) q2 hok (by omega) (by omega) hl2 hv2)
    · rw [if_neg (show ¬ nI (nT nt a) = (1 : Int32) from fun r => c2 ((nI_eq (b := 1) (by omega) (by omega)).mp r))]
      rw [if_neg c2] at hok ⊢
      have r168 : ∀ (s1 : Int32) (a8 : Int32), s1 = nI (if nT nt a = 2 then 148 else (if nT nt a = 3 then 149 else 151) + (if k = 25 ∨ k = 28 then 1 else 0)) → J1 nt N M w ba pf rf lf c (rX1_compare d (168, [some (.ref 0), some (.int k), some (.int a), some (.int b), some (.int (sp_b so)), some (.int (nI (lm2 l))), some (.int (nI (nT nt a))), some (.int (nI (153 + w_op k so))), some (.int a8)], [.int s1, .ref 0], x2)) x2 lm2 lv2 (wV nt f b 0 0 ga) (w_br (153 + w_op k so) 1 l (w_em (12, (if nT nt a = 2 then 148 else (if nT nt a = 3 then 149 else 151) + (if k = 25 ∨ k = 28 then 1 else 0)), 0, 0, []) (2 * (w_tl (nT nt a)).length) [1] (wV nt f b 0 0 ga))) := by
        intro s1 a8 hs1
        rw [bX1_compare_168, sX1_placesOf (by omega), mj_rI_k, sp_pl_n (by omega), hs1]
        have me : wM (wV nt f b 0 0 ga) (w_em (12, (if nT nt a = 2 then 148 else (if nT nt a = 3 then 149 else 151) + (if k = 25 ∨ k = 28 then 1 else 0)), 0, 0, []) (2 * (w_tl (nT nt a)).length) [1] (wV nt f b 0 0 ga)) := (wM.rf _).em _ _ _
        have mr := ((wM.rf (w_em (12, (if nT nt a = 2 then 148 else (if nT nt a = 3 then 149 else 151) + (if k = 25 ∨ k = 28 then 1 else 0)), 0, 0, []) (2 * (w_tl (nT nt a)).length) [1] (wV nt f b 0 0 ga))).br (153 + w_op k so) 1 l)
        refine J1.b me (m_e1 (by omega) q2 (mr.1 hok) (nI_mul 2 _) rfl ⟨fun _ => rfl, fun _ _ => rfl⟩) (fun lm3 lv3 x3 q3 a3 _ => ?_)
        have a3l := a3 l hl2
        rw [← a3l.1]
        exact J1.end_ (m_br (off := 1) (by omega) q3 hok (by omega) (by omega) (Nat.lt_of_lt_of_le hl2 me.2.2.2.2.2.2.1) (by rw [a3l.2]; exact hv2))
      have r116 : ∀ less : Bool, less = decide (k = 25 ∨ k = 28) → J1 nt N M w ba pf rf lf c (rX1_compare d (116, [some (.ref 0), some (.int k), some (.int a), some (.int b), some (.int (sp_b so)), some (.int (nI (lm2 l))), some (.int (nI (nT nt a))), some (.int (nI (153 + w_op k so))), none], [.int (sp_b less)], x2)) x2 lm2 lv2 (wV nt f b 0 0 ga) (w_br (153 + w_op k so) 1 l (w_em (12, (if nT nt a = 2 then 148 else (if nT nt a = 3 then 149 else 151) + (if k = 25 ∨ k = 28 then 1 else 0)), 0, 0, []) (2 * (w_tl (nT nt a)).length) [1] (wV nt f b 0 0 ga))) := by
        intro less hless
        rw [bX1_compare_116]
        have htc : nT nt a = 2 ∨ nT nt a = 3 ∨ nT nt a = 4 := by omega
        have hkk : (if k = 25 ∨ k = 28 then 1 else 0) = (bif less then 1 else 0) := by
          by_cases q : k = 25 ∨ k = 28
          · rw [if_pos q, hless, decide_eq_true q]; rfl
          · rw [if_neg q, hless, decide_eq_false q]; rfl
        rcases htc with q | q | q
        · rw [if_pos (by rw [q]; rfl)]
          exact r168 148 _ (by rw [q]; rfl)
        · rw [if_neg (by rw [q]; decide), if_pos (by rw [q]; rfl)]
          cases less
          · rw [if_pos (by rfl)]; exact r168 149 _ (by rw [hkk, q]; rfl)
          · rw [if_neg (by decide)]; exact r168 150 _ (by rw [hkk, q]; rfl)
        · rw [if_neg (by rw [q]; decide), if_neg (by rw [q]; decide)]
          cases less
          · rw [if_pos (by rfl)]; exact r168 151 _ (by rw [hkk, q]; rfl)
          · rw [if_neg (by decide)]; exact r168 152 _ (by rw [hkk, q]; rfl)
      by_cases q25 : k = 25
      · rw [if_pos q25]; exact r116 true (by rw [decide_eq_true (Or.inl q25)])
      · rw [if_neg q25]
        by_cases q28 : k = 28
        · rw [if_pos q28]; exact r116 true (by rw [decide_eq_true (Or.inr q28)])
        · rw [if_neg q28]; exact r116 false (by rw [decide_eq_false (fun q => by rcases q with q | q <;> contradiction)])
  by_cases c2 : nT nt a = 1
  · rw [if_pos (by rw [c2]; rfl), q1.nd hb.1, q1.T.1]
    by_cases c3 : nK nt b = 1
    · rw [if_pos c3, q1.nd hb.1, q1.T.2.1]
      by_cases c4 : nA nt b = 0
      · rw [if_pos c4]
        have hcond : nT nt a = 1 ∧ nK nt b = 1 ∧ nA nt b = 0 := ⟨c2, c3, c4⟩
        rw [if_pos hcond] at hok ⊢
        exact J1.end_ (m_br (off := 1) (by omega) q1 hok (by omega) (by omega) hl1 hv1)
      · rw [if_neg c4]; exact r75 (fun q => c4 q.2.2)
    · rw [if_neg c3]; exact r75 (fun q => c3 q.2.1)
  · rw [if_neg (show ¬ nI (nT nt a) = (1 : Int32) from fun r => c2 ((nI_eq (b := 1) (by omega) (by omega)).mp r))]
    exact r75 (fun q => c2 q.1)
end
