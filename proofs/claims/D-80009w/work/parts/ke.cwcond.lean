/-! CodeWriter: conditions, every value, values alone -/
section
variable {nt : sp_NT} {N M : Nat} {P : yP} {X : List (Nat × Bool)} {b : Nat} {lm lm' : Nat → Nat} {lv lv' : Nat → Bool} {x y : mj_X} {g h G H : wG} {res par : Nat → Int32} {f : Nat} {n : Int32}
/-- the jump of a compare -/
theorem K_322 {d l bs j off : Nat} {u4 u5 u6 u8 : Int32} {o : Option Value} {k0 : Int32} (hd : 7 ≤ d) (h1 : 23 ≤ k0) (h2 : k0 ≤ 28) (hb : bs = 153 ∨ bs = 159) (so : Bool) (a : Y1 nt N P X b lm lv x g) (hl : l < g_nl g) (hv : lv l = true) {v : Int32} (hlm : v = nI (lm l)) :
    KJ nt N P X b j g (rX0_condition d (322, [some (.ref 0), some (.int n), some (.int (sp_b so)), some (.int v), some (.int u4), some (.int u5), some (.int u6), some (.int (k0 - (23 : Int32))), some (.int u8), some (.int (nI bs)), o], [], x)) x lm lv (w_br (bs + w_op k0 so) off l g) := by
  obtain ⟨d', rfl⟩ : ∃ e, d = e + 1 := ⟨d - 1, by omega⟩
  obtain ⟨o1, o2, o3⟩ := K_op h1 h2 hb so
  rw [bX0_condition_322]
  subst hlm
  cases so
  · rw [if_pos (show sp_b false = 0 from rfl), eX0_contrary, mj_rI_k, o3]
    exact (KJ.of (c_br (d := d' + 1) (by omega) (by omega) (by omega) a hl hv)).end_
  · rw [if_neg (show ¬ sp_b true = 0 by decide), o2]
    exact (KJ.of (c_br (d := d' + 1) (by omega) (by omega) (by omega) a hl hv)).end_
/-- a condition -/
theorem K_cd {d : Nat} (hd : 6 * (f + 1) + 11 ≤ d) (hT : wTb nt N M res par) (R : ∀ n, wE nt N f n → kV nt N f n) (hE : wE nt N (f + 1) n) (ht : nT nt n = 1) (so : Bool) {l : Nat} (hl : l < g_nl g) (hv : lv l = true) (hb : b + 4 * (f + 1) ≤ 49900) (a : Y1 nt N P X b lm lv x g)
    (hok : g_ok (w_cd nt (wV nt f) n so l g)) : KJ nt N P X b (g_nl g) g (kX0 d 65 [.ref 0, .int n, .int (sp_b so), .int (nI (lm l))] x) x lm lv (w_cd nt (wV nt f) n so l g) := by
  have hm : wM g (w_cd nt (wV nt f) n so l g) := (wM.rf g).cd (wV_mono nt f) n so l
  have hpl : g_pl (w_cd nt (wV nt f) n so l g) = g_pl g := by
    cases hq : w_q g
    · exact (wCd_cd hT (fun c hc => wV_sh hT f c hc) (m := 0) hq (Nat.zero_le _) hl hE ht so).1.1.2.2.2.2.2.2
    · rw [w_cd_q hq]
  by_cases hlq : yq x
  · exact QR.kj ((Q_all hT (f + 1)).2 n P X b lm lv x g d _ _ hE ht hd hb a hlq) hlq a hm hpl (fun q => w_cd_q q) (Nat.le_refl _)
  obtain ⟨h29, h30, hq⟩ := a.live hlq
  have hb' : b + 4 * f + 2 ≤ 49900 := by omega
  have V0 := fun (hk : ¬ (23 ≤ nK nt n ∧ nK nt n ≤ 31)) (ho : g_ok (w_v0 nt (wV nt f) n g)) => K_v0 (d := d - 1) (by omega) hT R hE hk hb' a h29 ho
  obtain ⟨d, rfl⟩ : ∃ c, d = c + 1 := ⟨d - 1, by omega⟩
  rw [Nat.add_sub_cancel] at V0
  obtain ⟨hn, hEx, hdp⟩ := hE
  have V : ∀ {m : Int32} {lm1 : Nat → Nat} {lv1 : Nat → Bool} {z : mj_X} {G1 : wG}, wE nt N f m → Y1 nt N P X b lm1 lv1 z G1 → g_ok (wV nt f m 0 0 G1) → KJ nt N P X b (g_nl G1) G1 (kX0 d 35 [.ref 0, .int m, .int (1 : Int32)] z) z lm1 lv1 (wV nt f m 0 0 G1) := fun h1 h3 h4 => (R _ h1 P X b _ _ _ _ d (by omega) hb' h3).1 h4
  have Cn : ∀ {m : Int32} {lm1 : Nat → Nat} {lv1 : Nat → Bool} {z : mj_X} {G1 : wG} (s : Bool) {i : Nat}, wE nt N f m → nT nt m = 1 → Y1 nt N P X b lm1 lv1 z G1 → i < g_nl G1 → lv1 i = true → g_ok (wV nt f m (bif s then 2 else 3) i G1) → KJ nt N P X b (g_nl G1) G1 (kX0 d 65 [.ref 0, .int m, .int (sp_b s), .int (nI (lm1 i))] z) z lm1 lv1 (wV nt f m (bif s then 2 else 3) i G1) := fun s _ h1 h2 h3 h4 h5 h6 => (R _ h1 P X b _ _ _ _ d (by omega) hb' h3).2 h2 s _ h4 h5 h6
  rw [eX0_condition, a.nd hn, a.nd hn, a.nd hn, a.T.1, a.T.2.1, a.T.2.2.1]
  have hC : w_cd nt (wV nt f) n so l g = (if nK nt n = 1 then (bif !decide (nA nt n = 0) == so then w_go l g else g) else if nK nt n = 31 then wV nt f (nA nt n) (bif !so then 2 else 3) l g else if nK nt n = 29 ∨ nK nt n = 30 then (bif decide (nK nt n = 29) == so then w_sl true (g_nl g) (w_put (g_nl g) (wV nt f (nB nt n) (bif so then 2 else 3) l (wV nt f (nA nt n) (bif !so then 2 else 3) (g_nl g) (w_lb (g_L g, g_st g) g)))) else wV nt f (nB nt n) (bif so then 2 else 3) l (wV nt f (nA nt n) (bif so then 2 else 3) l g)) else if 23 ≤ nK nt n ∧ nK nt n ≤ 28 then w_cmp nt (wV nt f) (nK nt n) (nA nt n) (nB nt n) so l g else w_br (bif so then 154 else 153) 1 l (w_v0 nt (wV nt f) n g)) := by
    unfold w_cd; rw [hq]; cases so <;> rfl
  rw [hC] at hok ⊢
  clear hm hpl hC
  by_cases c1 : nK nt n = 1
  · rw [if_pos c1] at hok ⊢
    rw [if_pos (show nt 0 n.toNatClampNeg = 1 from c1)]
    have jg := fun (j : KJ nt N P X b (g_nl g) g (kX0 d 66 [.ref 0, .int (nI (lm l))] x) x lm lv (w_go l g)) => j.end_
    have jg := jg (KJ.of (c_go2 (d := d) (by omega) a hl hv))
    by_cases c0 : nA nt n = 0
    · rw [if_pos (show nt 1 n.toNatClampNeg = 0 from c0)]
      rw [decide_eq_true c0] at hok ⊢
      cases so
      · rw [if_pos (show (0 : Int32) = sp_b false from rfl)]; exact jg
      · rw [if_neg (show ¬ (0 : Int32) = sp_b true by decide)]; exact KJ.id_ a
    · rw [if_neg (show ¬ nt 1 n.toNatClampNeg = 0 from c0)]
      rw [decide_eq_false c0] at hok ⊢
      cases so
      · rw [if_neg (show ¬ (1 : Int32) = sp_b false by decide)]; exact KJ.id_ a
      · rw [if_pos (show (1 : Int32) = sp_b true from rfl)]; exact jg
  rw [if_neg c1] at hok ⊢
  rw [if_neg (show ¬ nt 0 n.toNatClampNeg = 1 from c1)]
  by_cases c31 : nK nt n = 31
  · rw [if_pos c31] at hok ⊢
    obtain ⟨ea, ta, -⟩ := wE_not hT hn hdp c31
    rw [if_pos (show nt 0 n.toNatClampNeg = 31 from c31)]
    have j := Cn (!so) ea ta a hl hv hok
    cases so
    · rw [if_pos (show sp_b false = 0 from rfl)]; exact j.end_
    · rw [if_neg (show ¬ sp_b true = 0 by decide)]; exact j.end_
  rw [if_neg c31] at hok ⊢
  rw [if_neg (show ¬ nt 0 n.toNatClampNeg = 31 from c31)]
  have c104 : ∀ (s0 : Bool) (u4 : Int32), wE nt N f (nA nt n) → nT nt (nA nt n) = 1 → wE nt N f (nB nt n) → nT nt (nB nt n) = 1 → g_ok (bif s0 == so then w_sl true (g_nl g) (w_put (g_nl g) (wV nt f (nB nt n) (bif so then 2 else 3) l (wV nt f (nA nt n) (bif !so then 2 else 3) (g_nl g) (w_lb (g_L g, g_st g) g)))) else wV nt f (nB nt n) (bif so then 2 else 3) l (wV nt f (nA nt n) (bif so then 2 else 3) l g)) → KJ nt N P X b (g_nl g) g (rX0_condition d (104, [some (.ref 0), some (.int n), some (.int (sp_b so)), some (.int (nI (lm l))), some (.int u4), some (.int (nA nt n)), some (.int (nB nt n)), none, none, none, none], [.int (sp_b s0)], x)) x lm lv (bif s0 == so then w_sl true (g_nl g) (w_put (g_nl g) (wV nt f (nB nt n) (bif so then 2 else 3) l (wV nt f (nA nt n) (bif !so then 2 else 3) (g_nl g) (w_lb (g_L g, g_st g) g)))) else wV nt f (nB nt n) (bif so then 2 else 3) l (wV nt f (nA nt n) (bif so then 2 else 3) l g)) := by
    intro s0 u4 ea ta eb tb hok
    rw [bX0_condition_104]
    by_cases e : s0 = so
    · have e1 : (s0 == so) = true := by rw [e]; exact beq_self_eq_true so
      rw [e1] at hok ⊢
      simp only [cond_true] at hok ⊢
      rw [if_pos (by rw [e])]
      have n1 : g_nl (w_lb (g_L g, g_st g) g) = g_nl g + 1 := rfl
      have m1 : wM g (w_lb (g_L g, g_st g) g) := (wM.rf g).lb _
      have m2 := wV_mono nt f (nA nt n) (bif !so then 2 else 3) (g_nl g) (w_lb (g_L g, g_st g) g)
      generalize hg2 : wV nt f (nA nt n) (bif !so then 2 else 3) (g_nl g) (w_lb (g_L g, g_st g) g) = g2 at *
      have m3 := wV_mono nt f (nB nt n) (bif so then 2 else 3) l g2
      generalize hg3 : wV nt f (nB nt n) (bif so then 2 else 3) l g2 = g3 at *
      have m4 : wM g3 (w_put (g_nl g) g3) := (wM.rf _).put _
      have m5 : wM (w_put (g_nl g) g3) (w_sl true (g_nl g) (w_put (g_nl g) g3)) := (wM.rf _).sl _ _
      have ok3 := m4.1 (m5.1 hok)
      have ok2 := m3.1 ok3
      have ok1 := m2.1 ok2
      have nn2 := m2.nl
      have nn3 := m3.nl
      refine KJ.lb (by omega) a h29 ok1 (Nat.le_refl _) (fun lm1 lv1 x1 q1 w1 l1 z1 => ?_)
      have c126 : ∀ s2 : Int32, s2 = sp_b (!so) → KJ nt N P X b (g_nl g) (w_lb (g_L g, g_st g) g) (rX0_condition d (126, [some (.ref 0), some (.int n), some (.int (sp_b so)), some (.int (nI (lm l))), some (.int u4), some (.int (nA nt n)), some (.int (nB nt n)), some (.int (nI (lm1 (g_nl g)))), none, none, none], [.int s2, .int (nA nt n), .ref 0], x1)) x1 lm1 lv1 (w_sl true (g_nl g) (w_put (g_nl g) g3)) := by
        intro s2 hs2
        rw [bX0_condition_126, hs2]
        have jA := Cn (!so) ea ta q1 (i := g_nl g) (by omega) w1 (by rw [hg2]; exact ok2)
        rw [hg2] at jA
        refine KJ.bi (by omega) jA (fun lm2 lv2 x2 q2 l2 f2 t2 => ?_)
        have b2l := l2 l (by omega)
        have b2m := l2 (g_nl g) (by omega)
        have hlm : lm2 l = lm l := b2l.1.trans (l1 l hl).1
        have jB := Cn so eb tb q2 (i := l) (by omega) (by rw [b2l.2, (l1 l hl).2]; exact hv) (by rw [hg3]; exact ok3)
        rw [hg3, hlm] at jB
        refine KJ.bi (by omega) jB (fun lm3 lv3 x3 q3 l3 f3 t3 => ?_)
        have b3m := l3 (g_nl g) (by omega)
        exact KJ.pl (by omega) true q3 (by omega) (by rw [b3m.2, b2m.2]; exact w1) (Nat.le_refl _) (by rw [b3m.1, b2m.1]) (fun lv4 x4 q4 k4 => KJ.id_ q4)
      cases so
      · rw [if_pos (show sp_b false = 0 from rfl)]; exact c126 1 rfl
      · rw [if_neg (show ¬ sp_b true = 0 by decide)]; exact c126 0 rfl
    · have e1 : (s0 == so) = false := by cases s0 <;> cases so <;> simp_all
      rw [e1] at hok ⊢
      simp only [cond_false] at hok ⊢
      rw [if_neg (by cases s0 <;> cases so <;> simp_all [sp_b])]
      have mb := wV_mono nt f (nB nt n) (bif so then 2 else 3) l (wV nt f (nA nt n) (bif so then 2 else 3) l g)
      have ma := wV_mono nt f (nA nt n) (bif so then 2 else 3) l g
      refine KJ.bi (Nat.le_refl _) (Cn so ea ta a hl hv (mb.1 hok)) (fun lm1 lv1 x1 q1 l1 f1 t1 => ?_)
      have a1l := l1 l hl
      rw [← a1l.1]
      exact ((Cn so eb tb q1 (Nat.lt_of_lt_of_le hl ma.nl) (by rw [a1l.2]; exact hv) hok).le ma.nl).end_
  rw [bX0_condition_78]
  by_cases c29 : nK nt n = 29
  · rw [if_pos (Or.inl c29)] at hok ⊢
    obtain ⟨e1, t1, e2, t2, -⟩ := wE_both hT hn hdp c29
    rw [if_pos (show nt 0 n.toNatClampNeg = 29 from c29), if_pos (show nt 0 n.toNatClampNeg = 29 from c29)]
    rw [decide_eq_true c29] at hok ⊢
    exact c104 true _ e1 t1 e2 t2 hok
  rw [if_neg (show ¬ nt 0 n.toNatClampNeg = 29 from c29)]
  by_cases c30 : nK nt n = 30
  · rw [if_pos (Or.inr c30)] at hok ⊢
    obtain ⟨e1, t1, e2, t2, -⟩ := wE_either hT hn hdp c30
    rw [if_pos (show nt 0 n.toNatClampNeg = 30 from c30), if_neg (show ¬ nt 0 n.toNatClampNeg = 29 from c29)]
    rw [decide_eq_false c29] at hok ⊢
    exact c104 false _ e1 t1 e2 t2 hok
  have c34 : ¬ (nK nt n = 29 ∨ nK nt n = 30) := fun q => by rcases q with q | q <;> contradiction
  rw [if_neg c34] at hok ⊢
  rw [if_neg (show ¬ nt 0 n.toNatClampNeg = 30 from c30), bX0_condition_167, sX0_isIn' (by omega), sp_bi, show sp_in (nt 0 n.toNatClampNeg).toInt64 23 28 = sp_i (nK nt n) 23 28 from sp_in_i _ 23 28]
  clear c104
  by_cases k2 : 23 ≤ nK nt n ∧ nK nt n ≤ 28
  · rw [if_pos k2] at hok ⊢
    rw [if_neg (by rw [sp_i_t k2]; decide)]
    obtain ⟨ea, eb, t1, t4, -, -⟩ := wE_cmp hT hn hdp k2.1 k2.2
    have hE2 : w_cmp nt (wV nt f) (nK nt n) (nA nt n) (nB nt n) so l g = (if nT nt (nA nt n) = 1 ∧ nK nt (nB nt n) = 1 ∧ nA nt (nB nt n) = 0 then w_br (153 + w_op (nK nt n) so) 1 l (wV nt f (nA nt n) 0 0 g) else if nT nt (nA nt n) = 1 then w_br (159 + w_op (nK nt n) so) 2 l (wV nt f (nB nt n) 0 0 (wV nt f (nA nt n) 0 0 g)) else w_br (153 + w_op (nK nt n) so) 1 l (w_em (12, (if nT nt (nA nt n) = 2 then 148 else (if nT nt (nA nt n) = 3 then 149 else 151) + (if nK nt n = 25 ∨ nK nt n = 28 then 1 else 0)), 0, 0, []) (2 * (w_tl (nT nt (nA nt n))).length) [1] (wV nt f (nB nt n) 0 0 (wV nt f (nA nt n) 0 0 g)))) := rfl
    rw [hE2] at hok ⊢
    clear hE2
    have ma := wV_mono nt f (nA nt n) 0 0 g
    have tya : nt 3 (nt 1 n.toNatClampNeg).toNatClampNeg = nI (nT nt (nA nt n)) := hT.ty ea.1
    rw [a.nd ea.1]
    have vA := V ea a
    generalize hga : wV nt f (nA nt n) 0 0 g = ga at *
    have mb := wV_mono nt f (nB nt n) 0 0 ga
    have oka : g_ok ga := by
      by_cases z1 : nT nt (nA nt n) = 1 ∧ nK nt (nB nt n) = 1 ∧ nA nt (nB nt n) = 0
      · rw [if_pos z1] at hok; exact ((wM.rf ga).br _ _ _).1 hok
      · rw [if_neg z1] at hok
        by_cases z2 : nT nt (nA nt n) = 1
        · rw [if_pos z2] at hok; exact (mb.br _ _ _).1 hok
        · rw [if_neg z2] at hok; exact ((mb.em _ _ _).br _ _ _).1 hok
    refine KJ.bi (Nat.le_refl _) (vA oka) (fun lm1 lv1 x1 q1 l1 f1 u1 => ?_)
    have a1l := l1 l hl
    have hl1 : l < g_nl ga := Nat.lt_of_lt_of_le hl ma.nl
    have hv1 : lv1 l = true := by rw [a1l.2]; exact hv
    rw [a.T.2.2.2.1, tya]
    have vB : ∀ {k : mj_X → mj_R} {G : wG}, g_ok (wV nt f (nB nt n) 0 0 ga) → (∀ lm2 lv2 z, Y1 nt N P X b lm2 lv2 z (wV nt f (nB nt n) 0 0 ga) → lm2 l = lm l → lv2 l = true → KJ nt N P X b (g_nl g) (wV nt f (nB nt n) 0 0 ga) (k z) z lm2 lv2 G) → KJ nt N P X b (g_nl g) ga (mj_rV (kX0 d 35 [.ref 0, .int (nB nt n), .int (1 : Int32)] x1) k) x1 lm1 lv1 G := fun ho hk => KJ.bi ma.nl (V eb q1 ho) (fun lm2 lv2 z q l2 _ _ => hk lm2 lv2 z q ((l2 l hl1).1.trans a1l.1) (by rw [(l2 l hl1).2]; exact hv1))
    by_cases z2 : nT nt (nA nt n) = 1
    · rw [if_pos (show nI (nT nt (nA nt n)) = 1 by rw [z2]; rfl), q1.nd eb.1, q1.nd eb.1, q1.T.1, q1.T.2.1]
      have w2 : ¬ (nT nt (nA nt n) = 1 ∧ nK nt (nB nt n) = 1 ∧ nA nt (nB nt n) = 0) → KJ nt N P X b (g_nl g) ga (mj_rV (kX0 d 35 [.ref 0, .int (nB nt n), .int (1 : Int32)] x1) fun x12 => rX0_condition d (322, [some (.ref 0), some (.int n), some (.int (sp_b so)), some (.int (nI (lm l))), some (.int (nt 0 n.toNatClampNeg)), some (.int (nt 1 n.toNatClampNeg)), some (.int (nt 2 n.toNatClampNeg)), some (.int (nt 0 n.toNatClampNeg - (23 : Int32))), some (.int (nI (nT nt (nA nt n)))), some (.int (159 : Int32)), none], [], x12)) x1 lm1 lv1 (if nT nt (nA nt n) = 1 ∧ nK nt (nB nt n) = 1 ∧ nA nt (nB nt n) = 0 then w_br (153 + w_op (nK nt n) so) 1 l ga else if nT nt (nA nt n) = 1 then w_br (159 + w_op (nK nt n) so) 2 l (wV nt f (nB nt n) 0 0 ga) else w_br (153 + w_op (nK nt n) so) 1 l (w_em (12, (if nT nt (nA nt n) = 2 then 148 else (if nT nt (nA nt n) = 3 then 149 else 151) + (if nK nt n = 25 ∨ nK nt n = 28 then 1 else 0)), 0, 0, []) (2 * (w_tl (nT nt (nA nt n))).length) [1] (wV nt f (nB nt n) 0 0 ga))) := by
        intro w1
        rw [if_neg w1, if_pos z2] at hok ⊢
        exact vB (((wM.rf _).br _ _ _).1 hok) (fun lm2 lv2 z q e v => K_322 (k0 := nK nt n) (bs := 159) (by omega) k2.1 k2.2 (Or.inr rfl) so q (Nat.lt_of_lt_of_le hl1 mb.nl) v (by rw [e]))
      by_cases z3 : nK nt (nB nt n) = 1
      · rw [if_pos (show nt 0 (nt 2 n.toNatClampNeg).toNatClampNeg = 1 from z3)]
        by_cases z4 : nA nt (nB nt n) = 0
        · rw [if_pos (show nt 1 (nt 2 n.toNatClampNeg).toNatClampNeg = 0 from z4), if_pos ⟨z2, z3, z4⟩]
          exact K_322 (k0 := nK nt n) (bs := 153) (by omega) k2.1 k2.2 (Or.inl rfl) so q1 hl1 hv1 (by rw [a1l.1])
        · rw [if_neg (show ¬ nt 1 (nt 2 n.toNatClampNeg).toNatClampNeg = 0 from z4)]
          exact w2 (fun z => z4 z.2.2)
      · rw [if_neg (show ¬ nt 0 (nt 2 n.toNatClampNeg).toNatClampNeg = 1 from z3)]
        exact w2 (fun z => z3 z.2.1)
    · rw [if_neg (show ¬ nI (nT nt (nA nt n)) = 1 from fun z => z2 ((nI_eq (b := 1) (by omega) (by omega)).mp z))]
      rw [if_neg (fun z => z2 z.1), if_neg z2] at hok ⊢
      have me := (wM.rf (wV nt f (nB nt n) 0 0 ga)).em (12, (if nT nt (nA nt n) = 2 then 148 else (if nT nt (nA nt n) = 3 then 149 else 151) + (if nK nt n = 25 ∨ nK nt n = 28 then 1 else 0)), 0, 0, []) (2 * (w_tl (nT nt (nA nt n))).length) [1]
      refine vB ((me.br _ _ _).1 hok) (fun lm2 lv2 z q e v => ?_)
      have c278 : ∀ s0 : Bool, s0 = decide (nK nt n = 25 ∨ nK nt n = 28) → KJ nt N P X b (g_nl g) (wV nt f (nB nt n) 0 0 ga) (rX0_condition d (278, [some (.ref 0), some (.int n), some (.int (sp_b so)), some (.int (nI (lm l))), some (.int (nt 0 n.toNatClampNeg)), some (.int (nt 1 n.toNatClampNeg)), some (.int (nt 2 n.toNatClampNeg)), some (.int (nt 0 n.toNatClampNeg - (23 : Int32))), some (.int (nI (nT nt (nA nt n)))), some (.int (153 : Int32)), none], [.int (sp_b s0)], z)) z lm2 lv2 (w_br (153 + w_op (nK nt n) so) 1 l (w_em (12, (if nT nt (nA nt n) = 2 then 148 else (if nT nt (nA nt n) = 3 then 149 else 151) + (if nK nt n = 25 ∨ nK nt n = 28 then 1 else 0)), 0, 0, []) (2 * (w_tl (nT nt (nA nt n))).length) [1] (wV nt f (nB nt n) 0 0 ga))) := by
        intro s0 hs0
        have hf : (if nK nt n = 25 ∨ nK nt n = 28 then 1 else 0) = (bif s0 then 1 else 0) := by
          rw [hs0]
          by_cases w : nK nt n = 25 ∨ nK nt n = 28
          · rw [if_pos w, decide_eq_true w]; rfl
          · rw [if_neg w, decide_eq_false w]; rfl
        have nn := Nat.lt_of_lt_of_le hl1 mb.nl
        have fin : ∀ (u9 : Int32) (cc : Nat) (o : Option Value), cc = (if nT nt (nA nt n) = 2 then 148 else (if nT nt (nA nt n) = 3 then 149 else 151) + (if nK nt n = 25 ∨ nK nt n = 28 then 1 else 0)) → u9 = nI cc → KJ nt N P X b (g_nl g) (wV nt f (nB nt n) 0 0 ga) (mj_rV (kX0 d 37 [.ref 0, .int u9] z) fun x2 => rX0_condition d (322, [some (.ref 0), some (.int n), some (.int (sp_b so)), some (.int (nI (lm l))), some (.int (nt 0 n.toNatClampNeg)), some (.int (nt 1 n.toNatClampNeg)), some (.int (nt 2 n.toNatClampNeg)), some (.int (nt 0 n.toNatClampNeg - (23 : Int32))), some (.int (nI (nT nt (nA nt n)))), some (.int (153 : Int32)), o], [], x2)) z lm2 lv2 (w_br (153 + w_op (nK nt n) so) 1 l (w_em (12, (if nT nt (nA nt n) = 2 then 148 else (if nT nt (nA nt n) = 3 then 149 else 151) + (if nK nt n = 25 ∨ nK nt n = 28 then 1 else 0)), 0, 0, []) (2 * (w_tl (nT nt (nA nt n))).length) [1] (wV nt f (nB nt n) 0 0 ga))) := by
          intro u9 cc o hcc hu
          subst hu
          rw [← hcc]
          refine KJ.bi (show g_nl g ≤ g_nl (wV nt f (nB nt n) 0 0 ga) from Nat.le_trans ma.nl mb.nl) (c_e1 (n := g_nl (wV nt f (nB nt n) 0 0 ga)) (off := 2 * (w_tl (nT nt (nA nt n))).length) (on := [1]) (i := (12, cc, 0, 0, [])) (by omega) q ⟨fun _ => rfl, fun _ _ => rfl⟩) (fun lm3 lv3 x3 q3 l3 f3 u3 => ?_)
          have c3 := l3 l nn
          exact K_322 (k0 := nK nt n) (bs := 153) (by omega) k2.1 k2.2 (Or.inl rfl) so q3 (by rw [w_em_n.1]; exact nn) (by rw [c3.2]; exact v) (by rw [c3.1, e])
        rw [bX0_condition_278]
        by_cases z5 : nT nt (nA nt n) = 2
        · rw [if_pos (show nI (nT nt (nA nt n)) = 2 by rw [z5]; rfl)]
          exact fin 148 148 _ (by rw [if_pos z5]) rfl
        · rw [if_neg (show ¬ nI (nT nt (nA nt n)) = 2 from fun z => z5 ((nI_eq (b := 2) (by omega) (by omega)).mp z))]
          by_cases z6 : nT nt (nA nt n) = 3
          · rw [if_pos (show nI (nT nt (nA nt n)) = 3 by rw [z6]; rfl), bX0_condition_308]
            cases s0
            · rw [if_pos (show sp_b false = 0 from rfl)]
              exact fin _ 149 _ (by rw [if_neg z5, if_pos z6, hf]; rfl) rfl
            · rw [if_neg (show ¬ sp_b true = 0 by decide)]
              exact fin _ 150 _ (by rw [if_neg z5, if_pos z6, hf]; rfl) rfl
          · rw [if_neg (show ¬ nI (nT nt (nA nt n)) = 3 from fun z => z6 ((nI_eq (b := 3) (by omega) (by omega)).mp z)), bX0_condition_308]
            cases s0
            · rw [if_pos (show sp_b false = 0 from rfl)]
              exact fin _ 151 _ (by rw [if_neg z5, if_neg z6, hf]; rfl) rfl
            · rw [if_neg (show ¬ sp_b true = 0 by decide)]
              exact fin _ 152 _ (by rw [if_neg z5, if_neg z6, hf]; rfl) rfl
      by_cases z5 : nK nt n = 25
      · rw [if_pos (show nt 0 n.toNatClampNeg = 25 from z5)]
        exact c278 true (by rw [decide_eq_true (Or.inl z5)])
      · rw [if_neg (show ¬ nt 0 n.toNatClampNeg = 25 from z5)]
        by_cases z6 : nK nt n = 28
        · rw [if_pos (show nt 0 n.toNatClampNeg = 28 from z6)]
          exact c278 true (by rw [decide_eq_true (Or.inr z6)])
        · rw [if_neg (show ¬ nt 0 n.toNatClampNeg = 28 from z6)]
          exact c278 false (by rw [decide_eq_false (fun z => by rcases z with z | z <;> contradiction)])
  · rw [if_neg k2] at hok ⊢
    rw [if_pos (sp_i_f k2)]
    have nk : ¬ (23 ≤ nK nt n ∧ nK nt n ≤ 31) := by
      intro z
      have ne : ∀ {c : Int32}, ¬ nK nt n = c → ¬ (nK nt n).toInt = c.toInt := fun h e => h (Int32.toInt_inj.mp e)
      have e29 : ¬ (nK nt n).toInt = 29 := ne c29
      have e30 : ¬ (nK nt n).toInt = 30 := ne c30
      have e31 : ¬ (nK nt n).toInt = 31 := ne c31
      have r1 : (23 : Int) ≤ (nK nt n).toInt := Int32.le_iff_toInt_le.mp z.1
      have r2 : (nK nt n).toInt ≤ 31 := Int32.le_iff_toInt_le.mp z.2
      exact k2 ⟨z.1, Int32.le_iff_toInt_le.mpr (by show (nK nt n).toInt ≤ 28; omega)⟩
    have mv : wM g (w_v0 nt (wV nt f) n g) := (wM.rf g).v0 (wV_mono nt f) n
    have mb : wM (w_v0 nt (wV nt f) n g) (w_br (bif so then 154 else 153) 1 l (w_v0 nt (wV nt f) n g)) := (wM.rf _).br _ _ _
    refine KJ.bi (Nat.le_refl _) (V0 nk (mb.1 hok)) (fun lm1 lv1 x1 q1 l1 f1 t1 => ?_)
    have a1l := l1 l hl
    rw [← a1l.1]
    have hl1 := Nat.lt_of_lt_of_le hl mv.nl
    have hv1 : lv1 l = true := by rw [a1l.2]; exact hv
    cases so
    · rw [if_pos (show sp_b false = 0 from rfl)]
      exact (KJ.of (c_br (op := 153) (d := d) (by omega) (by omega) (by omega) q1 hl1 hv1)).end_
    · rw [if_neg (show ¬ sp_b true = 0 by decide)]
      exact (KJ.of (c_br (op := 154) (d := d) (by omega) (by omega) (by omega) q1 hl1 hv1)).end_
/-- a truth as a value -/
theorem K_vb {d : Nat} (hd : 6 * (f + 1) + 12 ≤ d) (hT : wTb nt N M res par) (R : ∀ n, wE nt N f n → kV nt N f n) (hE : wE nt N (f + 1) n) (hk : 23 ≤ nK nt n ∧ nK nt n ≤ 31) (hb : b + 4 * (f + 1) + 2 ≤ 49900) (a : Y1 nt N P X b lm lv x g) (h29 : x.1 0 29 = 0)
    (hok : g_ok (w_sl false (g_nl g + 1) (w_put (g_nl g + 1) (w_em (0, 1, 0, 0, []) 0 [1] (w_sl false (g_nl g) (w_put (g_nl g) (w_go (g_nl g + 1) (w_em (0, 1, 0, 1, []) 0 [1] (w_cd nt (wV nt f) n false (g_nl g) (w_lb (g_L g, 1 :: g_st g) (w_lb (g_L g, g_st g) g))))))))))) :
    KJ nt N P X b (g_nl g) g (kX0 d 57 [.ref 0, .int n, .int (nA nt n), .int (nB nt n)] x) x lm lv (w_sl false (g_nl g + 1) (w_put (g_nl g + 1) (w_em (0, 1, 0, 0, []) 0 [1] (w_sl false (g_nl g) (w_put (g_nl g) (w_go (g_nl g + 1) (w_em (0, 1, 0, 1, []) 0 [1] (w_cd nt (wV nt f) n false (g_nl g) (w_lb (g_L g, 1 :: g_st g) (w_lb (g_L g, g_st g) g)))))))))) := by
  have hE' := hE
  obtain ⟨hn, hEx, hdp⟩ := hE
  have ge : ∀ {c : Int32}, c.toInt < 23 ∨ 31 < c.toInt → ¬ nK nt n = c := by
    intro c hc e
    have r1 : (23 : Int) ≤ (nK nt n).toInt := Int32.le_iff_toInt_le.mp hk.1
    have r2 : (nK nt n).toInt ≤ 31 := Int32.le_iff_toInt_le.mp hk.2
    rw [e] at r1 r2; omega
  obtain ⟨d, rfl⟩ : ∃ e, d = e + 1 := ⟨d - 1, by omega⟩
  rw [eX0_plain, a.nd hn, a.T.1, if_pos (show (4 : Int32) < nt 0 n.toNatClampNeg from Int32.lt_of_lt_of_le (by decide) hk.1), if_neg (show ¬ nt 0 n.toNatClampNeg = 51 from ge (by decide)), if_neg (show ¬ nt 0 n.toNatClampNeg = 6 from ge (by decide)), if_neg (show ¬ nt 0 n.toNatClampNeg = 8 from ge (by decide)), sX0_isIn' (by omega), sp_bi, show sp_in (nt 0 n.toNatClampNeg).toInt64 10 20 = sp_i (nK nt n) 10 20 from sp_in_i _ 10 20, if_pos (sp_i_f (fun z => absurd (Int32.le_trans hk.1 z.2) (by decide))), if_neg (show ¬ nt 0 n.toNatClampNeg = 21 from ge (by decide)), if_neg (show ¬ nt 0 n.toNatClampNeg = 22 from ge (by decide)), if_neg (show ¬ nt 0 n.toNatClampNeg = 32 from ge (by decide)), if_neg (show ¬ nt 0 n.toNatClampNeg = 46 from ge (by decide)), if_neg (show ¬ nt 0 n.toNatClampNeg = 47 from ge (by decide))]
  refine K_dia (d := d) (C := w_cd nt (wV nt f) n false (g_nl g)) (X1 := w_em (0, 1, 0, 1, []) 0 [1]) (X2 := w_em (0, 1, 0, 0, []) 0 [1]) (rc := fun v z => kX0 d 65 [.ref 0, .int n, .int (0 : Int32), .int v] z) (r1 := fun k z => mj_rV (kX0 d 37 [.ref 0, .int (4 : Int32)] z) k) (r2 := fun k z => mj_rV (kX0 d 37 [.ref 0, .int (3 : Int32)] z) k) (by omega) a h29 (fun k => (wM.rf k).cd (wV_mono nt f) n false (g_nl g)) (fun k => (wM.rf k).em _ _ _) (fun k => (wM.rf k).em _ _ _) ?_ ?_ ?_ hok
  · intro lm1 lv1 z q1 w1 ok1
    exact K_cd (d := d) (by omega) hT R hE' (nT_b hT hE' hk) false (l := g_nl g) (by show g_nl g < g_nl g + 1 + 1; omega) w1 (by omega) q1 ok1
  · intro lm1 lv1 z G1 H1 k j hj q1 ok1 hk
    exact KJ.bi hj (c_e1 (n := g_nl G1) (by omega) q1 ⟨fun _ => rfl, fun _ _ => rfl⟩) (fun lm2 lv2 x2 q2 a2 _ _ => hk lm2 lv2 x2 q2 a2)
  · intro lm1 lv1 z G1 H1 k j hj q1 ok1 hk
    exact KJ.bi hj (c_e1 (n := g_nl G1) (by omega) q1 ⟨fun _ => rfl, fun _ _ => rfl⟩) (fun lm2 lv2 x2 q2 a2 _ _ => hk lm2 lv2 x2 q2 a2)
/-- the way to a truth -/
theorem e_246 {d : Nat} (hd : 2 ≤ d) {w0 : Int32} (hn : sp_nd N n = true) (hk : 23 ≤ nK nt n ∧ nK nt n ≤ 31) (a : Y1 nt N P X b lm lv x g) : kX0 (d + 1) 35 [.ref 0, .int n, .int w0] x = mj_rV (kX0 d 57 [.ref 0, .int n, .int (nA nt n), .int (nB nt n)] x) fun x3 => if w0 = 0 then mj_g n 4000 (mj_rV (kX0 d 55 [.ref 0, .int (x3.1 4 n.toNatClampNeg)] x3) fun x4 => some (none, x4)) else some (none, x3) := by
  have ge : ∀ {c : Int32}, c.toInt < 23 ∨ 31 < c.toInt → ¬ nK nt n = c := by
    intro c hc e
    have r1 : (23 : Int) ≤ (nK nt n).toInt := Int32.le_iff_toInt_le.mp hk.1
    have r2 : (nK nt n).toInt ≤ 31 := Int32.le_iff_toInt_le.mp hk.2
    rw [e] at r1 r2; omega
  rw [eX0_value_2, a.nd hn, a.nd hn, a.nd hn, a.T.1, a.T.2.1, a.T.2.2.1]
  show mj_lk (nK nt n) 225 _ _ = _
  rw [lk4 (ge (by decide)) (ge (by decide)) (ge (by decide)) (ge (by decide))]
  show rX0_value_2 d (246, [some (.ref 0), some (.int n), some (.int w0), some (.int (nA nt n)), some (.int (nB nt n)), none], [], x) = _
  rw [bX0_value_2_246, a.nd hn, a.T.1, sX0_isIn' (by omega), sp_bi, show sp_in (nt 0 n.toNatClampNeg).toInt64 35 45 = sp_i (nK nt n) 35 45 from sp_in_i _ 35 45, if_pos (sp_i_f (fun z => absurd (Int32.le_trans z.1 hk.2) (by decide)))]
theorem w_vl_live {rec : wR} (hq : w_q g = false) : w_vl nt rec n g = (if 23 ≤ nK nt n ∧ nK nt n ≤ 31 then w_sl false (g_nl g + 1) (w_put (g_nl g + 1) (w_em (0, 1, 0, 0, []) 0 [1] (w_sl false (g_nl g) (w_put (g_nl g) (w_go (g_nl g + 1) (w_em (0, 1, 0, 1, []) 0 [1] (w_cd nt rec n false (g_nl g) (w_lb (g_L g, 1 :: g_st g) (w_lb (g_L g, g_st g) g))))))))) else w_v0 nt rec n g) := by
  unfold w_vl; rw [hq]; rfl
theorem K_vl {d : Nat} (hd : 6 * (f + 1) + 13 ≤ d) (hT : wTb nt N M res par) (R : ∀ n, wE nt N f n → kV nt N f n) (hE : wE nt N (f + 1) n) (hb : b + 4 * (f + 1) + 2 ≤ 49900) (a : Y1 nt N P X b lm lv x g) (hok : g_ok (w_vl nt (wV nt f) n g)) :
    KJ nt N P X b (g_nl g) g (kX0 d 35 [.ref 0, .int n, .int (1 : Int32)] x) x lm lv (w_vl nt (wV nt f) n g) := by
  have hm : wM g (w_vl nt (wV nt f) n g) := (wM.rf g).vl (wV_mono nt f) n
  have hpl : g_pl (w_vl nt (wV nt f) n g) = g_pl g := by
    cases hq : w_q g
    · exact (wP_vl hT (fun c hc => wV_sh hT f c hc) (m := 0) hq (Nat.zero_le _) hE).1.1.2.2.2.2.2.2
    · rw [w_vl_q hq]
  by_cases hlq : yq x
  · exact QR.kj ((Q_all hT (f + 1)).1 n P X b lm lv x g d _ hE hd hb a hlq) hlq a hm hpl (fun q => w_vl_q q) (Nat.le_refl _)
  obtain ⟨h29, h30, hq⟩ := a.live hlq
  rw [w_vl_live hq] at hok ⊢
  by_cases hk : 23 ≤ nK nt n ∧ nK nt n ≤ 31
  · rw [if_pos hk] at hok ⊢
    obtain ⟨d', rfl⟩ : ∃ e, d = e + 1 := ⟨d - 1, by omega⟩
    rw [e_246 (by omega) hE.1 hk a]
    refine KJ.bi (Nat.le_refl _) (K_vb (d := d') (by omega) hT R hE hk hb a h29 hok) (fun lm1 lv1 x1 q1 l1 f1 t1 => ?_)
    rw [if_neg (show ¬ (1 : Int32) = 0 by decide)]
    exact KJ.id_ q1
  · rw [if_neg hk] at hok ⊢
    exact K_v0 (by omega) hT R hE hk (by omega) a h29 hok
/-- every value and every condition -/
theorem kV_all (hT : wTb nt N M res par) : ∀ (f : Nat) (n : Int32), wE nt N f n → kV nt N f n := by
  intro f
  induction f with
  | zero => intro n hn; have := (hT.d hn.1).1; have := hn.2.2; omega
  | succ f ih =>
    intro n hE P X b lm lv x g d hd hb a
    refine ⟨fun hok => K_vl hd hT ih hE hb a hok, fun ht so l hl hv hok => ?_⟩
    have e : wV nt (f + 1) n (bif so then 2 else 3) l g = w_cd nt (wV nt f) n so l g := by cases so <;> rfl
    rw [e] at hok ⊢
    exact K_cd (by omega) hT ih hE ht so hl hv (by omega) a hok
end
