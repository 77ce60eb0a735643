/-! CodeWriter: steps -/
section
variable {nt : sp_NT} {N M : Nat} {P : yP} {X : List (Nat × Bool)} {b : Nat} {lm lm' : Nat → Nat} {lv lv' : Nat → Bool} {x y : mj_X} {g h G H : wG} {res par : Nat → Int32} {f : Nat} {n : Int32}
theorem stp_A {rec : wR} {tg how : Int32} {want : Bool} (k : nK nt tg = 6) (t : nT nt tg = 1) : w_stp nt rec tg how want g = (bif want && !decide (2 ≤ how) then w_ld 1 (w_pl g (nA nt tg)) [1] (w_inc (w_pl g (nA nt tg)) (if (if how = 0 ∨ how = 2 then 10 else 11) = 10 then 1 else -1) (bif want && decide (2 ≤ how) then w_ld 1 (w_pl g (nA nt tg)) [1] (w_pk (nA nt tg) g) else w_pk (nA nt tg) g)) else w_inc (w_pl g (nA nt tg)) (if (if how = 0 ∨ how = 2 then 10 else 11) = 10 then 1 else -1) (bif want && decide (2 ≤ how) then w_ld 1 (w_pl g (nA nt tg)) [1] (w_pk (nA nt tg) g) else w_pk (nA nt tg) g)) := by
  unfold w_stp; simp only [if_pos (And.intro k t)]
theorem stp_B {rec : wR} {tg how : Int32} {want : Bool} (k : nK nt tg = 6) (t : ¬ nT nt tg = 1) : w_stp nt rec tg how want g = w_st (nT nt tg) (w_pl g (nA nt tg)) (bif want && !decide (2 ≤ how) then w_dup (nT nt tg) (w_bin (if how = 0 ∨ how = 2 then 10 else 11) (nT nt tg) (w_one (nT nt tg) (bif want && decide (2 ≤ how) then w_dup (nT nt tg) (w_ld (nT nt tg) (w_pl g (nA nt tg)) (w_tl (nT nt tg)) (w_pk (nA nt tg) g)) else w_ld (nT nt tg) (w_pl g (nA nt tg)) (w_tl (nT nt tg)) (w_pk (nA nt tg) g)))) else w_bin (if how = 0 ∨ how = 2 then 10 else 11) (nT nt tg) (w_one (nT nt tg) (bif want && decide (2 ≤ how) then w_dup (nT nt tg) (w_ld (nT nt tg) (w_pl g (nA nt tg)) (w_tl (nT nt tg)) (w_pk (nA nt tg) g)) else w_ld (nT nt tg) (w_pl g (nA nt tg)) (w_tl (nT nt tg)) (w_pk (nA nt tg) g)))) := by
  have hI : ∀ op, w_isI nt op (nT nt tg) (-1) = false := fun op => by unfold w_isI; rw [decide_eq_true (rfl : (-1 : Int32) = -1), Bool.not_true, Bool.and_false, Bool.false_and, Bool.false_and, Bool.false_and, Bool.false_and]
  have ho : ∀ G, w_opd nt rec (-1) (nT nt tg) G = w_one (nT nt tg) G := fun G => by unfold w_opd; rw [if_pos (by rfl)]
  unfold w_stp
  simp only [if_neg (fun z : nK nt tg = 6 ∧ nT nt tg = 1 => t z.2)]
  unfold w_chg
  simp only [if_pos k, hI, ho, cond_false]
  generalize decide (2 ≤ how) = bh
  cases want <;> cases bh <;> rfl
theorem stp_C {rec : wR} {tg how : Int32} {want : Bool} (k : ¬ nK nt tg = 6) : w_stp nt rec tg how want g = w_est (nT nt (nA nt tg)) (bif want && !decide (2 ≤ how) then w_du (nT nt tg) (w_cut (Nat.beq (nT nt (nA nt tg)) 5) (w_bin (if how = 0 ∨ how = 2 then 10 else 11) (nT nt tg) (w_one (nT nt tg) (bif want && decide (2 ≤ how) then w_du (nT nt tg) (w_eld (nT nt (nA nt tg)) (w_d2 (rec (nB nt tg) 0 0 (rec (nA nt tg) 0 0 g)))) else w_eld (nT nt (nA nt tg)) (w_d2 (rec (nB nt tg) 0 0 (rec (nA nt tg) 0 0 g))))))) else w_cut (Nat.beq (nT nt (nA nt tg)) 5) (w_bin (if how = 0 ∨ how = 2 then 10 else 11) (nT nt tg) (w_one (nT nt tg) (bif want && decide (2 ≤ how) then w_du (nT nt tg) (w_eld (nT nt (nA nt tg)) (w_d2 (rec (nB nt tg) 0 0 (rec (nA nt tg) 0 0 g)))) else w_eld (nT nt (nA nt tg)) (w_d2 (rec (nB nt tg) 0 0 (rec (nA nt tg) 0 0 g))))))) := by
  have ho : ∀ G, w_opd nt rec (-1) (nT nt tg) G = w_one (nT nt tg) G := fun G => by unfold w_opd; rw [if_pos (by rfl)]
  unfold w_stp
  simp only [if_neg (fun z : nK nt tg = 6 ∧ nT nt tg = 1 => k z.1), if_neg k]
  unfold w_chg
  simp only [if_neg k, ho]
  generalize decide (2 ≤ how) = bh
  cases want <;> cases bh <;> rfl
theorem K_step {d : Nat} {how : Int32} (hd : 6 * f + 15 ≤ d) (hT : wTb nt N M res par) (R : ∀ n, wE nt N f n → kV nt N f n) {tg : Int32} (hn : sp_nd N n = true) (b1 : 0 ≤ how) (b2 : how ≤ 3) (h1 : sp_nd N tg = true) (hk : nK nt tg = 6 ∨ nK nt tg = 8) (h6 : nK nt tg = 6 → sp_nd N (nA nt tg) = true ∧ nT nt tg = nT nt (nA nt tg)) (h8 : nK nt tg = 8 → wE nt N f (nA nt tg) ∧ wE nt N f (nB nt tg) ∧ 5 ≤ nT nt (nA nt tg) ∧ nT nt (nA nt tg) ≤ 8) (t1 : 1 ≤ nT nt tg) (t4 : nT nt tg ≤ 4) (tn : nT nt n = nT nt tg) (want : Bool) (hb : b + 4 * f + 2 ≤ 49900) (a : Y1 nt N P X b lm lv x g)
    (hok : g_ok (w_stp nt (wV nt f) tg how want g)) : KJ nt N P X b (g_nl g) g (kX0 d 46 [.ref 0, .int n, .int tg, .int how, .int (sp_b want)] x) x lm lv (w_stp nt (wV nt f) tg how want g) := by
  obtain ⟨d, rfl⟩ : ∃ c, d = c + 1 := ⟨d - 1, by omega⟩
  have hh : how = 0 ∨ how = 1 ∨ how = 2 ∨ how = 3 := by
    obtain ⟨j, hj, e⟩ := i_enum (a := 0) (c := 3) b1 b2 rfl rfl
    have hj : j = 0 ∨ j = 1 ∨ j = 2 ∨ j = 3 := by omega
    subst e
    rcases hj with rfl | rfl | rfl | rfl
    · exact Or.inl rfl
    · exact Or.inr (Or.inl rfl)
    · exact Or.inr (Or.inr (Or.inl rfl))
    · exact Or.inr (Or.inr (Or.inr rfl))
  have hev : (how - how / (2 : Int32) * (2 : Int32) = 0) = (how = 0 ∨ how = 2) := by rcases hh with rfl | rfl | rfl | rfl <;> decide
  have hlt : (how < (2 : Int32)) = (decide (2 ≤ how) = false) := by rcases hh with rfl | rfl | rfl | rfl <;> decide
  have t8 : nT nt tg ≤ 8 := by omega
  have tyn : x.1 4 n.toNatClampNeg = nI (nT nt tg) := by rw [a.T.2.2.2.1, hT.ty hn, tn]
  rw [eX0_step, a.nd hn, tyn]
  -- from the operation on
  have c33 : ∀ op : Nat, op = (if how = 0 ∨ how = 2 then 10 else 11) → KJ nt N P X b (g_nl g) g (rX0_step d (33, [some (.ref 0), some (.int n), some (.int tg), some (.int how), some (.int (sp_b want)), some (.int (nI (nT nt tg))), some (.int (nI op)), none, none], [.int (sp_b (decide (2 ≤ how)))], x)) x lm lv (w_stp nt (wV nt f) tg how want g) := by
    intro op hop
    have o1 : 10 ≤ op := by rw [hop]; split <;> omega
    have o2 : op ≤ 20 := by rw [hop]; split <;> omega
    rw [bX0_step_33, a.nd h1, a.T.1]
    rcases hk with k | k
    · obtain ⟨v1, tv⟩ := h6 k
      rw [if_pos (show nt 0 tg.toNatClampNeg = 6 from k), a.nd h1, a.T.2.1, a.nd v1]
      have a' : Y1 nt N P X b lm lv x (w_pk (nA nt tg) g) := a
      have plok : g_ok (w_pk (nA nt tg) g) → x.1 35 (nA nt tg).toNatClampNeg = nI (w_pl g (nA nt tg)) ∧ w_pl g (nA nt tg) < 256 := fun h => a.pl v1 h.2
      by_cases z1 : nT nt tg = 1
      · -- an int: it grows
        rw [stp_A k z1] at hok ⊢
        rw [← hop] at hok ⊢
        have m1 : wM (w_pk (nA nt tg) g) (bif want && decide (2 ≤ how) then w_ld 1 (w_pl g (nA nt tg)) [1] (w_pk (nA nt tg) g) else w_pk (nA nt tg) g) := wM.cond ((wM.rf _).ld _ _ _) (wM.rf _)
        have m2 : ∀ G : wG, wM G (bif want && !decide (2 ≤ how) then w_ld 1 (w_pl g (nA nt tg)) [1] (w_inc (w_pl g (nA nt tg)) (if op = 10 then 1 else -1) G) else w_inc (w_pl g (nA nt tg)) (if op = 10 then 1 else -1) G) := fun G => wM.cond (((wM.rf _).inc _ _).ld _ _ _) ((wM.rf _).inc _ _)
        obtain ⟨p1, p2⟩ := plok (m1.1 ((m2 _).1 hok))
        have c97 : ∀ (G1 : wG) (lm1 : Nat → Nat) (lv1 : Nat → Bool) (z : mj_X) (v : Int32), v.toInt64 = (if op = 10 then 1 else -1) → Y1 nt N P X b lm1 lv1 z G1 → KJ nt N P X b (g_nl g) G1 (rX0_step d (97, [some (.ref 0), some (.int n), some (.int tg), some (.int how), some (.int (sp_b want)), some (.int (nI (nT nt tg))), some (.int (nI op)), some (.int (sp_b (decide (2 ≤ how)))), some (.int (nI (w_pl g (nA nt tg))))], [.int v, .int (nI (w_pl g (nA nt tg))), .ref 0], z)) z lm1 lv1 (bif want && !decide (2 ≤ how) then w_ld 1 (w_pl g (nA nt tg)) [1] (w_inc (w_pl g (nA nt tg)) (if op = 10 then 1 else -1) G1) else w_inc (w_pl g (nA nt tg)) (if op = 10 then 1 else -1) G1) := by
          intro G1 lm1 lv1 z v hv q
          rw [bX0_step_97, ← hv]
          refine KJ.bi (Nat.le_refl _) (c_inc (n := g_nl g) (by omega) p2 q) (fun lm2 lv2 x2 q2 l2 f2 u2 => ?_)
          generalize decide (2 ≤ how) = bh
          cases want
          · rw [if_pos (show sp_b false = 0 from rfl)]; exact KJ.id_ q2
          · rw [if_neg (show ¬ sp_b true = 0 by decide)]
            cases bh
            · rw [if_pos (show sp_b false = 0 from rfl)]
              exact (c_ld (t := 1) (on := [1]) (by omega) (by omega) (by omega) p2 q2).end_
            · rw [if_neg (show ¬ sp_b true = 0 by decide)]; exact KJ.id_ q2
        have c82 : ∀ (G1 : wG) (lm1 : Nat → Nat) (lv1 : Nat → Bool) (z : mj_X), Y1 nt N P X b lm1 lv1 z G1 → KJ nt N P X b (g_nl g) G1 (rX0_step d (82, [some (.ref 0), some (.int n), some (.int tg), some (.int how), some (.int (sp_b want)), some (.int (nI (nT nt tg))), some (.int (nI op)), some (.int (sp_b (decide (2 ≤ how)))), some (.int (nI (w_pl g (nA nt tg))))], [], z)) z lm1 lv1 (bif want && !decide (2 ≤ how) then w_ld 1 (w_pl g (nA nt tg)) [1] (w_inc (w_pl g (nA nt tg)) (if op = 10 then 1 else -1) G1) else w_inc (w_pl g (nA nt tg)) (if op = 10 then 1 else -1) G1) := by
          intro G1 lm1 lv1 z q
          rw [bX0_step_82]
          by_cases h10 : op = 10
          · rw [if_pos (show nI op = 10 by rw [h10]; rfl)]
            exact c97 _ _ _ _ 1 (by rw [if_pos h10]; rfl) q
          · rw [if_neg (show ¬ nI op = 10 from fun w => h10 ((nI_eq (b := 10) (by omega) (by omega)).mp w))]
            exact c97 _ _ _ _ (-1) (by rw [if_neg h10]; rfl) q
        rw [if_pos (by rw [z1]; rfl), p1]
        revert hok
        generalize hbh : decide (2 ≤ how) = bh at *
        intro hok
        cases want
        · rw [if_pos (show sp_b false = 0 from rfl)]; exact c82 _ lm lv x a'
        · rw [if_neg (show ¬ sp_b true = 0 by decide)]
          cases bh
          · rw [if_pos (show sp_b false = 0 from rfl)]; exact c82 _ lm lv x a'
          · rw [if_neg (show ¬ sp_b true = 0 by decide)]
            refine KJ.bi (g := w_pk (nA nt tg) g) (Nat.le_refl _) (c_ld (n := g_nl g) (t := 1) (on := [1]) (by omega) (by omega) (by omega) p2 a') (fun lm2 lv2 x2 q2 l2 f2 u2 => c82 _ lm2 lv2 x2 q2)
      · -- another local
        rw [stp_B k z1] at hok ⊢
        rw [← hop] at hok ⊢
        rw [if_neg (fun (w : nI (nT nt tg) = (1 : Int32)) => z1 ((nI_eq (b := 1) (by omega) (by omega)).mp w))]
        have m1 : wM (w_pk (nA nt tg) g) (w_ld (nT nt tg) (w_pl g (nA nt tg)) (w_tl (nT nt tg)) (w_pk (nA nt tg) g)) := (wM.rf _).ld _ _ _
        have nn1 : g_nl (w_ld (nT nt tg) (w_pl g (nA nt tg)) (w_tl (nT nt tg)) (w_pk (nA nt tg) g)) = g_nl g := w_em_n.1
        have okL : g_ok (w_ld (nT nt tg) (w_pl g (nA nt tg)) (w_tl (nT nt tg)) (w_pk (nA nt tg) g)) := by
          have m3 : wM (w_ld (nT nt tg) (w_pl g (nA nt tg)) (w_tl (nT nt tg)) (w_pk (nA nt tg) g)) (bif want && decide (2 ≤ how) then w_dup (nT nt tg) (w_ld (nT nt tg) (w_pl g (nA nt tg)) (w_tl (nT nt tg)) (w_pk (nA nt tg) g)) else w_ld (nT nt tg) (w_pl g (nA nt tg)) (w_tl (nT nt tg)) (w_pk (nA nt tg) g)) := wM.cond ((wM.rf _).dup _) (wM.rf _)
          exact (m3.tr ((wM.cond ((((wM.rf _).one _).bin _ _).dup _) (((wM.rf _).one _).bin _ _)).st _ _)).1 hok
        obtain ⟨p1, p2⟩ := plok (m1.1 okL)
        rw [p1]
        have c142 : ∀ (G1 : wG) (lm1 : Nat → Nat) (lv1 : Nat → Bool) (z : mj_X), g_nl g ≤ g_nl G1 → g_ok (w_st (nT nt tg) (w_pl g (nA nt tg)) (bif want && !decide (2 ≤ how) then w_dup (nT nt tg) (w_bin op (nT nt tg) (w_one (nT nt tg) G1)) else w_bin op (nT nt tg) (w_one (nT nt tg) G1))) → Y1 nt N P X b lm1 lv1 z G1 → KJ nt N P X b (g_nl g) G1 (rX0_step d (142, [some (.ref 0), some (.int n), some (.int tg), some (.int how), some (.int (sp_b want)), some (.int (nI (nT nt tg))), some (.int (nI op)), some (.int (sp_b (decide (2 ≤ how)))), some (.int (nI (w_pl g (nA nt tg))))], [], z)) z lm1 lv1 (w_st (nT nt tg) (w_pl g (nA nt tg)) (bif want && !decide (2 ≤ how) then w_dup (nT nt tg) (w_bin op (nT nt tg) (w_one (nT nt tg) G1)) else w_bin op (nT nt tg) (w_one (nT nt tg) G1))) := by
          intro G1 lm1 lv1 z hnl hok q
          have m2 : wM (w_one (nT nt tg) G1) (w_st (nT nt tg) (w_pl g (nA nt tg)) (bif want && !decide (2 ≤ how) then w_dup (nT nt tg) (w_bin op (nT nt tg) (w_one (nT nt tg) G1)) else w_bin op (nT nt tg) (w_one (nT nt tg) G1))) := (wM.cond (((wM.rf _).bin _ _).dup _) ((wM.rf _).bin _ _)).st _ _
          rw [bX0_step_142]
          refine KJ.bi (Nat.le_refl _) (c_one (n := g_nl g) (by omega) t1 t4 hnl q (m2.1 hok)) (fun lm2 lv2 x2 q2 l2 f2 u2 => ?_)
          refine c_bin (n1 := g_nl g) (by omega) o1 o2 t1 t4 rfl rfl (Nat.le_refl _) q2 (fun lm3 lv3 x3 q3 l3 f3 u3 => ?_)
          generalize decide (2 ≤ how) = bh
          cases want
          · rw [if_pos (show sp_b false = 0 from rfl)]; exact (c_st (by omega) t1 t8 p2 q3).end_
          · rw [if_neg (show ¬ sp_b true = 0 by decide)]
            cases bh
            · rw [if_pos (show sp_b false = 0 from rfl)]
              refine KJ.bi (Nat.le_refl _) (c_dup (n := g_nl g) (by omega) t8 q3) (fun lm4 lv4 x4 q4 l4 f4 u4 => ?_)
              exact (c_st (by omega) t1 t8 p2 q4).end_
            · rw [if_neg (show ¬ sp_b true = 0 by decide)]; exact (c_st (by omega) t1 t8 p2 q3).end_
        refine KJ.bi (g := w_pk (nA nt tg) g) (Nat.le_refl _) (c_ld (n := g_nl g) (on := w_tl (nT nt tg)) (by omega) t1 t8 p2 a') (fun lm1 lv1 x1 q1 l1 f1 u1 => ?_)
        have fin : ∀ bh : Bool, bh = decide (2 ≤ how) → KJ nt N P X b (g_nl g) (w_ld (nT nt tg) (w_pl g (nA nt tg)) (w_tl (nT nt tg)) (w_pk (nA nt tg) g)) (if sp_b want = 0 then rX0_step d (142, [some (.ref 0), some (.int n), some (.int tg), some (.int how), some (.int (sp_b want)), some (.int (nI (nT nt tg))), some (.int (nI op)), some (.int (sp_b bh)), some (.int (nI (w_pl g (nA nt tg))))], [], x1) else if sp_b bh = 0 then rX0_step d (142, [some (.ref 0), some (.int n), some (.int tg), some (.int how), some (.int (sp_b want)), some (.int (nI (nT nt tg))), some (.int (nI op)), some (.int (sp_b bh)), some (.int (nI (w_pl g (nA nt tg))))], [], x1) else mj_rV (kX0 d 36 [.ref 0, .int (nI (nT nt tg))] x1) fun x3 => rX0_step d (142, [some (.ref 0), some (.int n), some (.int tg), some (.int how), some (.int (sp_b want)), some (.int (nI (nT nt tg))), some (.int (nI op)), some (.int (sp_b bh)), some (.int (nI (w_pl g (nA nt tg))))], [], x3)) x1 lm1 lv1 (w_st (nT nt tg) (w_pl g (nA nt tg)) (bif want && !decide (2 ≤ how) then w_dup (nT nt tg) (w_bin op (nT nt tg) (w_one (nT nt tg) (bif want && decide (2 ≤ how) then w_dup (nT nt tg) (w_ld (nT nt tg) (w_pl g (nA nt tg)) (w_tl (nT nt tg)) (w_pk (nA nt tg) g)) else w_ld (nT nt tg) (w_pl g (nA nt tg)) (w_tl (nT nt tg)) (w_pk (nA nt tg) g)))) else w_bin op (nT nt tg) (w_one (nT nt tg) (bif want && decide (2 ≤ how) then w_dup (nT nt tg) (w_ld (nT nt tg) (w_pl g (nA nt tg)) (w_tl (nT nt tg)) (w_pk (nA nt tg) g)) else w_ld (nT nt tg) (w_pl g (nA nt tg)) (w_tl (nT nt tg)) (w_pk (nA nt tg) g))))) := by
          intro bh hbh
          rw [← hbh] at hok c142 ⊢
          cases want
          · rw [if_pos (show sp_b false = 0 from rfl)]; exact c142 _ lm1 lv1 x1 (by omega) hok q1
          · rw [if_neg (show ¬ sp_b true = 0 by decide)]
            cases bh
            · rw [if_pos (show sp_b false = 0 from rfl)]; exact c142 _ lm1 lv1 x1 (by omega) hok q1
            · rw [if_neg (show ¬ sp_b true = 0 by decide)]
              refine KJ.bi (Nat.le_refl _) (c_dup (n := g_nl g) (by omega) t8 q1) (fun lm2 lv2 x2 q2 l2 f2 u2 => ?_)
              exact c142 _ lm2 lv2 x2 (by have := ((wM.rf (w_ld (nT nt tg) (w_pl g (nA nt tg)) (w_tl (nT nt tg)) (w_pk (nA nt tg) g))).dup (nT nt tg)).nl; omega) hok q2
        exact fin _ rfl
    · -- an element
      obtain ⟨ea, eb, a5, a8⟩ := h8 k
      have k6 : ¬ nK nt tg = 6 := by rw [k]; decide
      rw [stp_C k6] at hok ⊢
      rw [← hop] at hok ⊢
      rw [if_neg (show ¬ nt 0 tg.toNatClampNeg = 6 from k6)]
      have m1 : wM g (w_eld (nT nt (nA nt tg)) (w_d2 (wV nt f (nB nt tg) 0 0 (wV nt f (nA nt tg) 0 0 g)))) := ((((wM.rf _).rc (wV_mono nt f) _ _ _).rc (wV_mono nt f) _ _ _).d2).eld _
      have j1 := fun ok => K_twice (d := d) (by omega) hT R h1 ea eb a5 a8 hb a ok
      generalize hG1 : w_eld (nT nt (nA nt tg)) (w_d2 (wV nt f (nB nt tg) 0 0 (wV nt f (nA nt tg) 0 0 g))) = G1 at *
      have okL : g_ok G1 := by
        have m3 : wM G1 (bif want && decide (2 ≤ how) then w_du (nT nt tg) G1 else G1) := wM.cond ((wM.rf _).du _) (wM.rf _)
        exact (m3.tr ((wM.cond (((((wM.rf _).one _).bin _ _).cut _).du _) ((((wM.rf _).one _).bin _ _).cut _)).est _)).1 hok
      have nn1 := m1.nl
      have c205 : ∀ (G2 : wG) (lm1 : Nat → Nat) (lv1 : Nat → Bool) (z : mj_X), g_nl g ≤ g_nl G2 → g_ok (w_est (nT nt (nA nt tg)) (bif want && !decide (2 ≤ how) then w_du (nT nt tg) (w_cut (Nat.beq (nT nt (nA nt tg)) 5) (w_bin op (nT nt tg) (w_one (nT nt tg) G2))) else w_cut (Nat.beq (nT nt (nA nt tg)) 5) (w_bin op (nT nt tg) (w_one (nT nt tg) G2)))) → Y1 nt N P X b lm1 lv1 z G2 → KJ nt N P X b (g_nl g) G2 (rX0_step d (205, [some (.ref 0), some (.int n), some (.int tg), some (.int how), some (.int (sp_b want)), some (.int (nI (nT nt tg))), some (.int (nI op)), some (.int (sp_b (decide (2 ≤ how)))), none], [], z)) z lm1 lv1 (w_est (nT nt (nA nt tg)) (bif want && !decide (2 ≤ how) then w_du (nT nt tg) (w_cut (Nat.beq (nT nt (nA nt tg)) 5) (w_bin op (nT nt tg) (w_one (nT nt tg) G2))) else w_cut (Nat.beq (nT nt (nA nt tg)) 5) (w_bin op (nT nt tg) (w_one (nT nt tg) G2)))) := by
        intro G2 lm1 lv1 z hnl hok q
        have m2 : wM (w_one (nT nt tg) G2) (w_est (nT nt (nA nt tg)) (bif want && !decide (2 ≤ how) then w_du (nT nt tg) (w_cut (Nat.beq (nT nt (nA nt tg)) 5) (w_bin op (nT nt tg) (w_one (nT nt tg) G2))) else w_cut (Nat.beq (nT nt (nA nt tg)) 5) (w_bin op (nT nt tg) (w_one (nT nt tg) G2)))) := (wM.cond ((((wM.rf _).bin _ _).cut _).du _) (((wM.rf _).bin _ _).cut _)).est _
        have c243 : ∀ (G' : wG) (lm5 : Nat → Nat) (lv5 : Nat → Bool) (z : mj_X), Y1 nt N P X b lm5 lv5 z G' → KJ nt N P X b (g_nl g) G' (rX0_step d (243, [some (.ref 0), some (.int n), some (.int tg), some (.int how), some (.int (sp_b want)), some (.int (nI (nT nt tg))), some (.int (nI op)), some (.int (sp_b (decide (2 ≤ how)))), none], [], z)) z lm5 lv5 (w_est (nT nt (nA nt tg)) G') := by
          intro G' lm5 lv5 z q
          rw [bX0_step_243, q.nd h1, q.T.2.1, q.nd ea.1, q.T.2.2.2.1, hT.ty ea.1]
          exact c_est (by omega) a5 a8 rfl q
        rw [bX0_step_205]
        refine KJ.bi (Nat.le_refl _) (c_one (n := g_nl g) (by omega) t1 t4 hnl q (m2.1 hok)) (fun lm2 lv2 x2 q2 l2 f2 u2 => ?_)
        refine c_bin (n1 := g_nl g) (by omega) o1 o2 t1 t4 rfl rfl (Nat.le_refl _) q2 (fun lm3 lv3 x3 q3 l3 f3 u3 => ?_)
        refine KJ.bi (Nat.le_refl _) (c_cut (n := g_nl g) (by omega) ⟨M, res, par, hT⟩ h1 ea.1 q3) (fun lm4 lv4 x4 q4 l4 f4 u4 => ?_)
        revert c243
        generalize decide (2 ≤ how) = bh
        intro c243
        cases want
        · rw [if_pos (show sp_b false = 0 from rfl)]; exact c243 _ lm4 lv4 x4 q4
        · rw [if_neg (show ¬ sp_b true = 0 by decide)]
          cases bh
          · rw [if_pos (show sp_b false = 0 from rfl)]
            refine KJ.bi (Nat.le_refl _) (c_du (n := g_nl g) (by omega) t8 q4) (fun lm5 lv5 x5 q5 l5 f5 u5 => ?_)
            exact c243 _ lm5 lv5 x5 q5
          · rw [if_neg (show ¬ sp_b true = 0 by decide)]; exact c243 _ lm4 lv4 x4 q4
      refine KJ.bi (Nat.le_refl _) (j1 okL) (fun lm1 lv1 x1 q1 l1 f1 u1 => ?_)
      have fin : ∀ bh : Bool, bh = decide (2 ≤ how) → KJ nt N P X b (g_nl g) G1 (if sp_b want = 0 then rX0_step d (205, [some (.ref 0), some (.int n), some (.int tg), some (.int how), some (.int (sp_b want)), some (.int (nI (nT nt tg))), some (.int (nI op)), some (.int (sp_b bh)), none], [], x1) else if sp_b bh = 0 then rX0_step d (205, [some (.ref 0), some (.int n), some (.int tg), some (.int how), some (.int (sp_b want)), some (.int (nI (nT nt tg))), some (.int (nI op)), some (.int (sp_b bh)), none], [], x1) else mj_rV (kX0 d 44 [.ref 0, .int (nI (nT nt tg))] x1) fun x5 => rX0_step d (205, [some (.ref 0), some (.int n), some (.int tg), some (.int how), some (.int (sp_b want)), some (.int (nI (nT nt tg))), some (.int (nI op)), some (.int (sp_b bh)), none], [], x5)) x1 lm1 lv1 (w_est (nT nt (nA nt tg)) (bif want && !decide (2 ≤ how) then w_du (nT nt tg) (w_cut (Nat.beq (nT nt (nA nt tg)) 5) (w_bin op (nT nt tg) (w_one (nT nt tg) (bif want && decide (2 ≤ how) then w_du (nT nt tg) G1 else G1)))) else w_cut (Nat.beq (nT nt (nA nt tg)) 5) (w_bin op (nT nt tg) (w_one (nT nt tg) (bif want && decide (2 ≤ how) then w_du (nT nt tg) G1 else G1))))) := by
        intro bh hbh
        rw [← hbh] at hok c205 ⊢
        cases want
        · rw [if_pos (show sp_b false = 0 from rfl)]; exact c205 _ lm1 lv1 x1 nn1 hok q1
        · rw [if_neg (show ¬ sp_b true = 0 by decide)]
          cases bh
          · rw [if_pos (show sp_b false = 0 from rfl)]; exact c205 _ lm1 lv1 x1 nn1 hok q1
          · rw [if_neg (show ¬ sp_b true = 0 by decide)]
            refine KJ.bi (Nat.le_refl _) (c_du (n := g_nl g) (by omega) t8 q1) (fun lm2 lv2 x2 q2 l2 f2 u2 => ?_)
            exact c205 _ lm2 lv2 x2 (by have := ((wM.rf G1).du (nT nt tg)).nl; omega) hok q2
      exact fin _ rfl
  have c21 : ∀ op : Nat, op = (if how = 0 ∨ how = 2 then 10 else 11) → KJ nt N P X b (g_nl g) g (rX0_step d (21, [some (.ref 0), some (.int n), some (.int tg), some (.int how), some (.int (sp_b want)), some (.int (nI (nT nt tg))), none, none, none], [.int (nI op)], x)) x lm lv (w_stp nt (wV nt f) tg how want g) := by
    intro op hop
    have := c33 op hop
    rw [bX0_step_21]
    cases hbh : decide (2 ≤ how)
    · rw [hbh] at this
      rw [if_pos (by rw [hlt]; exact hbh)]; exact this
    · rw [hbh] at this
      rw [if_neg (by rw [hlt, hbh]; decide)]; exact this
  by_cases z : how = 0 ∨ how = 2
  · rw [if_pos (by rw [hev]; exact z)]; exact c21 10 (by rw [if_pos z])
  · rw [if_neg (by rw [hev]; exact z)]; exact c21 11 (by rw [if_neg z])
end
