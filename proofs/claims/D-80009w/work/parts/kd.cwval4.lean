/-! CodeWriter: every kind of value -/
theorem K_op {k : Int32} (h1 : 23 ≤ k) (h2 : k ≤ 28) {bs : Nat} (hb : bs = 153 ∨ bs = 159) (so : Bool) : w_op k so ≤ 5 ∧ nI bs + (k - 23) = nI (bs + w_op k true) ∧ ((nI bs + (k - 23) - (1 : Int32)) ^^^ (1 : Int32)) + (1 : Int32) = nI (bs + w_op k false) := by
  obtain ⟨j, hj, e⟩ := i_enum (a := 23) (c := 5) h1 h2 rfl rfl
  have hj : j = 0 ∨ j = 1 ∨ j = 2 ∨ j = 3 ∨ j = 4 ∨ j = 5 := by omega
  subst e
  rcases hb with rfl | rfl <;> rcases hj with rfl | rfl | rfl | rfl | rfl | rfl <;> cases so <;> exact ⟨by decide, by decide, by decide⟩
theorem i_3525 {k : Int32} (h1 : 35 ≤ k) (h2 : k ≤ 45) : k - 35 + 10 = k - 25 := by
  obtain ⟨j, hj, e⟩ := i_enum (a := 35) (c := 10) h1 h2 rfl rfl
  have hj : j = 0 ∨ j = 1 ∨ j = 2 ∨ j = 3 ∨ j = 4 ∨ j = 5 ∨ j = 6 ∨ j = 7 ∨ j = 8 ∨ j = 9 ∨ j = 10 := by omega
  subst e
  rcases hj with rfl | rfl | rfl | rfl | rfl | rfl | rfl | rfl | rfl | rfl | rfl <;> decide
section
variable {nt : sp_NT} {N M : Nat} {P : yP} {X : List (Nat × Bool)} {b : Nat} {lm lm' : Nat → Nat} {lv lv' : Nat → Bool} {x y : mj_X} {g h G H : wG} {res par : Nat → Int32} {f : Nat} {n : Int32}
theorem sp_i_t {k lo hi : Int32} (h : lo ≤ k ∧ k ≤ hi) : sp_i k lo hi = true := by unfold sp_i; rw [decide_eq_true h.1, decide_eq_true h.2]; rfl
theorem sp_i_f {k lo hi : Int32} (h : ¬ (lo ≤ k ∧ k ≤ hi)) : sp_i k lo hi = false := by
  unfold sp_i; rw [Bool.and_eq_false_iff]
  by_cases z : lo ≤ k
  · exact Or.inr (decide_eq_false (fun w => h ⟨z, w⟩))
  · exact Or.inl (decide_eq_false z)
/-- a plain value -/
theorem K_plain {d : Nat} (hd : 6 * f + 15 ≤ d) (hT : wTb nt N M res par) (R : ∀ n, wE nt N f n → kV nt N f n) (hE : wE nt N (f + 1) n) (hk : ¬ (23 ≤ nK nt n ∧ nK nt n ≤ 31)) (c7 : ¬ nK nt n = 7) (c9 : ¬ nK nt n = 9) (c34 : ¬ nK nt n = 34) (c48 : ¬ nK nt n = 48) (k3 : ¬ (35 ≤ nK nt n ∧ nK nt n ≤ 45)) (hb : b + 4 * f + 2 ≤ 49900) (a : Y1 nt N P X b lm lv x g) (h29 : x.1 0 29 = 0)
    (hok : g_ok (w_v0 nt (wV nt f) n g)) : KJ nt N P X b (g_nl g) g (kX0 d 57 [.ref 0, .int n, .int (nA nt n), .int (nB nt n)] x) x lm lv (w_v0 nt (wV nt f) n g) := by
  obtain ⟨d, rfl⟩ : ∃ c, d = c + 1 := ⟨d - 1, by omega⟩
  obtain ⟨hn, hEx, hdp⟩ := hE
  have V : ∀ {m : Int32} {lm1 : Nat → Nat} {lv1 : Nat → Bool} {z : mj_X} {G1 : wG}, wE nt N f m → Y1 nt N P X b lm1 lv1 z G1 → g_ok (wV nt f m 0 0 G1) → KJ nt N P X b (g_nl G1) G1 (kX0 d 35 [.ref 0, .int m, .int (1 : Int32)] z) z lm1 lv1 (wV nt f m 0 0 G1) := fun h1 h3 h4 => (R _ h1 P X b _ _ _ _ d (by omega) hb h3).1 h4
  rw [eX0_plain, a.nd hn, a.T.1]
  by_cases k4 : 4 < nK nt n
  · rw [if_pos (show (4 : Int32) < nt 0 n.toNatClampNeg from k4)]
    by_cases c51 : nK nt n = 51
    · rw [if_pos (show nt 0 n.toNatClampNeg = 51 from c51), w_v0_51 c51]
      exact (c_e1 (by omega) a ⟨fun _ => rfl, fun _ _ => rfl⟩).end_
    rw [if_neg (show ¬ nt 0 n.toNatClampNeg = 51 from c51)]
    by_cases c6 : nK nt n = 6
    · obtain ⟨v1, v2, v3⟩ := wE_load hT hn hdp c6
      rw [if_pos (show nt 0 n.toNatClampNeg = 6 from c6)]
      rw [w_v0_6 c6] at hok ⊢
      have ht1 : 1 ≤ nT nt (nA nt n) := (hT.t v1).2 (Or.inl (by rw [v2]; decide))
      have mk : wM (w_pk (nA nt n) g) (w_ld (nT nt (nA nt n)) (w_pl g (nA nt n)) (w_tl (nT nt (nA nt n))) (w_pk (nA nt n) g)) := (wM.rf _).ld _ _ _
      obtain ⟨p1, p2⟩ := a.pl v1 (mk.1 hok).2
      have a' : Y1 nt N P X b lm lv x (w_pk (nA nt n) g) := a
      rw [a.nd hn, a.nd v1, p1, a.T.2.2.2.1, hT.ty hn, v3]
      have j := (c_ld (n := g_nl g) (on := w_tl (nT nt (nA nt n))) (d := d) (by omega) ht1 (hT.t v1).1 p2 a').end_
      exact j
    rw [if_neg (show ¬ nt 0 n.toNatClampNeg = 6 from c6)]
    by_cases c8 : nK nt n = 8
    · obtain ⟨ea, eb, a5, a8, -, -⟩ := wE_at hT hn hdp c8
      rw [if_pos (show nt 0 n.toNatClampNeg = 8 from c8)]
      rw [w_v0_8 c8] at hok ⊢
      have m1 := wV_mono nt f (nA nt n) 0 0 g
      have m2 := wV_mono nt f (nB nt n) 0 0 (wV nt f (nA nt n) 0 0 g)
      have m3 : wM (wV nt f (nB nt n) 0 0 (wV nt f (nA nt n) 0 0 g)) (w_eld (nT nt (nA nt n)) (wV nt f (nB nt n) 0 0 (wV nt f (nA nt n) 0 0 g))) := (wM.rf _).eld _
      refine KJ.bi (Nat.le_refl _) (V ea a (m2.1 (m3.1 hok))) (fun lm1 lv1 x1 q1 l1 f1 t1 => ?_)
      refine KJ.bi m1.nl (V eb q1 (m3.1 hok)) (fun lm2 lv2 x2 q2 l2 f2 t2 => ?_)
      rw [q2.nd ea.1, q2.T.2.2.2.1, hT.ty ea.1]
      exact c_eld (n1 := g_nl g) (by omega) a5 a8 rfl q2 (Nat.le_refl _) (fun lm4 lv4 x4 q4 l4 => KJ.id_ q4)
    rw [if_neg (show ¬ nt 0 n.toNatClampNeg = 8 from c8), sX0_isIn' (by omega), sp_bi, show sp_in (nt 0 n.toNatClampNeg).toInt64 10 20 = sp_i (nK nt n) 10 20 from sp_in_i _ 10 20]
    by_cases k1 : 10 ≤ nK nt n ∧ nK nt n ≤ 20
    · rw [if_neg (by rw [sp_i_t k1]; decide)]
      obtain ⟨ea, eb, t1, t4, -, tn⟩ := wE_bin hT hn hdp k1.1 k1.2
      rw [w_v0_bin k1] at hok ⊢
      have m1 := wV_mono nt f (nA nt n) 0 0 g
      have m2 := wV_mono nt f (nB nt n) 0 0 (wV nt f (nA nt n) 0 0 g)
      have m3 : wM (wV nt f (nB nt n) 0 0 (wV nt f (nA nt n) 0 0 g)) (w_bin (nK nt n).toNatClampNeg (nT nt (nA nt n)) (wV nt f (nB nt n) 0 0 (wV nt f (nA nt n) 0 0 g))) := (wM.rf _).bin _ _
      refine KJ.bi (Nat.le_refl _) (V ea a (m2.1 (m3.1 hok))) (fun lm1 lv1 x1 q1 l1 f1 u1 => ?_)
      refine KJ.bi m1.nl (V eb q1 (m3.1 hok)) (fun lm2 lv2 x2 q2 l2 f2 u2 => ?_)
      rw [q2.nd hn, q2.T.2.2.2.1, hT.ty hn, tn]
      exact c_bin (n1 := g_nl g) (by omega) (i_lo k1.1 rfl) (i_hi k1.2 rfl) t1 t4 (nI_nn (Int32.le_trans (by decide) k1.1)).symm rfl (Nat.le_refl _) q2 (fun lm3 lv3 x3 q3 l3 f3 u3 => KJ.id_ q3)
    rw [if_pos (sp_i_f k1)]
    by_cases c21 : nK nt n = 21
    · obtain ⟨ea, t1, t4, tn⟩ := wE_neg hT hn hdp c21
      rw [if_pos (show nt 0 n.toNatClampNeg = 21 from c21)]
      rw [w_v0_21 c21] at hok ⊢
      have m2 : wM (wV nt f (nA nt n) 0 0 g) (w_em (9, nT nt (nA nt n), 0, 0, []) (w_tl (nT nt (nA nt n))).length (w_tl (nT nt (nA nt n))) (wV nt f (nA nt n) 0 0 g)) := (wM.rf _).em _ _ _
      refine KJ.bi (Nat.le_refl _) (V ea a (m2.1 hok)) (fun lm1 lv1 x1 q1 l1 f1 u1 => ?_)
      rw [q1.nd hn, q1.T.2.2.2.1, hT.ty hn, tn, sX0_letterOf (by omega) t1 (by omega), mj_rI_k, show (116 : Int32) + nI (w_ltr (nT nt (nA nt n))) = nI (116 + w_ltr (nT nt (nA nt n))) from nI_add 116 _]
      refine (c_e1 (by omega) q1 ⟨fun _ => ?_, fun _ _ => rfl⟩).end_
      show [o8 (nI (116 + (nT nt (nA nt n) - 1)))] = _
      unfold w_ltr; rw [if_neg (by omega)]
    rw [if_neg (show ¬ nt 0 n.toNatClampNeg = 21 from c21)]
    by_cases c22 : nK nt n = 22
    · obtain ⟨eb, t1, t4, ta, a0, -⟩ := wE_cast hT hn hdp c22
      rw [if_pos (show nt 0 n.toNatClampNeg = 22 from c22)]
      rw [w_v0_22 c22] at hok ⊢
      have m1 := wV_mono nt f (nB nt n) 0 0 g
      have m2 : wM (wV nt f (nB nt n) 0 0 g) (w_cast (nT nt (nB nt n)) (nA nt n).toNatClampNeg (wV nt f (nB nt n) 0 0 g)) := (wM.rf _).cast _ _
      refine KJ.bi (Nat.le_refl _) (V eb a (m2.1 hok)) (fun lm1 lv1 x1 q1 l1 f1 u1 => ?_)
      rw [q1.nd eb.1, q1.T.2.2.2.1, hT.ty eb.1]
      have j := c_cast (n := g_nl g) (d := d) (by omega) t1 t4 ta q1 m1.nl
      rw [nI_nn a0] at j
      exact j.end_
    rw [if_neg (show ¬ nt 0 n.toNatClampNeg = 22 from c22)]
    by_cases c32 : nK nt n = 32
    · obtain ⟨ea, ta, b1, b2, b3, -⟩ := wE_choose hT hn hdp c32
      rw [if_pos (show nt 0 n.toNatClampNeg = 32 from c32)]
      rw [w_v0_32 c32] at hok ⊢
      have hf1 : 1 ≤ f := by have := (hT.d b1).1; omega
      obtain ⟨f', rfl⟩ : ∃ e, f = e + 1 := ⟨f - 1, by omega⟩
      obtain ⟨pa, pb, -⟩ := wE_pair hT b1 b2 b3
      have pa' := pa.mono (Nat.le_succ f')
      have pb' := pb.mono (Nat.le_succ f')
      refine K_dia (d := d) (C := wV nt (f' + 1) (nA nt n) 3 (g_nl g)) (X1 := wV nt (f' + 1) (nA nt (nB nt n)) 0 0) (X2 := wV nt (f' + 1) (nB nt (nB nt n)) 0 0) (rc := fun v z => kX0 d 65 [.ref 0, .int (nA nt n), .int (0 : Int32), .int v] z) (r1 := fun k z => mj_g (nB nt n) 4000 (mj_rV (kX0 d 35 [.ref 0, .int (z.1 2 (nB nt n).toNatClampNeg), .int (1 : Int32)] z) k)) (r2 := fun k z => mj_g (nB nt n) 4000 (mj_rV (kX0 d 35 [.ref 0, .int (z.1 3 (nB nt n).toNatClampNeg), .int (1 : Int32)] z) k)) (by omega) a h29 (fun k => wV_mono nt _ _ _ _ k) (fun k => wV_mono nt _ _ _ _ k) (fun k => wV_mono nt _ _ _ _ k) ?_ ?_ ?_ hok
      · intro lm1 lv1 z q1 w1 ok1
        exact (R _ ea P X b lm1 lv1 z _ d (by omega) hb q1).2 ta false (g_nl g) (by show g_nl g < g_nl g + 1 + 1; omega) w1 ok1
      · intro lm1 lv1 z G1 H1 k j hj q1 ok1 hk
        show KJ _ _ _ _ _ _ _ (mj_g (nB nt n) 4000 _) _ _ _ _
        rw [q1.nd b1, q1.T.2.1]
        exact KJ.bi hj (V pa' q1 ok1) (fun lm2 lv2 x2 q2 a2 _ _ => hk lm2 lv2 x2 q2 a2)
      · intro lm1 lv1 z G1 H1 k j hj q1 ok1 hk
        show KJ _ _ _ _ _ _ _ (mj_g (nB nt n) 4000 _) _ _ _ _
        rw [q1.nd b1, q1.T.2.2.1]
        exact KJ.bi hj (V pb' q1 ok1) (fun lm2 lv2 x2 q2 a2 _ _ => hk lm2 lv2 x2 q2 a2)
    rw [if_neg (show ¬ nt 0 n.toNatClampNeg = 32 from c32)]
    by_cases c46 : nK nt n = 46
    · obtain ⟨a5, a8, a0, eb, -, -⟩ := wE_make hT hn hdp c46
      rw [if_pos (show nt 0 n.toNatClampNeg = 46 from c46)]
      rw [w_v0_46 c46] at hok ⊢
      have m2 : wM (wV nt f (nB nt n) 0 0 g) (w_em (13, (nA nt n).toNatClampNeg, 0, 0, []) 1 [(nA nt n).toNatClampNeg] (wV nt f (nB nt n) 0 0 g)) := (wM.rf _).em _ _ _
      refine KJ.bi (Nat.le_refl _) (V eb a (m2.1 hok)) (fun lm1 lv1 x1 q1 l1 f1 u1 => ?_)
      have key : ∀ s1 : Int32, s1 = (if (nA nt n).toNatClampNeg = 5 then 8 else if (nA nt n).toNatClampNeg = 6 then 10 else if (nA nt n).toNatClampNeg = 7 then 11 else 7) → KJ nt N P X b (g_nl g) (wV nt f (nB nt n) 0 0 g) (mj_rV (kX0 d 37 [.ref 0, .int (188 : Int32)] x1) fun x2 => mj_rV (kX0 d 38 [.ref 0, .int s1] x2) fun x3 => some (none, x3)) x1 lm1 lv1 (w_em (13, (nA nt n).toNatClampNeg, 0, 0, []) 1 [(nA nt n).toNatClampNeg] (wV nt f (nB nt n) 0 0 g)) := by
        intro s1 hs1
        exact c_em (bs := [o8 s1]) (by omega) q1 ⟨fun _ => by rw [hs1]; rfl, fun _ _ => rfl⟩ ((EK.emit (d := d) (by omega) s1).seq (EK.id_ _ _ _))
      simp only [bX0_plain_340]
      have ea : nA nt n = nI (nA nt n).toNatClampNeg := (nI_nn a0).symm
      have hcs : (nA nt n).toNatClampNeg = 5 ∨ (nA nt n).toNatClampNeg = 6 ∨ (nA nt n).toNatClampNeg = 7 ∨ (nA nt n).toNatClampNeg = 8 := by omega
      rcases hcs with q | q | q | q
      · simp only [if_pos (show nA nt n = 5 by rw [ea, q]; rfl)]; exact key 8 (by rw [q]; rfl)
      · simp only [if_neg (show ¬ nA nt n = 5 by rw [ea, q]; decide), if_pos (show nA nt n = 6 by rw [ea, q]; rfl)]; exact key 10 (by rw [q]; rfl)
      · simp only [if_neg (show ¬ nA nt n = 5 by rw [ea, q]; decide), if_neg (show ¬ nA nt n = 6 by rw [ea, q]; decide), if_pos (show nA nt n = 7 by rw [ea, q]; rfl)]; exact key 11 (by rw [q]; rfl)
      · simp only [if_neg (show ¬ nA nt n = 5 by rw [ea, q]; decide), if_neg (show ¬ nA nt n = 6 by rw [ea, q]; decide), if_neg (show ¬ nA nt n = 7 by rw [ea, q]; decide)]; exact key 7 (by rw [q]; rfl)
    rw [if_neg (show ¬ nt 0 n.toNatClampNeg = 46 from c46)]
    by_cases c47 : nK nt n = 47
    · obtain ⟨ea, -, -, -⟩ := wE_len hT hn hdp c47
      rw [if_pos (show nt 0 n.toNatClampNeg = 47 from c47)]
      rw [w_v0_47 c47] at hok ⊢
      have m2 : wM (wV nt f (nA nt n) 0 0 g) (w_em (14, 0, 0, 0, []) 1 [1] (wV nt f (nA nt n) 0 0 g)) := (wM.rf _).em _ _ _
      refine KJ.bi (Nat.le_refl _) (V ea a (m2.1 hok)) (fun lm1 lv1 x1 q1 l1 f1 u1 => ?_)
      exact (c_e1 (by omega) q1 ⟨fun _ => rfl, fun _ _ => rfl⟩).end_
    · exact (k_rest hEx k4 c6 c7 c8 c9 c21 c22 c32 c34 c46 c47 c48 c51 k1 hk k3).elim
  · rw [if_neg (show ¬ (4 : Int32) < nt 0 n.toNatClampNeg from k4), a.nd hn]
    have k4 : nK nt n ≤ 4 := Int32.not_lt.mp k4
    have k0 : 1 ≤ nK nt n := by
      have q := sp_E_iff.mp hEx
      have r := Int32.le_iff_toInt_le.mp k4
      have r : (nK nt n).toInt ≤ 4 := r
      refine Int32.le_iff_toInt_le.mpr ?_
      show (1 : Int) ≤ _
      generalize (nK nt n).toInt = z at *
      omega
    have ht := wE_con hT hn hdp k0 k4
    have l1 := i_lo k0 (k := 1) rfl
    have l4 := i_hi k4 (k := 4) rfl
    have ev : w_v0 nt (wV nt f) n g = w_k (nT nt n) (w_bits nt n) g := by
      have : nK nt n = 1 ∨ nK nt n = 2 ∨ nK nt n = 3 ∨ nK nt n = 4 := by
        have e := nI_nn (Int32.le_trans (by decide) k0 : (0 : Int32) ≤ nK nt n)
        have : (nK nt n).toNatClampNeg = 1 ∨ (nK nt n).toNatClampNeg = 2 ∨ (nK nt n).toNatClampNeg = 3 ∨ (nK nt n).toNatClampNeg = 4 := by omega
        rcases this with q | q | q | q <;> rw [q] at e
        · exact Or.inl e.symm
        · exact Or.inr (Or.inl e.symm)
        · exact Or.inr (Or.inr (Or.inl e.symm))
        · exact Or.inr (Or.inr (Or.inr e.symm))
      rcases this with q | q | q | q
      · exact w_v0_1 q
      · exact w_v0_2 q
      · exact w_v0_3 q
      · exact w_v0_4 q
    rw [ev] at hok ⊢
    rw [sX0_bitsOf (by omega) a hn k0 k4, mj_rL_k, a.T.2.2.2.1, hT.ty hn]
    exact (c_k (by omega) (by omega) (by omega) (Nat.le_refl _) a hok).end_
/-- a value that is no truth; mode: it is wanted -/
theorem K_v0 {d : Nat} (hd : 6 * (f + 1) + 10 ≤ d) (hT : wTb nt N M res par) (R : ∀ n, wE nt N f n → kV nt N f n) (hE : wE nt N (f + 1) n) (hk : ¬ (23 ≤ nK nt n ∧ nK nt n ≤ 31)) (hb : b + 4 * f + 2 ≤ 49900) (a : Y1 nt N P X b lm lv x g) (h29 : x.1 0 29 = 0) (hok : g_ok (w_v0 nt (wV nt f) n g)) :
    KJ nt N P X b (g_nl g) g (kX0 d 35 [.ref 0, .int n, .int (1 : Int32)] x) x lm lv (w_v0 nt (wV nt f) n g) := by
  obtain ⟨d, rfl⟩ : ∃ c, d = c + 1 := ⟨d - 1, by omega⟩
  have hE' := hE
  obtain ⟨hn, hEx, hdp⟩ := hE
  rw [eX0_value_2, a.nd hn, a.nd hn, a.nd hn, a.T.1, a.T.2.1, a.T.2.2.1]
  show KJ nt N P X b (g_nl g) g (mj_lk (nK nt n) 225 _ _) x lm lv _
  by_cases c7 : nK nt n = 7
  · obtain ⟨v1, v2, eb, -, tn⟩ := wE_store hT hn hdp c7
    rw [w_v0_7 c7] at hok ⊢
    have epl : w_pl (w_dup (nT nt (nA nt n)) (wV nt f (nB nt n) 0 0 (w_pk (nA nt n) g))) (nA nt n) = w_pl g (nA nt n) := by unfold w_pl; rw [w_dup_pl, wV_pl0 hT eb]; rfl
    rw [epl] at hok ⊢
    rw [c7]
    show KJ nt N P X b (g_nl g) g (rX0_value_2 d (64, [some (.ref 0), some (.int n), some (.int (1 : Int32)), some (.int (nA nt n)), some (.int (nB nt n)), none], [], x)) x lm lv _
    exact K_store (bb := 0) (by omega) hT R hn v1 v2 eb tn true hb a hok
  by_cases c9 : nK nt n = 9
  · obtain ⟨t1, t2, t3, eb, -, tn⟩ := wE_put hT hn hdp c9
    have hf1 : 1 ≤ f := by have := (hT.d t1).1; omega
    obtain ⟨f', rfl⟩ : ∃ e, f = e + 1 := ⟨f - 1, by omega⟩
    obtain ⟨ea, ec, a5, a8, -, tl⟩ := wE_at hT t1 t2 t3
    rw [w_v0_9 c9] at hok ⊢
    rw [c9]
    show KJ nt N P X b (g_nl g) g (rX0_value_2 d (104, [some (.ref 0), some (.int n), some (.int (1 : Int32)), some (.int (nA nt n)), some (.int (nB nt n)), none], [], x)) x lm lv _
    exact K_put (by omega) hT R hn t1 (ea.mono (Nat.le_succ f')) (ec.mono (Nat.le_succ f')) a5 a8 eb (tn.trans tl) true hb a hok
  by_cases c34 : nK nt n = 34
  · obtain ⟨t1, t2, t3, t4, t5, b1, b2, tn⟩ := wE_stp hT hn hdp c34
    have hf1 : 1 ≤ f := by have := (hT.d t1).1; omega
    obtain ⟨f', rfl⟩ : ∃ e, f = e + 1 := ⟨f - 1, by omega⟩
    rw [w_v0_34 c34] at hok ⊢
    rw [c34]
    show KJ nt N P X b (g_nl g) g (rX0_value_2 d (176, [some (.ref 0), some (.int n), some (.int (1 : Int32)), some (.int (nA nt n)), some (.int (nB nt n)), none], [], x)) x lm lv _
    rw [bX0_value_2_176]
    exact (K_step (by omega) hT R hn b1 b2 t1 t3 (fun q => by obtain ⟨u1, -, u3⟩ := wE_load hT t1 t2 q; exact ⟨u1, u3⟩) (fun q => by obtain ⟨ea, ec, a5, a8, -, -⟩ := wE_at hT t1 t2 q; exact ⟨ea.mono (Nat.le_succ _), ec.mono (Nat.le_succ _), a5, a8⟩) t4 t5 tn true hb a hok).end_
  by_cases c48 : nK nt n = 48
  · obtain ⟨m1, m2, -, -⟩ := wE_call hT hn hdp c48
    rw [w_v0_48 c48] at hok ⊢
    rw [c48]
    show KJ nt N P X b (g_nl g) g (rX0_value_2 d (188, [some (.ref 0), some (.int n), some (.int (1 : Int32)), some (.int (nA nt n)), some (.int (nB nt n)), none], [], x)) x lm lv _
    rw [bX0_value_2_188]
    obtain ⟨l, l1, l2⟩ := hT.chain (Or.inl rfl) (p := nB nt n) (K := 49) (by rcases m2 with q | q; exact Or.inl q; exact Or.inr ⟨q.1, q.2.2⟩)
    have hch : wCh nt N f 49 l := by rw [← l2]; exact hT.ch (Or.inl rfl) 4001 m2
    rw [l2] at hok ⊢
    have j := K_args (d := d) (w := 1) (s0 := w_sum nt l) (by omega) hT R hn (Or.inr rfl) hb l (nB nt n) 0 lm lv x g (g_nl g) (Nat.zero_add _) (Nat.le_refl _) l1 hch a hok
    rw [if_neg (by decide)] at j
    exact j
  rw [lk4 c7 c9 c34 c48]
  show KJ nt N P X b (g_nl g) g (rX0_value_2 d (246, [some (.ref 0), some (.int n), some (.int (1 : Int32)), some (.int (nA nt n)), some (.int (nB nt n)), none], [], x)) x lm lv _
  rw [bX0_value_2_246, a.nd hn, a.T.1, sX0_isIn' (by omega), sp_bi, show sp_in (nt 0 n.toNatClampNeg).toInt64 35 45 = sp_i (nK nt n) 35 45 from sp_in_i _ 35 45]
  by_cases k3 : 35 ≤ nK nt n ∧ nK nt n ≤ 45
  · rw [if_neg (by rw [sp_i_t k3]; decide)]
    obtain ⟨t1, t2, t3, t4, t5, eb, -, tn⟩ := wE_chg hT hn hdp k3.1 k3.2
    have hf1 : 1 ≤ f := by have := (hT.d t1).1; omega
    obtain ⟨f', rfl⟩ : ∃ e, f = e + 1 := ⟨f - 1, by omega⟩
    rw [w_v0_all k3.1 k3.2] at hok ⊢
    obtain ⟨o1, o2, o3⟩ := i_25 k3.1 k3.2
    exact (K_comp (op := (nK nt n - 25).toNatClampNeg) (by omega) hT R hn (by rw [← o1]; exact i_3525 k3.1 k3.2) o2 o3 t1 t3 (fun q => by obtain ⟨u1, -, u3⟩ := wE_load hT t1 t2 q; exact ⟨u1, u3⟩) (fun q => by obtain ⟨ea, ec, a5, a8, -, -⟩ := wE_at hT t1 t2 q; exact ⟨ea.mono (Nat.le_succ _), ec.mono (Nat.le_succ _), a5, a8⟩) eb t4 t5 tn true hb a hok).end_
  rw [if_pos (sp_i_f k3)]
  refine KJ.bi (Nat.le_refl _) (K_plain (d := d) (by omega) hT R hE' hk c7 c9 c34 c48 k3 hb a h29 hok) (fun lm1 lv1 x1 q1 l1 f1 u1 => ?_)
  rw [if_neg (show ¬ (1 : Int32) = 0 by decide)]
  exact KJ.id_ q1
end
