/-! CodeWriter: values alone -/
section
variable {nt : sp_NT} {N M : Nat} {P : yP} {X : List (Nat × Bool)} {b : Nat} {lm lm' : Nat → Nat} {lv lv' : Nat → Bool} {x y : mj_X} {g h G H : wG} {res par : Nat → Int32} {f : Nat} {n : Int32}
theorem an_else {rec : wR} (c7 : ¬ nK nt n = 7) (c9 : ¬ nK nt n = 9) (c34 : ¬ nK nt n = 34) (k3 : ¬ (35 ≤ nK nt n ∧ nK nt n ≤ 45)) : w_an nt rec n g = (if nT nt n = 0 then w_vl nt rec n g else w_em (7, 86 + (w_tl (nT nt n)).length, 0, 0, []) (w_tl (nT nt n)).length [] (w_vl nt rec n g)) := by
  unfold w_an; simp only [if_neg c7, if_neg c9, if_neg c34, if_neg k3]
theorem K_an {d : Nat} (hd : 6 * (f + 1) + 13 ≤ d) (hT : wTb nt N M res par) (R : ∀ n, wE nt N f n → kV nt N f n) (hE : wE nt N (f + 1) n) (hb : b + 4 * (f + 1) + 2 ≤ 49900) (a : Y1 nt N P X b lm lv x g) (hok : w_q g = false → g_ok (wV nt (f + 1) n 1 0 g)) :
    KJ nt N P X b (g_nl g) g (kX0 d 35 [.ref 0, .int n, .int (0 : Int32)] x) x lm lv (bif w_q g then g else wV nt (f + 1) n 1 0 g) := by
  by_cases hlq : yq x
  · refine QR.kj ((Q_all hT (f + 1)).1 n P X b lm lv x g d _ hE hd hb a hlq) hlq a ?_ ?_ (fun q => by rw [q]; rfl) (Nat.le_refl _)
    · cases hq : w_q g
      · exact wV_mono nt (f + 1) n 1 0 g
      · exact wM.rf g
    · cases hq : w_q g
      · exact (((wV_sh hT (f + 1) n hE).2 g 0 hq (Nat.zero_le _)).2.1).1.1.2.2.2.2.2.2
      · rfl
  obtain ⟨h29, h30, hq⟩ := a.live hlq
  have hok := hok hq
  rw [hq]
  show KJ nt N P X b (g_nl g) g _ x lm lv (w_an nt (wV nt f) n g)
  have hok : g_ok (w_an nt (wV nt f) n g) := hok
  have hb' : b + 4 * f + 2 ≤ 49900 := by omega
  have hE' := hE
  obtain ⟨hn, hEx, hdp⟩ := hE
  have t8 := (hT.t hn).1
  obtain ⟨d, rfl⟩ : ∃ c, d = c + 1 := ⟨d - 1, by omega⟩
  by_cases hk : 23 ≤ nK nt n ∧ nK nt n ≤ 31
  · have ge : ∀ {c : Int32}, c.toInt < 23 ∨ 31 < c.toInt → ¬ nK nt n = c := by
      intro c hc e
      have r1 : (23 : Int) ≤ (nK nt n).toInt := Int32.le_iff_toInt_le.mp hk.1
      have r2 : (nK nt n).toInt ≤ 31 := Int32.le_iff_toInt_le.mp hk.2
      rw [e] at r1 r2; omega
    rw [e_246 (by omega) hn hk a]
    rw [an_else (ge (by decide)) (ge (by decide)) (ge (by decide)) (fun z => absurd (Int32.le_trans z.1 hk.2) (by decide))] at hok ⊢
    have hv := w_vl_live (nt := nt) (n := n) (rec := wV nt f) hq
    rw [if_pos hk] at hv
    have m2 : wM (w_vl nt (wV nt f) n g) (if nT nt n = 0 then w_vl nt (wV nt f) n g else w_em (7, 86 + (w_tl (nT nt n)).length, 0, 0, []) (w_tl (nT nt n)).length [] (w_vl nt (wV nt f) n g)) := wM.ite (wM.rf _) ((wM.rf _).em _ _ _)
    have ok1 := m2.1 hok
    rw [hv] at ok1
    have j := K_vb (d := d) (by omega) hT R hE' hk hb a h29 ok1
    rw [← hv] at j
    refine KJ.bi (Nat.le_refl _) j (fun lm1 lv1 x1 q1 l1 f1 u1 => ?_)
    rw [if_pos (by rfl), q1.nd hn, q1.T.2.2.2.1, hT.ty hn]
    exact (c_drop (by omega) t8 q1).end_
  have hv := w_vl_live (nt := nt) (n := n) (rec := wV nt f) hq
  rw [if_neg hk] at hv
  rw [eX0_value_2, a.nd hn, a.nd hn, a.nd hn, a.T.1, a.T.2.1, a.T.2.2.1]
  show KJ nt N P X b (g_nl g) g (mj_lk (nK nt n) 225 _ _) x lm lv _
  by_cases c7 : nK nt n = 7
  · obtain ⟨v1, v2, eb, -, tn⟩ := wE_store hT hn hdp c7
    rw [w_an_st c7] at hok ⊢
    have epl : w_pl (wV nt f (nB nt n) 0 0 (w_pk (nA nt n) g)) (nA nt n) = w_pl g (nA nt n) := by unfold w_pl; rw [wV_pl0 hT eb]; rfl
    rw [epl] at hok ⊢
    rw [c7]
    show KJ nt N P X b (g_nl g) g (rX0_value_2 d (64, [some (.ref 0), some (.int n), some (.int (0 : Int32)), some (.int (nA nt n)), some (.int (nB nt n)), none], [], x)) x lm lv _
    exact K_store (bb := 0) (by omega) hT R hn v1 v2 eb tn false hb' a hok
  by_cases c9 : nK nt n = 9
  · obtain ⟨t1, t2, t3, eb, -, tn⟩ := wE_put hT hn hdp c9
    have hf1 : 1 ≤ f := by have := (hT.d t1).1; omega
    obtain ⟨f', rfl⟩ : ∃ e, f = e + 1 := ⟨f - 1, by omega⟩
    obtain ⟨ea, ec, a5, a8, -, tl⟩ := wE_at hT t1 t2 t3
    have e : w_an nt (wV nt (f' + 1)) n g = w_pe9 nt (wV nt (f' + 1)) (nA nt n) (nB nt n) false g := by unfold w_an; simp only [if_neg c7, if_pos c9]
    rw [e] at hok ⊢
    rw [c9]
    show KJ nt N P X b (g_nl g) g (rX0_value_2 d (104, [some (.ref 0), some (.int n), some (.int (0 : Int32)), some (.int (nA nt n)), some (.int (nB nt n)), none], [], x)) x lm lv _
    exact K_put (by omega) hT R hn t1 (ea.mono (Nat.le_succ f')) (ec.mono (Nat.le_succ f')) a5 a8 eb (tn.trans tl) false hb' a hok
  by_cases c34 : nK nt n = 34
  · obtain ⟨t1, t2, t3, t4, t5, b1, b2, tn⟩ := wE_stp hT hn hdp c34
    have hf1 : 1 ≤ f := by have := (hT.d t1).1; omega
    obtain ⟨f', rfl⟩ : ∃ e, f = e + 1 := ⟨f - 1, by omega⟩
    have e : w_an nt (wV nt (f' + 1)) n g = w_stp nt (wV nt (f' + 1)) (nA nt n) (nB nt n) false g := by unfold w_an; simp only [if_neg c7, if_neg c9, if_pos c34]
    rw [e] at hok ⊢
    rw [c34]
    show KJ nt N P X b (g_nl g) g (rX0_value_2 d (176, [some (.ref 0), some (.int n), some (.int (0 : Int32)), some (.int (nA nt n)), some (.int (nB nt n)), none], [], x)) x lm lv _
    rw [bX0_value_2_176]
    exact (K_step (by omega) hT R hn b1 b2 t1 t3 (fun q => by obtain ⟨u1, -, u3⟩ := wE_load hT t1 t2 q; exact ⟨u1, u3⟩) (fun q => by obtain ⟨ea, ec, a5, a8, -, -⟩ := wE_at hT t1 t2 q; exact ⟨ea.mono (Nat.le_succ _), ec.mono (Nat.le_succ _), a5, a8⟩) t4 t5 tn false hb' a hok).end_
  by_cases k3 : 35 ≤ nK nt n ∧ nK nt n ≤ 45
  · have c48 : ¬ nK nt n = 48 := fun z => absurd (show (48 : Int32) ≤ 45 by rw [← z]; exact k3.2) (by decide)
    rw [lk4 c7 c9 c34 c48]
    show KJ nt N P X b (g_nl g) g (rX0_value_2 d (246, [some (.ref 0), some (.int n), some (.int (0 : Int32)), some (.int (nA nt n)), some (.int (nB nt n)), none], [], x)) x lm lv _
    rw [bX0_value_2_246, a.nd hn, a.T.1, sX0_isIn' (by omega), sp_bi, show sp_in (nt 0 n.toNatClampNeg).toInt64 35 45 = sp_i (nK nt n) 35 45 from sp_in_i _ 35 45, if_neg (by rw [sp_i_t k3]; decide)]
    obtain ⟨t1, t2, t3, t4, t5, eb, -, tn⟩ := wE_chg hT hn hdp k3.1 k3.2
    have hf1 : 1 ≤ f := by have := (hT.d t1).1; omega
    obtain ⟨f', rfl⟩ : ∃ e, f = e + 1 := ⟨f - 1, by omega⟩
    have e : w_an nt (wV nt (f' + 1)) n g = w_chg nt (wV nt (f' + 1)) (nA nt n) (nK nt n - 25).toNatClampNeg (nB nt n) false g := by unfold w_an; simp only [if_neg c7, if_neg c9, if_neg c34, if_pos k3]
    rw [e] at hok ⊢
    obtain ⟨o1, o2, o3⟩ := i_25 k3.1 k3.2
    exact (K_comp (op := (nK nt n - 25).toNatClampNeg) (by omega) hT R hn (by rw [← o1]; exact i_3525 k3.1 k3.2) o2 o3 t1 t3 (fun q => by obtain ⟨u1, -, u3⟩ := wE_load hT t1 t2 q; exact ⟨u1, u3⟩) (fun q => by obtain ⟨ea, ec, a5, a8, -, -⟩ := wE_at hT t1 t2 q; exact ⟨ea.mono (Nat.le_succ _), ec.mono (Nat.le_succ _), a5, a8⟩) eb t4 t5 tn false hb' a hok).end_
  rw [an_else c7 c9 c34 k3, hv] at hok ⊢
  by_cases c48 : nK nt n = 48
  · obtain ⟨m1, m2, -, -⟩ := wE_call hT hn hdp c48
    rw [w_v0_48 c48] at hok ⊢
    rw [c48]
    show KJ nt N P X b (g_nl g) g (rX0_value_2 d (188, [some (.ref 0), some (.int n), some (.int (0 : Int32)), some (.int (nA nt n)), some (.int (nB nt n)), none], [], x)) x lm lv _
    rw [bX0_value_2_188]
    obtain ⟨l, l1, l2⟩ := hT.chain (Or.inl rfl) (p := nB nt n) (K := 49) (by rcases m2 with q | q; exact Or.inl q; exact Or.inr ⟨q.1, q.2.2⟩)
    have hch : wCh nt N f 49 l := by rw [← l2]; exact hT.ch (Or.inl rfl) 4001 m2
    rw [l2] at hok ⊢
    have m2 : wM (w_pe 15 5 (nA nt n).toInt64 (w_sum nt l) (w_tl (nT nt n)) (w_args nt (wV nt f) l g)) (if nT nt n = 0 then w_pe 15 5 (nA nt n).toInt64 (w_sum nt l) (w_tl (nT nt n)) (w_args nt (wV nt f) l g) else w_em (7, 86 + (w_tl (nT nt n)).length, 0, 0, []) (w_tl (nT nt n)).length [] (w_pe 15 5 (nA nt n).toInt64 (w_sum nt l) (w_tl (nT nt n)) (w_args nt (wV nt f) l g))) := wM.ite (wM.rf _) ((wM.rf _).em _ _ _)
    have j := K_args (d := d) (w := 0) (s0 := w_sum nt l) (by omega) hT R hn (Or.inl rfl) hb' l (nB nt n) 0 lm lv x g (g_nl g) (Nat.zero_add _) (Nat.le_refl _) l1 hch a (m2.1 hok)
    rw [if_pos (by rfl)] at j
    exact j
  rw [lk4 c7 c9 c34 c48]
  show KJ nt N P X b (g_nl g) g (rX0_value_2 d (246, [some (.ref 0), some (.int n), some (.int (0 : Int32)), some (.int (nA nt n)), some (.int (nB nt n)), none], [], x)) x lm lv _
  rw [bX0_value_2_246, a.nd hn, a.T.1, sX0_isIn' (by omega), sp_bi, show sp_in (nt 0 n.toNatClampNeg).toInt64 35 45 = sp_i (nK nt n) 35 45 from sp_in_i _ 35 45, if_pos (sp_i_f k3)]
  have m2 : wM (w_v0 nt (wV nt f) n g) (if nT nt n = 0 then w_v0 nt (wV nt f) n g else w_em (7, 86 + (w_tl (nT nt n)).length, 0, 0, []) (w_tl (nT nt n)).length [] (w_v0 nt (wV nt f) n g)) := wM.ite (wM.rf _) ((wM.rf _).em _ _ _)
  refine KJ.bi (Nat.le_refl _) (K_plain (d := d) (by omega) hT R hE' hk c7 c9 c34 c48 k3 hb' a h29 (m2.1 hok)) (fun lm1 lv1 x1 q1 l1 f1 u1 => ?_)
  rw [if_pos (by rfl), q1.nd hn, q1.T.2.2.2.1, hT.ty hn]
  exact (c_drop (by omega) t8 q1).end_
end
