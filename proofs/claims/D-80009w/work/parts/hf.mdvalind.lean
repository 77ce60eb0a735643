/-! values, conditions and expressions alone of CodeWriterModel: the theorem -/
section
variable {nt : sp_NT} {N M : Nat} {w : Bool} {ba pf rf lf c : Nat} {lm : Nat → Nat} {lv : Nat → Bool} {x : mj_X} {g : wG} {res par : Nat → Int32} {f : Nat} {n : Int32}
theorem w_v0_bin {rec : wR} (k : 10 ≤ nK nt n ∧ nK nt n ≤ 20) : w_v0 nt rec n g = w_bin (nK nt n).toNatClampNeg (nT nt (nA nt n)) (rec (nB nt n) 0 0 (rec (nA nt n) 0 0 g)) := by unfold w_v0; simp only [if_pos k]
theorem w_v0_chg {rec : wR} (k1 : ¬ (10 ≤ nK nt n ∧ nK nt n ≤ 20)) (k : 35 ≤ nK nt n ∧ nK nt n ≤ 45) : w_v0 nt rec n g = w_chg nt rec (nA nt n) (nK nt n - 25).toNatClampNeg (nB nt n) true g := by unfold w_v0; simp only [if_neg k1, if_pos k]
theorem i_25 {k : Int32} (h1 : 35 ≤ k) (h2 : k ≤ 45) : k - 25 = nI (k - 25).toNatClampNeg ∧ 10 ≤ (k - 25).toNatClampNeg ∧ (k - 25).toNatClampNeg ≤ 20 := by
  obtain ⟨j, hj, e⟩ := i_enum (a := 35) (c := 10) h1 h2 rfl rfl
  have hj : j = 0 ∨ j = 1 ∨ j = 2 ∨ j = 3 ∨ j = 4 ∨ j = 5 ∨ j = 6 ∨ j = 7 ∨ j = 8 ∨ j = 9 ∨ j = 10 := by omega
  subst e
  rcases hj with rfl | rfl | rfl | rfl | rfl | rfl | rfl | rfl | rfl | rfl | rfl <;> exact ⟨by decide, by decide, by decide⟩
theorem m_vl {d : Nat} (hd : 5 * f + 13 ≤ d) (hf : 2 * f + 2 ≤ c) (hfb : (23 ≤ nK nt n ∧ nK nt n ≤ 31) → 2 * f + 3 ≤ c) (hc : c ≤ 3990) (hT : wTb nt N M res par) (R : ∀ n, wE nt N f n → mV nt N M w ba pf rf lf f n) (hE : wE nt N (f + 1) n) (h : Q1 nt N M w ba pf rf lf c lm lv x g) (hok : g_ok (w_vl nt (wV nt f) n g)) :
    J1 nt N M w ba pf rf lf c (kX1 d 40 [.ref 0, .int n] x) x lm lv g (w_vl nt (wV nt f) n g) := by
  have hm : wM g (w_vl nt (wV nt f) n g) := (wM.rf g).vl (wV_mono nt f) n
  have hpl : g_pl (w_vl nt (wV nt f) n g) = g_pl g := by
    cases hq : w_q g
    · exact (wP_vl hT (fun c hc => wV_sh hT f c hc) (m := 0) hq (Nat.zero_le _) hE).1.1.2.2.2.2.2.2
    · rw [w_vl_q hq]
  obtain ⟨d, rfl⟩ : ∃ c, d = c + 1 := ⟨d - 1, by omega⟩
  rw [eX1_value]
  by_cases h0 : x.1 0 35 = 0
  · rw [if_pos h0]; exact J1.skip2 h (fun q => w_vl_q q) hm hpl (fun _ => lm_any h _) (Or.inl h0)
  rw [if_neg h0]
  by_cases h1' : ¬ x.1 0 34 = 0
  · rw [if_neg h1']; exact J1.skip2 h (fun q => w_vl_q q) hm hpl (fun _ => lm_any h _) (Or.inr h1')
  have h1 : x.1 0 34 = 0 := Decidable.not_not.mp h1'
  have hq := h.live h0 h1
  have hE' := hE
  obtain ⟨hn, hEx, hdp⟩ := hE
  have kx : x.1 2 n.toNatClampNeg = nK nt n := by rw [h.T.1]
  have ax : x.1 3 n.toNatClampNeg = nA nt n := by rw [h.T.2.1]
  have bx : x.1 4 n.toNatClampNeg = nB nt n := by rw [h.T.2.2.1]
  rw [if_pos h1, h.nd hn, h.nd hn, h.nd hn, kx, ax, bx]
  have Rv : ∀ {m : Int32} {lm1 : Nat → Nat} {lv1 : Nat → Bool} {x1 : mj_X} {g1 : wG}, wE nt N f m → Q1 nt N M w ba pf rf lf c lm1 lv1 x1 g1 → g_ok (wV nt f m 0 0 g1) → J1 nt N M w ba pf rf lf c (kX1 d 40 [.ref 0, .int m] x1) x1 lm1 lv1 g1 (wV nt f m 0 0 g1) := fun hm hq ho => (R _ hm d c _ _ _ _ (by omega) (by omega) hc hq).1 ho
  have vE : w_vl nt (wV nt f) n g = (if 23 ≤ nK nt n ∧ nK nt n ≤ 31 then w_sl false (g_nl g + 1) (w_put (g_nl g + 1) (w_em (0, 1, 0, 0, []) 0 [1] (w_sl false (g_nl g) (w_put (g_nl g) (w_go (g_nl g + 1) (w_em (0, 1, 0, 1, []) 0 [1] (w_cd nt (wV nt f) n false (g_nl g) (w_lb (g_L g, 1 :: g_st g) (w_lb (g_L g, g_st g) g))))))))) else w_v0 nt (wV nt f) n g) := by
    unfold w_vl; rw [hq]; rfl
  rw [vE] at hok ⊢
  have r74 : ¬ (10 ≤ nK nt n ∧ nK nt n ≤ 20) → J1 nt N M w ba pf rf lf c (rX1_value d (74, [some (.ref 0), some (.int n), some (.int (nA nt n)), some (.int (nB nt n)), some (.int (nK nt n)), none, none], [], x)) x lm lv g (if 23 ≤ nK nt n ∧ nK nt n ≤ 31 then w_sl false (g_nl g + 1) (w_put (g_nl g + 1) (w_em (0, 1, 0, 0, []) 0 [1] (w_sl false (g_nl g) (w_put (g_nl g) (w_go (g_nl g + 1) (w_em (0, 1, 0, 1, []) 0 [1] (w_cd nt (wV nt f) n false (g_nl g) (w_lb (g_L g, 1 :: g_st g) (w_lb (g_L g, g_st g) g))))))))) else w_v0 nt (wV nt f) n g) := by
    intro k1
    rw [bX1_value_74]
    have r141 : ¬ (23 ≤ nK nt n ∧ nK nt n ≤ 31) → J1 nt N M w ba pf rf lf c (rX1_value d (141, [some (.ref 0), some (.int n), some (.int (nA nt n)), some (.int (nB nt n)), some (.int (nK nt n)), none, none], [], x)) x lm lv g (if 23 ≤ nK nt n ∧ nK nt n ≤ 31 then w_sl false (g_nl g + 1) (w_put (g_nl g + 1) (w_em (0, 1, 0, 0, []) 0 [1] (w_sl false (g_nl g) (w_put (g_nl g) (w_go (g_nl g + 1) (w_em (0, 1, 0, 1, []) 0 [1] (w_cd nt (wV nt f) n false (g_nl g) (w_lb (g_L g, 1 :: g_st g) (w_lb (g_L g, g_st g) g))))))))) else w_v0 nt (wV nt f) n g) := by
      intro k2
      rw [if_neg k2] at hok ⊢
      rw [bX1_value_141]
      by_cases q1 : nK nt n < 35
      · rw [if_pos q1]; exact m_v168 (by omega) hf hc hT R hE' k1 k2 (fun q => absurd q.1 (Int32.not_le.mpr q1)) h hok
      · rw [if_neg q1]
        by_cases q2 : 45 < nK nt n
        · rw [if_pos q2]; exact m_v168 (by omega) hf hc hT R hE' k1 k2 (fun q => absurd q.2 (Int32.not_le.mpr q2)) h hok
        · rw [if_neg q2]
          have k3 : 35 ≤ nK nt n ∧ nK nt n ≤ 45 := ⟨Int32.not_lt.mp q1, Int32.not_lt.mp q2⟩
          rw [w_v0_chg k1 k3] at hok ⊢
          obtain ⟨t1, t2, t3, t4, t5, eb, -, -⟩ := wE_chg hT hn hdp k3.1 k3.2
          obtain ⟨o1, o2, o3⟩ := i_25 k3.1 k3.2
          have := m_chg (d := d) (by omega) (by omega : 2 * f + 1 ≤ c) hc hT R t1 t2 t3 t4 t5 o2 o3 (fun _ => eb) true h hok
          rw [← o1] at this
          exact J1.end_ this
    by_cases q1 : nK nt n < 23
    · rw [if_pos q1]; exact r141 (fun q => absurd q.1 (Int32.not_le.mpr q1))
    · rw [if_neg q1]
      by_cases q2 : 31 < nK nt n
      · rw [if_pos q2]; exact r141 (fun q => absurd q.2 (Int32.not_le.mpr q2))
      · rw [if_neg q2]
        have k2 : 23 ≤ nK nt n ∧ nK nt n ≤ 31 := ⟨Int32.not_lt.mp q1, Int32.not_lt.mp q2⟩
        rw [if_pos k2] at hok ⊢
        obtain ⟨c', rfl⟩ : ∃ c', c = c' + 1 := ⟨c - 1, by omega⟩
        refine J1.dia (d := d) (C := w_cd nt (wV nt f) n false (g_nl g)) (X1 := w_em (0, 1, 0, 1, []) 0 [1]) (X2 := w_em (0, 1, 0, 0, []) 0 [1]) (P1 := fun x5 k => mj_rV (kX1 d 42 [.ref 0, .int (4 : Int32), .int (0 : Int32), .int (1 : Int32)] x5) k) (P2 := fun x8 k => mj_rV (kX1 d 42 [.ref 0, .int (3 : Int32), .int (0 : Int32), .int (1 : Int32)] x8) k) (by omega) hc h (fun k => (wM.rf k).cd (wV_mono nt f) n false (g_nl g)) (fun k => (wM.rf k).em _ _ _) (fun k => (wM.rf k).em _ _ _) ?_ ?_ ?_ hok
        · intro lm1 lv1 x1 q1 w1 ok1
          have := hfb k2
          exact m_cd (d := d) (by omega) (by omega) (by omega) hT R hE' (nT_b hT hE' k2) false (l := g_nl g) (by show g_nl g < g_nl g + 1 + 1; omega) w1 q1 (fun q => absurd k2 q) ok1
        · intro lm1 lv1 x1 g1 H k q1 ok1 hk
          exact J1.b ((wM.rf g1).em _ _ _) (m_e1 (by omega) q1 ok1 rfl rfl ⟨fun _ => rfl, fun _ _ => rfl⟩) (fun lm2 lv2 x2 q2 a2 _ => hk lm2 lv2 x2 q2 a2)
        · intro lm1 lv1 x1 g1 H k q1 ok1 hk
          exact J1.b ((wM.rf g1).em _ _ _) (m_e1 (by omega) q1 ok1 rfl rfl ⟨fun _ => rfl, fun _ _ => rfl⟩) (fun lm2 lv2 x2 q2 a2 _ => hk lm2 lv2 x2 q2 a2)
  by_cases q1 : nK nt n < 10
  · rw [if_pos q1]; exact r74 (fun q => absurd q.1 (Int32.not_le.mpr q1))
  · rw [if_neg q1]
    by_cases q2 : 20 < nK nt n
    · rw [if_pos q2]; exact r74 (fun q => absurd q.2 (Int32.not_le.mpr q2))
    · rw [if_neg q2]
      have k1 : 10 ≤ nK nt n ∧ nK nt n ≤ 20 := ⟨Int32.not_lt.mp q1, Int32.not_lt.mp q2⟩
      have k2 : ¬ (23 ≤ nK nt n ∧ nK nt n ≤ 31) := fun q => absurd (Int32.le_trans q.1 k1.2) (by decide)
      rw [if_neg k2, w_v0_bin k1] at hok ⊢
      obtain ⟨ea, eb, t1, t4, -, -⟩ := wE_bin hT hn hdp k1.1 k1.2
      have m1 := wV_mono nt f (nA nt n) 0 0 g
      have m2 := wV_mono nt f (nB nt n) 0 0 (wV nt f (nA nt n) 0 0 g)
      have m3 : wM (wV nt f (nB nt n) 0 0 (wV nt f (nA nt n) 0 0 g)) (w_bin (nK nt n).toNatClampNeg (nT nt (nA nt n)) (wV nt f (nB nt n) 0 0 (wV nt f (nA nt n) 0 0 g))) := (wM.rf _).bin _ _
      refine J1.b m1 (Rv ea h (m2.1 (m3.1 hok))) (fun lm1 lv1 x1 q1 _ _ => ?_)
      refine J1.b m2 (Rv eb q1 (m3.1 hok)) (fun lm2 lv2 x2 q2 _ _ => ?_)
      rw [q2.nd ea.1, q2.T.2.2.2.1, hT.ty ea.1]
      have := m_bin (d := d) (by omega) (i_lo k1.1 rfl) (i_hi k1.2 rfl) t1 t4 q2 hok
      rw [nI_nn (Int32.le_trans (by decide) k1.1)] at this
      exact J1.end_ this
theorem w_an_st {rec : wR} (k : nK nt n = 7) : w_an nt rec n g = w_st (nT nt (nA nt n)) (w_pl (rec (nB nt n) 0 0 (w_pk (nA nt n) g)) (nA nt n)) (rec (nB nt n) 0 0 (w_pk (nA nt n) g)) := by unfold w_an; simp only [if_pos k]
/-- an expression alone -/
theorem m_an {d : Nat} (hd : 5 * f + 14 ≤ d) (hf : 2 * f + 3 ≤ c) (hc : c ≤ 3990) (hT : wTb nt N M res par) (R : ∀ n, wE nt N f n → mV nt N M w ba pf rf lf f n) (hE : wE nt N (f + 1) n) (h : Q1 nt N M w ba pf rf lf c lm lv x g) (hok : g_ok (w_an nt (wV nt f) n g)) :
    J1 nt N M w ba pf rf lf c (kX1 d 39 [.ref 0, .int n] x) x lm lv g (w_an nt (wV nt f) n g) := by
  obtain ⟨d, rfl⟩ : ∃ c, d = c + 1 := ⟨d - 1, by omega⟩
  have hE' := hE
  obtain ⟨hn, hEx, hdp⟩ := hE
  have kx : x.1 2 n.toNatClampNeg = nK nt n := by rw [h.T.1]
  have ax : x.1 3 n.toNatClampNeg = nA nt n := by rw [h.T.2.1]
  have bx : x.1 4 n.toNatClampNeg = nB nt n := by rw [h.T.2.2.1]
  rw [eX1_alone, h.nd hn, h.nd hn, h.nd hn, kx, ax, bx]
  by_cases c7 : nK nt n = 7
  · rw [if_pos c7]
    obtain ⟨v1, v2, eb, -, -⟩ := wE_store hT hn hdp c7
    rw [w_an_st c7] at hok ⊢
    have ht1 : 1 ≤ nT nt (nA nt n) := (hT.t v1).2 (Or.inl (by rw [v2]; decide))
    have ht8 := (hT.t v1).1
    have epl : w_pl (wV nt f (nB nt n) 0 0 (w_pk (nA nt n) g)) (nA nt n) = w_pl g (nA nt n) := by unfold w_pl; rw [wV_pl0 hT eb]; rfl
    rw [epl] at hok ⊢
    have m1 := wV_mono nt f (nB nt n) 0 0 (w_pk (nA nt n) g)
    have m3 : wM (wV nt f (nB nt n) 0 0 (w_pk (nA nt n) g)) (w_st (nT nt (nA nt n)) (w_pl g (nA nt n)) (wV nt f (nB nt n) 0 0 (w_pk (nA nt n) g))) := (wM.rf _).st _ _
    have ok1 := m3.1 hok
    obtain ⟨p1, p2⟩ := h.pl v1 (m1.1 ok1).2
    refine J1.b (g := w_pk (nA nt n) g) m1 ((R _ eb d c lm lv x (w_pk (nA nt n) g) (by omega) (by omega) hc h).1 ok1) (fun lm1 lv1 x1 q1 _ f1 => ?_)
    rw [q1.nd v1, q1.nd v1, f1.2 48 _ rfl, p1, q1.T.2.2.2.1, hT.ty v1]
    exact J1.end_ (m_st (by omega) q1 hok ht1 ht8 p2)
  rw [if_neg c7]
  by_cases c9 : nK nt n = 9
  · rw [if_pos c9]
    obtain ⟨t1, t2, t3, eb, -, -⟩ := wE_put hT hn hdp c9
    have e : w_an nt (wV nt f) n g = w_pe9 nt (wV nt f) (nA nt n) (nB nt n) false g := by unfold w_an; simp only [if_neg c7, if_pos c9]
    rw [e] at hok ⊢
    exact J1.end_ (m_pe9 (by omega) (by omega) hc hT R t1 t2 t3 eb false h hok)
  rw [if_neg c9]
  by_cases c34 : nK nt n = 34
  · rw [if_pos c34]
    obtain ⟨t1, t2, t3, t4, t5, b1, b2, -⟩ := wE_stp hT hn hdp c34
    have e : w_an nt (wV nt f) n g = w_stp nt (wV nt f) (nA nt n) (nB nt n) false g := by unfold w_an; simp only [if_neg c7, if_neg c9, if_pos c34]
    rw [e] at hok ⊢
    exact J1.end_ (m_stp (by omega) (by omega) hc hT R t1 t2 t3 t4 t5 b1 b2 false h hok)
  rw [if_neg c34]
  have r116 : ¬ (35 ≤ nK nt n ∧ nK nt n ≤ 45) → J1 nt N M w ba pf rf lf c (rX1_alone d (116, [some (.ref 0), some (.int n), some (.int (nA nt n)), some (.int (nB nt n)), some (.int (nK nt n)), none], [], x)) x lm lv g (w_an nt (wV nt f) n g) := by
    intro k3
    have e : w_an nt (wV nt f) n g = (if nT nt n = 0 then w_vl nt (wV nt f) n g else w_em (7, 86 + (w_tl (nT nt n)).length, 0, 0, []) (w_tl (nT nt n)).length [] (w_vl nt (wV nt f) n g)) := by unfold w_an; simp only [if_neg c7, if_neg c9, if_neg c34, if_neg k3]
    rw [e] at hok ⊢
    rw [bX1_alone_116]
    have m1 : wM g (w_vl nt (wV nt f) n g) := (wM.rf g).vl (wV_mono nt f) n
    have m2 : wM (w_vl nt (wV nt f) n g) (if nT nt n = 0 then w_vl nt (wV nt f) n g else w_em (7, 86 + (w_tl (nT nt n)).length, 0, 0, []) (w_tl (nT nt n)).length [] (w_vl nt (wV nt f) n g)) := wM.ite (wM.rf _) ((wM.rf _).em _ _ _)
    refine J1.b m1 (m_vl (by omega) (by omega) (fun _ => hf) hc hT R hE' h (m2.1 hok)) (fun lm1 lv1 x1 q1 _ _ => ?_)
    have ht8 := (hT.t hn).1
    rw [q1.nd hn, q1.T.2.2.2.1, hT.ty hn, sX1_placesOf (by omega), mj_rI_k, sp_pl_n ht8]
    by_cases t0 : nT nt n = 0
    · rw [if_pos t0] at hok ⊢
      rw [t0, if_pos (by decide)]
      exact J1.id_ q1
    · rw [if_neg t0] at hok ⊢
      rcases w_tl_d (nT nt n) with r | r | r
      · unfold w_tl at r; rw [if_neg t0] at r; split at r <;> simp at r
      · rw [r] at hok ⊢
        simp only [List.length_cons, List.length_nil] at hok ⊢
        rw [if_neg (by decide), if_pos (by rfl)]
        exact J1.end_ (m_e1 (by omega) q1 hok rfl rfl ⟨fun _ => rfl, fun _ _ => rfl⟩)
      · rw [r] at hok ⊢
        simp only [List.length_cons, List.length_nil] at hok ⊢
        rw [if_neg (by decide), if_neg (by decide)]
        exact J1.end_ (m_e1 (by omega) q1 hok rfl rfl ⟨fun _ => rfl, fun _ _ => rfl⟩)
  by_cases q1 : nK nt n < 35
  · rw [if_pos q1]; exact r116 (fun q => absurd q.1 (Int32.not_le.mpr q1))
  · rw [if_neg q1]
    by_cases q2 : 45 < nK nt n
    · rw [if_pos q2]; exact r116 (fun q => absurd q.2 (Int32.not_le.mpr q2))
    · rw [if_neg q2]
      have k3 : 35 ≤ nK nt n ∧ nK nt n ≤ 45 := ⟨Int32.not_lt.mp q1, Int32.not_lt.mp q2⟩
      have e : w_an nt (wV nt f) n g = w_chg nt (wV nt f) (nA nt n) (nK nt n - 25).toNatClampNeg (nB nt n) false g := by unfold w_an; simp only [if_neg c7, if_neg c9, if_neg c34, if_pos k3]
      rw [e] at hok ⊢
      obtain ⟨t1, t2, t3, t4, t5, eb, -, -⟩ := wE_chg hT hn hdp k3.1 k3.2
      obtain ⟨o1, o2, o3⟩ := i_25 k3.1 k3.2
      have := m_chg (d := d) (by omega) (by omega : 2 * f + 1 ≤ c) hc hT R t1 t2 t3 t4 t5 o2 o3 (fun _ => eb) false h hok
      rw [← o1] at this
      exact J1.end_ this
/-- every value and every condition -/
theorem mV_all (hT : wTb nt N M res par) : ∀ (f : Nat) (n : Int32), wE nt N f n → mV nt N M w ba pf rf lf f n := by
  intro f
  induction f with
  | zero => intro n hn; have := (hT.d hn.1).1; have := hn.2.2; omega
  | succ f ih =>
    intro n hE d c lm lv x g hd hf hc h
    have R := ih
    refine ⟨fun hok => m_vl (by omega) (by omega) (fun _ => by omega) hc hT R hE h hok, fun hd2 ht so l hl hv hok => ?_⟩
    have e : wV nt (f + 1) n (bif so then 2 else 3) l g = w_cd nt (wV nt f) n so l g := by cases so <;> rfl
    rw [e] at hok ⊢
    refine m_cd (by omega) (by omega) hc hT R hE ht so hl hv h (fun hk ho hq => ?_) hok
    have e2 : w_vl nt (wV nt f) n g = w_v0 nt (wV nt f) n g := by unfold w_vl; rw [hq]; simp only [cond_false, if_neg hk]
    have := m_vl (d := d - 1) (by omega) (by omega) (fun q => absurd q hk) hc hT R hE h (by rw [e2]; exact ho)
    rw [e2] at this; exact this
end
