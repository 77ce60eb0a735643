/-! values of CodeWriterModel: all kinds -/
section
variable {nt : sp_NT} {N M : Nat} {w : Bool} {ba pf rf lf c : Nat} {lm : Nat → Nat} {lv : Nat → Bool} {x : mj_X} {g : wG} {res par : Nat → Int32} {f : Nat} {rec : wR} {n : Int32}
theorem w_v0_1 (k : nK nt n = 1) : w_v0 nt rec n g = w_k (nT nt n) (w_bits nt n) g := by unfold w_v0; simp only [k]; rfl
theorem w_v0_2 (k : nK nt n = 2) : w_v0 nt rec n g = w_k (nT nt n) (w_bits nt n) g := by unfold w_v0; simp only [k]; rfl
theorem w_v0_3 (k : nK nt n = 3) : w_v0 nt rec n g = w_k (nT nt n) (w_bits nt n) g := by unfold w_v0; simp only [k]; rfl
theorem w_v0_4 (k : nK nt n = 4) : w_v0 nt rec n g = w_k (nT nt n) (w_bits nt n) g := by unfold w_v0; simp only [k]; rfl
theorem w_v0_51 (k : nK nt n = 51) : w_v0 nt rec n g = w_em (0, 5, 0, 0, []) 0 [nT nt n] g := by unfold w_v0; simp only [k]; rfl
theorem w_v0_6 (k : nK nt n = 6) : w_v0 nt rec n g = w_ld (nT nt (nA nt n)) (w_pl g (nA nt n)) (w_tl (nT nt (nA nt n))) (w_pk (nA nt n) g) := by unfold w_v0; simp only [k]; rfl
theorem w_v0_7 (k : nK nt n = 7) : w_v0 nt rec n g = w_st (nT nt (nA nt n)) (w_pl (w_dup (nT nt (nA nt n)) (rec (nB nt n) 0 0 (w_pk (nA nt n) g))) (nA nt n)) (w_dup (nT nt (nA nt n)) (rec (nB nt n) 0 0 (w_pk (nA nt n) g))) := by unfold w_v0; simp only [k]; rfl
theorem w_v0_8 (k : nK nt n = 8) : w_v0 nt rec n g = w_eld (nT nt (nA nt n)) (rec (nB nt n) 0 0 (rec (nA nt n) 0 0 g)) := by unfold w_v0; simp only [k]; rfl
theorem w_v0_9 (k : nK nt n = 9) : w_v0 nt rec n g = w_pe9 nt rec (nA nt n) (nB nt n) true g := by unfold w_v0; simp only [k]; rfl
theorem w_v0_21 (k : nK nt n = 21) : w_v0 nt rec n g = w_em (9, nT nt (nA nt n), 0, 0, []) (w_tl (nT nt (nA nt n))).length (w_tl (nT nt (nA nt n))) (rec (nA nt n) 0 0 g) := by unfold w_v0; simp only [k]; rfl
theorem w_v0_22 (k : nK nt n = 22) : w_v0 nt rec n g = w_cast (nT nt (nB nt n)) (nA nt n).toNatClampNeg (rec (nB nt n) 0 0 g) := by unfold w_v0; simp only [k]; rfl
theorem w_v0_32 (k : nK nt n = 32) : w_v0 nt rec n g = w_sl false (g_nl g + 1) (w_put (g_nl g + 1) (rec (nB nt (nB nt n)) 0 0 (w_sl false (g_nl g) (w_put (g_nl g) (w_go (g_nl g + 1) (rec (nA nt (nB nt n)) 0 0 (rec (nA nt n) 3 (g_nl g) (w_lb (g_L g, w_tl (nT nt n) ++ g_st g) (w_lb (g_L g, g_st g) g))))))))) := by unfold w_v0; simp only [k]; rfl
theorem w_v0_34 (k : nK nt n = 34) : w_v0 nt rec n g = w_stp nt rec (nA nt n) (nB nt n) true g := by unfold w_v0; simp only [k]; rfl
theorem w_v0_46 (k : nK nt n = 46) : w_v0 nt rec n g = w_em (13, (nA nt n).toNatClampNeg, 0, 0, []) 1 [(nA nt n).toNatClampNeg] (rec (nB nt n) 0 0 g) := by unfold w_v0; simp only [k]; rfl
theorem w_v0_47 (k : nK nt n = 47) : w_v0 nt rec n g = w_em (14, 0, 0, 0, []) 1 [1] (rec (nA nt n) 0 0 g) := by unfold w_v0; simp only [k]; rfl
theorem w_v0_48 (k : nK nt n = 48) : w_v0 nt rec n g = w_pe 15 5 (nA nt n).toInt64 (w_sum nt (sp_chain nt 4001 (nB nt n))) (w_tl (nT nt n)) (w_args nt rec (sp_chain nt 4001 (nB nt n)) g) := by unfold w_v0; simp only [k]; rfl
theorem w_dup_pl (t : Nat) : g_pl (w_dup t g) = g_pl g := by unfold w_dup w_es; cases w_q g <;> cases Nat.beq (w_tl t).length 2 <;> rfl
theorem wV_pl0 (hT : wTb nt N M res par) {n : Int32} (hE : wE nt N f n) : g_pl (wV nt f n 0 0 g) = g_pl g := by
  cases hq : w_q g
  · exact ((wV_sh hT f n hE).2 g 0 hq (Nat.zero_le _)).1.1.1.2.2.2.2.2.2
  · rw [((wV_sh hT f n hE).1 g hq).1]
/-- the whole of a chain -/
theorem wTb.chain (hT : wTb nt N M res par) {K p : Int32} (hK : K = 49 ∨ K = 76 ∨ K = 82 ∨ K = 86) (hp : p = -1 ∨ (sp_nd N p = true ∧ nK nt p = K)) : ∃ l, sp_Ch nt N K l p ∧ sp_chain nt 4001 p = l := by
  rcases hp with rfl | ⟨h1, h2⟩
  · exact ⟨[], rfl, rfl⟩
  · have hlt := sp_nd_lt hT.2.2 h1
    have h0 := ((sp_nd_iff hT.2.2 p).mp h1).1
    obtain ⟨l, l1, l2⟩ := hT.1.chain hT.2.2 p.toNatClampNeg hlt (by have : nt 0 p.toNatClampNeg = K := h2; rw [this]; exact hK)
    rw [show nt 0 p.toNatClampNeg = K from h2, nI_nn (Int32.le_iff_toInt_le.mpr h0)] at l1
    have := hT.2.2
    exact ⟨l, l1, sp_Ch_chain l p 4001 l1 (by omega)⟩
theorem m_args {d : Nat} (hd : 5 * f + 8 ≤ d) (hf : 2 * f + 1 ≤ c) (hc : c ≤ 3990) (hT : wTb nt N M res par) (R : ∀ n, wE nt N f n → mV nt N M w ba pf rf lf f n) {a1 a2 a3 a4 : Int32} (hn : sp_nd N a1 = true) (hm : nT nt a1 ≤ 8) :
    ∀ (l : List Int32) (p : Int32) (s : Nat) (lm : Nat → Nat) (lv : Nat → Bool) (x : mj_X) (g : wG), sp_Ch nt N 49 l p → wCh nt N f 49 l → Q1 nt N M w ba pf rf lf c lm lv x g → g_ok (w_pe 15 5 a2.toInt64 (s + w_sum nt l) (w_tl (nT nt a1)) (w_args nt (wV nt f) l g)) →
      J1 nt N M w ba pf rf lf c (rX1_value d (677, [some (.ref 0), some (.int a1), some (.int a2), some (.int a3), some (.int a4), some (.int (nI s)), some (.int p)], [], x)) x lm lv g (w_pe 15 5 a2.toInt64 (s + w_sum nt l) (w_tl (nT nt a1)) (w_args nt (wV nt f) l g)) := by
  intro l
  induction l with
  | nil =>
    intro p s lm lv x g hl _ h hok
    have hp : p = -1 := hl
    rw [bX1_value_677, if_pos hp, h.nd hn, h.T.2.2.2.1, hT.ty hn, sX1_placesOf (by omega), mj_rI_k, sp_pl_n hm]
    have := m_inv (d := d) (s := 5) (v := a2.toInt64) (off := s) (on := w_tl (nT nt a1)) (by omega) (Or.inl rfl) h hok (by rw [i64_i])
    rw [i64_i] at this
    exact J1.end_ this
  | cons q r ih =>
    intro p s lm lv x g hl hch h hok
    obtain ⟨e1, e2, e3, e4, e5⟩ := hl
    subst e1
    obtain ⟨-, hdq, -⟩ := hch p (List.mem_cons_self ..)
    have hf1 : ∃ f', f = f' + 1 := by
      cases f with
      | zero => have := (hT.d e2).1; omega
      | succ f => exact ⟨f, rfl⟩
    obtain ⟨f', rfl⟩ := hf1
    obtain ⟨⟨ea, ta1, ta8⟩, -⟩ := wE_given hT e2 hdq e3
    have ea' := ea.mono (Nat.le_succ _)
    rw [bX1_value_677, if_neg (nd_n1 e2), h.nd e2, h.T.2.1]
    have hE : w_args nt (wV nt (f' + 1)) (p :: r) g = w_args nt (wV nt (f' + 1)) r (wV nt (f' + 1) (nA nt p) 0 0 g) := rfl
    have hS : s + w_sum nt (p :: r) = (s + (w_tl (nT nt (nA nt p))).length) + w_sum nt r := by show s + ((w_tl (nT nt (nA nt p))).length + w_sum nt r) = _; omega
    rw [hE, hS] at hok ⊢
    have mr : wM (wV nt (f' + 1) (nA nt p) 0 0 g) (w_pe 15 5 a2.toInt64 ((s + (w_tl (nT nt (nA nt p))).length) + w_sum nt r) (w_tl (nT nt a1)) (w_args nt (wV nt (f' + 1)) r (wV nt (f' + 1) (nA nt p) 0 0 g))) := (wM.args (wV_mono nt (f' + 1)) r (wM.rf _)).pe _ _ _ _ _
    refine J1.b (wV_mono nt (f' + 1) (nA nt p) 0 0 g) ((R _ ea' d c lm lv x g hd hf hc h).1 (mr.1 hok)) (fun lm1 lv1 x1 q1 _ _ => ?_)
    rw [q1.nd e2, q1.T.2.1, q1.nd ea.1, q1.T.2.2.2.1, hT.ty ea.1, sX1_placesOf (by omega), mj_rI_k, sp_pl_n ta8, q1.nd e2, nI_add, q1.T.2.2.1]
    exact ih (nB nt p) _ lm1 lv1 x1 _ e5 (fun k hk => hch k (List.mem_cons_of_mem _ hk)) q1 hok
theorem w_vl_q {rec : wR} (hq : w_q g = true) : w_vl nt rec n g = g := by unfold w_vl; rw [hq]; rfl
/-- the switch of kinds -/
theorem m_v168 {d : Nat} (hd : 5 * f + 12 ≤ d) (hf : 2 * f + 2 ≤ c) (hc : c ≤ 3990) (hT : wTb nt N M res par) (R : ∀ n, wE nt N f n → mV nt N M w ba pf rf lf f n) (hE : wE nt N (f + 1) n) (hk1 : ¬ (10 ≤ nK nt n ∧ nK nt n ≤ 20)) (hk2 : ¬ (23 ≤ nK nt n ∧ nK nt n ≤ 31)) (hk3 : ¬ (35 ≤ nK nt n ∧ nK nt n ≤ 45)) (h : Q1 nt N M w ba pf rf lf c lm lv x g) (hok : g_ok (w_v0 nt (wV nt f) n g)) :
    J1 nt N M w ba pf rf lf c (rX1_value d (168, [some (.ref 0), some (.int n), some (.int (nA nt n)), some (.int (nB nt n)), some (.int (nK nt n)), none, none], [], x)) x lm lv g (w_v0 nt (wV nt f) n g) := by
  obtain ⟨hn, hEx, hdp⟩ := hE
  have Rv : ∀ {m : Int32} {lm1 : Nat → Nat} {lv1 : Nat → Bool} {x1 : mj_X} {g1 : wG}, wE nt N f m → Q1 nt N M w ba pf rf lf c lm1 lv1 x1 g1 → g_ok (wV nt f m 0 0 g1) → J1 nt N M w ba pf rf lf c (kX1 d 40 [.ref 0, .int m] x1) x1 lm1 lv1 g1 (wV nt f m 0 0 g1) := fun hm hq ho => (R _ hm d c _ _ _ _ (by omega) (by omega) hc hq).1 ho
  by_cases c1 : nK nt n = 1
  · rw [wX1_value_168_1 _ _ _ _ _ _ c1, bX1_value_388]
    have t : nT nt n = 1 := by rw [wE_con hT hn hdp (by rw [c1]; decide) (by rw [c1]; decide), c1]; rfl
    have b : w_bits nt n = (nA nt n).toInt64 := by unfold w_bits; rw [if_pos c1]
    rw [w_v0_1 c1, t, b] at hok ⊢
    exact J1.end_ (m_ic (by omega) _ h hok)
  by_cases c2 : nK nt n = 2
  · rw [wX1_value_168_2 _ _ _ _ _ _ c2, bX1_value_396]
    have t : nT nt n = 2 := by rw [wE_con hT hn hdp (by rw [c2]; decide) (by rw [c2]; decide), c2]; rfl
    have b : w_bits nt n = w_ll (nA nt n) (nB nt n) := by unfold w_bits; rw [if_neg c1, if_neg (by rw [c2]; decide), if_pos c2]
    rw [w_v0_2 c2, t, b] at hok ⊢
    exact J1.end_ (m_lc (by omega) _ _ h hok)
  by_cases c3 : nK nt n = 3
  · rw [wX1_value_168_3 _ _ _ _ _ _ c3, bX1_value_405]
    have t : nT nt n = 3 := by rw [wE_con hT hn hdp (by rw [c3]; decide) (by rw [c3]; decide), c3]; rfl
    have b : w_bits nt n = (w_pf32 (nA nt n)).toInt64 := by unfold w_bits; rw [if_neg c1, if_pos c3]
    rw [w_v0_3 c3, t, b] at hok ⊢
    exact J1.end_ (m_fc (by omega) _ h hok)
  by_cases c4 : nK nt n = 4
  · rw [wX1_value_168_4 _ _ _ _ _ _ c4, bX1_value_413]
    have t : nT nt n = 4 := by rw [wE_con hT hn hdp (by rw [c4]; decide) (by rw [c4]; decide), c4]; rfl
    have b : w_bits nt n = w_pd64 (w_ll (nA nt n) (nB nt n)) := by unfold w_bits; rw [if_neg c1, if_neg c3, if_neg c2]
    rw [w_v0_4 c4, t, b] at hok ⊢
    exact J1.end_ (m_dc (by omega) _ _ h hok)
  by_cases c51 : nK nt n = 51
  · rw [wX1_value_168_51 _ _ _ _ _ _ c51, bX1_value_422]
    rw [w_v0_51 c51] at hok ⊢
    exact J1.end_ (m_e1 (by omega) h hok rfl rfl ⟨fun _ => rfl, fun _ _ => rfl⟩)
  by_cases c6 : nK nt n = 6
  · rw [wX1_value_168_6 _ _ _ _ _ _ c6, bX1_value_432]
    obtain ⟨v1, v2, v3⟩ := wE_load hT hn hdp c6
    rw [w_v0_6 c6] at hok ⊢
    have ht1 : 1 ≤ nT nt (nA nt n) := (hT.t v1).2 (Or.inl (by rw [v2]; decide))
    have mk : wM (w_pk (nA nt n) g) (w_ld (nT nt (nA nt n)) (w_pl g (nA nt n)) (w_tl (nT nt (nA nt n))) (w_pk (nA nt n) g)) := (wM.rf _).ld _ _ _
    obtain ⟨p1, p2⟩ := h.pl v1 (mk.1 hok).2
    rw [h.nd v1, h.nd v1, p1, h.T.2.2.2.1, hT.ty v1]
    exact J1.end_ (m_ld (by omega) (g := w_pk (nA nt n) g) h hok ht1 (hT.t v1).1 p2 rfl)
  by_cases c7 : nK nt n = 7
  · rw [wX1_value_168_7 _ _ _ _ _ _ c7, bX1_value_451]
    obtain ⟨v1, v2, eb, -, -⟩ := wE_store hT hn hdp c7
    rw [w_v0_7 c7] at hok ⊢
    have ht1 : 1 ≤ nT nt (nA nt n) := (hT.t v1).2 (Or.inl (by rw [v2]; decide))
    have ht8 := (hT.t v1).1
    have epl : w_pl (w_dup (nT nt (nA nt n)) (wV nt f (nB nt n) 0 0 (w_pk (nA nt n) g))) (nA nt n) = w_pl g (nA nt n) := by unfold w_pl; rw [w_dup_pl, wV_pl0 hT eb]; rfl
    rw [epl] at hok ⊢
    have m1 := wV_mono nt f (nB nt n) 0 0 (w_pk (nA nt n) g)
    generalize hG1 : wV nt f (nB nt n) 0 0 (w_pk (nA nt n) g) = G1 at *
    have m2 : wM G1 (w_dup (nT nt (nA nt n)) G1) := (wM.rf _).dup _
    have m3 : wM (w_dup (nT nt (nA nt n)) G1) (w_st (nT nt (nA nt n)) (w_pl g (nA nt n)) (w_dup (nT nt (nA nt n)) G1)) := (wM.rf _).st _ _
    have ok2 := m3.1 hok
    have ok1 := m2.1 ok2
    obtain ⟨p1, p2⟩ := h.pl v1 (m1.1 ok1).2
    refine J1.b (g := w_pk (nA nt n) g) m1 (by rw [← hG1] at ok1 ⊢; exact Rv eb h ok1) (fun lm1 lv1 x1 q1 _ f1 => ?_)
    rw [q1.nd v1, q1.T.2.2.2.1, hT.ty v1]
    refine J1.b m2 (m_dup (by omega) ht8 q1 ok2) (fun lm2 lv2 x2 q2 _ f2 => ?_)
    rw [q2.nd v1, q2.nd v1, (f1.tr f2).2 48 _ rfl, p1, q2.T.2.2.2.1, hT.ty v1]
    exact J1.end_ (m_st (by omega) q2 hok ht1 ht8 p2)
  by_cases c8 : nK nt n = 8
  · rw [wX1_value_168_8 _ _ _ _ _ _ c8, bX1_value_485]
    obtain ⟨ea, eb, a5, a8, -, -⟩ := wE_at hT hn hdp c8
    rw [w_v0_8 c8] at hok ⊢
    have m1 := wV_mono nt f (nA nt n) 0 0 g
    have m2 := wV_mono nt f (nB nt n) 0 0 (wV nt f (nA nt n) 0 0 g)
    have m3 : wM (wV nt f (nB nt n) 0 0 (wV nt f (nA nt n) 0 0 g)) (w_eld (nT nt (nA nt n)) (wV nt f (nB nt n) 0 0 (wV nt f (nA nt n) 0 0 g))) := (wM.rf _).eld _
    refine J1.b m1 (Rv ea h (m2.1 (m3.1 hok))) (fun lm1 lv1 x1 q1 _ _ => ?_)
    refine J1.b m2 (Rv eb q1 (m3.1 hok)) (fun lm2 lv2 x2 q2 _ _ => ?_)
    rw [q2.nd ea.1, q2.T.2.2.2.1, hT.ty ea.1]
    exact J1.end_ (m_el (b := false) (by omega) a5 a8 q2 hok)
  by_cases c9 : nK nt n = 9
  · rw [wX1_value_168_9 _ _ _ _ _ _ c9, bX1_value_509]
    obtain ⟨t1, t2, t3, eb, -, -⟩ := wE_put hT hn hdp c9
    rw [w_v0_9 c9] at hok ⊢
    exact J1.end_ (m_pe9 (by omega) (by omega) hc hT R t1 t2 t3 eb true h hok)
  by_cases c21 : nK nt n = 21
  · rw [wX1_value_168_21 _ _ _ _ _ _ c21, bX1_value_519]
    obtain ⟨ea, t1, t4, -⟩ := wE_neg hT hn hdp c21
    rw [w_v0_21 c21] at hok ⊢
    have m2 : wM (wV nt f (nA nt n) 0 0 g) (w_em (9, nT nt (nA nt n), 0, 0, []) (w_tl (nT nt (nA nt n))).length (w_tl (nT nt (nA nt n))) (wV nt f (nA nt n) 0 0 g)) := (wM.rf _).em _ _ _
    refine J1.b (wV_mono nt f (nA nt n) 0 0 g) (Rv ea h (m2.1 hok)) (fun lm1 lv1 x1 q1 _ _ => ?_)
    rw [q1.nd ea.1, q1.nd ea.1, q1.T.2.2.2.1, hT.ty ea.1, sX1_placesOf (by omega), mj_rI_k, q1.nd ea.1, q1.T.2.2.2.1, hT.ty ea.1, sX1_placesOf (by omega), mj_rI_k, sp_pl_n (by omega)]
    refine J1.end_ (m_e1 (by omega) q1 hok rfl rfl ⟨fun _ => ?_, fun _ _ => rfl⟩)
    show [o8 (nI (116 + (nT nt (nA nt n) - 1)))] = _
    rw [show (116 : Int32) + nI (nT nt (nA nt n)) = nI (116 + nT nt (nA nt n)) from nI_add 116 _, show nI (116 + nT nt (nA nt n)) - 1 = nI (116 + nT nt (nA nt n) - 1) from nI_sub (b := 1) (by omega), show 116 + nT nt (nA nt n) - 1 = 116 + (nT nt (nA nt n) - 1) by omega]
  by_cases c22 : nK nt n = 22
  · rw [wX1_value_168_22 _ _ _ _ _ _ c22, bX1_value_560]
    obtain ⟨eb, t1, t4, ta, a0, -⟩ := wE_cast hT hn hdp c22
    rw [w_v0_22 c22] at hok ⊢
    have m2 : wM (wV nt f (nB nt n) 0 0 g) (w_cast (nT nt (nB nt n)) (nA nt n).toNatClampNeg (wV nt f (nB nt n) 0 0 g)) := (wM.rf _).cast _ _
    refine J1.b (wV_mono nt f (nB nt n) 0 0 g) (Rv eb h (m2.1 hok)) (fun lm1 lv1 x1 q1 _ _ => ?_)
    rw [q1.nd eb.1, q1.T.2.2.2.1, hT.ty eb.1]
    have := m_cast (d := d) (by omega) t1 t4 ta q1 hok
    rw [nI_nn a0] at this
    exact J1.end_ this
  by_cases c32 : nK nt n = 32
  · rw [wX1_value_168_32 _ _ _ _ _ _ c32, bX1_value_579]
    obtain ⟨ea, ta, b1, b2, b3, -⟩ := wE_choose hT hn hdp c32
    rw [w_v0_32 c32] at hok ⊢
    obtain ⟨f', rfl⟩ : ∃ f', f = f' + 1 := by
      cases f with
      | zero => have := (hT.d b1).1; omega
      | succ f => exact ⟨f, rfl⟩
    obtain ⟨pa, pb, -⟩ := wE_pair hT b1 b2 b3
    have pa' := pa.mono (Nat.le_succ f')
    have pb' := pb.mono (Nat.le_succ f')
    obtain ⟨d', rfl⟩ : ∃ d', d = d' + 1 := ⟨d - 1, by omega⟩
    obtain ⟨c', rfl⟩ : ∃ c', c = c' + 1 := ⟨c - 1, by omega⟩
    rw [eX1_chosen]
    refine J1.end_ (J1.dia (d := d') (C := wV nt (f' + 1) (nA nt n) 3 (g_nl g)) (X1 := wV nt (f' + 1) (nA nt (nB nt n)) 0 0) (X2 := wV nt (f' + 1) (nB nt (nB nt n)) 0 0) (P1 := fun x5 k => mj_g (nB nt n) 4000 (mj_rV (kX1 d' 40 [.ref 0, .int (x5.1 3 (nB nt n).toNatClampNeg)] x5) k)) (P2 := fun x8 k => mj_g (nB nt n) 4000 (mj_rV (kX1 d' 40 [.ref 0, .int (x8.1 4 (nB nt n).toNatClampNeg)] x8) k)) (by omega) hc h (fun k => wV_mono nt _ _ _ _ k) (fun k => wV_mono nt _ _ _ _ k) (fun k => wV_mono nt _ _ _ _ k) ?_ ?_ ?_ hok)
    · intro lm1 lv1 x1 q1 w1 ok1
      exact (R _ ea d' c' lm1 lv1 x1 _ (by omega) (by omega) (by omega) q1).2 (by omega) ta false (g_nl g) (by show g_nl g < g_nl g + 1 + 1; omega) w1 ok1
    · intro lm1 lv1 x1 g1 H k q1 ok1 hk
      show J1 _ _ _ _ _ _ _ _ _ (mj_g (nB nt n) 4000 _) _ _ _ _ _
      rw [q1.nd b1, q1.T.2.1]
      exact J1.b (wV_mono nt _ _ _ _ g1) ((R _ pa' d' c' lm1 lv1 x1 g1 (by omega) (by omega) (by omega) q1).1 ok1) (fun lm2 lv2 x2 q2 a2 _ => hk lm2 lv2 x2 q2 a2)
    · intro lm1 lv1 x1 g1 H k q1 ok1 hk
      show J1 _ _ _ _ _ _ _ _ _ (mj_g (nB nt n) 4000 _) _ _ _ _ _
      rw [q1.nd b1, q1.T.2.2.1]
      exact J1.b (wV_mono nt _ _ _ _ g1) ((R _ pb' d' c' lm1 lv1 x1 g1 (by omega) (by omega) (by omega) q1).1 ok1) (fun lm2 lv2 x2 q2 a2 _ => hk lm2 lv2 x2 q2 a2)
  by_cases c34 : nK nt n = 34
  · rw [wX1_value_168_34 _ _ _ _ _ _ c34, bX1_value_588]
    obtain ⟨t1, t2, t3, t4, t5, b1, b2, -⟩ := wE_stp hT hn hdp c34
    rw [w_v0_34 c34] at hok ⊢
    exact J1.end_ (m_stp (by omega) (by omega) hc hT R t1 t2 t3 t4 t5 b1 b2 true h hok)
  by_cases c46 : nK nt n = 46
  · rw [wX1_value_168_46 _ _ _ _ _ _ c46, bX1_value_598]
    obtain ⟨a5, a8, a0, eb, -, -⟩ := wE_make hT hn hdp c46
    rw [w_v0_46 c46] at hok ⊢
    have m2 : wM (wV nt f (nB nt n) 0 0 g) (w_em (13, (nA nt n).toNatClampNeg, 0, 0, []) 1 [(nA nt n).toNatClampNeg] (wV nt f (nB nt n) 0 0 g)) := (wM.rf _).em _ _ _
    refine J1.b (wV_mono nt f (nB nt n) 0 0 g) (Rv eb h (m2.1 hok)) (fun lm1 lv1 x1 q1 _ _ => ?_)
    have key : ∀ s1 : Int32, s1 = (if (nA nt n).toNatClampNeg = 5 then 8 else if (nA nt n).toNatClampNeg = 6 then 10 else if (nA nt n).toNatClampNeg = 7 then 11 else 7) → J1 nt N M w ba pf rf lf c (mj_rV (kX1 d 42 [.ref 0, .int (188 : Int32), .int (1 : Int32), .int (1 : Int32)] x1) fun x2 => mj_rV (kX1 d 49 [.ref 0, .int s1, .int (1 : Int32)] x2) fun x3 => some (none, x3)) x1 lm1 lv1 (wV nt f (nB nt n) 0 0 g) (w_em (13, (nA nt n).toNatClampNeg, 0, 0, []) 1 [(nA nt n).toNatClampNeg] (wV nt f (nB nt n) 0 0 g)) := by
      intro s1 hs1
      exact m_e2 (by omega) q1 hok rfl rfl ⟨fun _ => by rw [hs1]; rfl, fun _ _ => rfl⟩
    simp only [bX1_value_647]
    have ea : nA nt n = nI (nA nt n).toNatClampNeg := (nI_nn a0).symm
    have hcs : (nA nt n).toNatClampNeg = 5 ∨ (nA nt n).toNatClampNeg = 6 ∨ (nA nt n).toNatClampNeg = 7 ∨ (nA nt n).toNatClampNeg = 8 := by omega
    rcases hcs with q | q | q | q
    · simp only [if_pos (show nA nt n = 5 by rw [ea, q]; rfl)]; exact key 8 (by rw [q]; rfl)
    · simp only [if_neg (show ¬ nA nt n = 5 by rw [ea, q]; decide), if_pos (show nA nt n = 6 by rw [ea, q]; rfl)]; exact key 10 (by rw [q]; rfl)
    · simp only [if_neg (show ¬ nA nt n = 5 by rw [ea, q]; decide), if_neg (show ¬ nA nt n = 6 by rw [ea, q]; decide), if_pos (show nA nt n = 7 by rw [ea, q]; rfl)]; exact key 11 (by rw [q]; rfl)
    · simp only [if_neg (show ¬ nA nt n = 5 by rw [ea, q]; decide), if_neg (show ¬ nA nt n = 6 by rw [ea, q]; decide), if_neg (show ¬ nA nt n = 7 by rw [ea, q]; decide)]; exact key 7 (by rw [q]; rfl)
  by_cases c47 : nK nt n = 47
  · rw [wX1_value_168_47 _ _ _ _ _ _ c47, bX1_value_654]
    obtain ⟨ea, -, -, -⟩ := wE_len hT hn hdp c47
    rw [w_v0_47 c47] at hok ⊢
    have m2 : wM (wV nt f (nA nt n) 0 0 g) (w_em (14, 0, 0, 0, []) 1 [1] (wV nt f (nA nt n) 0 0 g)) := (wM.rf _).em _ _ _
    refine J1.b (wV_mono nt f (nA nt n) 0 0 g) (Rv ea h (m2.1 hok)) (fun lm1 lv1 x1 q1 _ _ => ?_)
    exact J1.end_ (m_e1 (by omega) q1 hok rfl rfl ⟨fun _ => rfl, fun _ _ => rfl⟩)
  have c48 : nK nt n = 48 := by
    apply Int32.toInt_inj.mp
    show (nK nt n).toInt = 48
    have q := sp_E_iff.mp hEx
    have z : ∀ v : Int32, ¬ nK nt n = v → (nK nt n).toInt ≠ v.toInt := fun v => i_ne
    simp only [i_le] at hk1 hk2 hk3
    have y1 : (nK nt n).toInt ≠ 1 := z 1 c1
    have y2 : (nK nt n).toInt ≠ 2 := z 2 c2
    have y3 : (nK nt n).toInt ≠ 3 := z 3 c3
    have y4 : (nK nt n).toInt ≠ 4 := z 4 c4
    have y51 : (nK nt n).toInt ≠ 51 := z 51 c51
    have y6 : (nK nt n).toInt ≠ 6 := z 6 c6
    have y7 : (nK nt n).toInt ≠ 7 := z 7 c7
    have y8 : (nK nt n).toInt ≠ 8 := z 8 c8
    have y9 : (nK nt n).toInt ≠ 9 := z 9 c9
    have y21 : (nK nt n).toInt ≠ 21 := z 21 c21
    have y22 : (nK nt n).toInt ≠ 22 := z 22 c22
    have y32 : (nK nt n).toInt ≠ 32 := z 32 c32
    have y34 : (nK nt n).toInt ≠ 34 := z 34 c34
    have y46 : (nK nt n).toInt ≠ 46 := z 46 c46
    have y47 : (nK nt n).toInt ≠ 47 := z 47 c47
    have l1 : (10 : Int32).toInt = 10 := rfl
    have l2 : (20 : Int32).toInt = 20 := rfl
    have l3 : (35 : Int32).toInt = 35 := rfl
    have l4 : (45 : Int32).toInt = 45 := rfl
    have l5 : (23 : Int32).toInt = 23 := rfl
    have l6 : (31 : Int32).toInt = 31 := rfl
    omega
  rw [wX1_value_168_48 _ _ _ _ _ _ c48, bX1_value_671]
  obtain ⟨-, hb, -, -⟩ := wE_call hT hn hdp c48
  rw [w_v0_48 c48] at hok ⊢
  have hb' : nB nt n = -1 ∨ (sp_nd N (nB nt n) = true ∧ nK nt (nB nt n) = 49) := by
    rcases hb with q | ⟨q1, -, q3⟩
    · exact Or.inl q
    · exact Or.inr ⟨q1, q3⟩
  obtain ⟨l, l1, l2⟩ := hT.chain (Or.inl rfl) hb'
  have hch : wCh nt N f 49 (sp_chain nt 4001 (nB nt n)) := hT.ch (Or.inl rfl) 4001 hb
  rw [l2] at hok hch ⊢
  have := m_args (d := d) (a2 := nA nt n) (a3 := nB nt n) (a4 := nK nt n) (by omega) (by omega : 2 * f + 1 ≤ c) hc hT R hn (hT.t hn).1 l (nB nt n) 0 lm lv x g l1 hch h (by rw [Nat.zero_add]; exact hok)
  rw [Nat.zero_add] at this
  exact this
end
