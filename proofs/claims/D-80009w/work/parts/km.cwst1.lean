/-! CodeWriter: statements one by one -/
/-- the induction hypothesis -/
def kS (nt : sp_NT) (N f : Nat) (n : Int32) : Prop := ∀ (P : yP) (hp : Nat) (H : List wSl) (O : List (Int32 × List (Nat × Nat))) (K sb : Nat) (C : Nat → Prop) (V : List wSl) (lm : Nat → Nat) (lv ct : Nat → Bool) (x : mj_X) (g : wG) (d : Nat), 6 * f + 260 ≤ d → f ≤ 200 → Y2 nt N P hp H O K (200 - f) (sb + 1) C none V lm lv ct x g → (∀ c, c ∈ g_cx g → w_cok nt N c) → g_ok (wS nt f n g) →
  KS nt N P hp H O K (200 - f) (sb + 1) (g_nl g) (z_skl V) C ct g (kX0 d 34 [.ref 0, .int n] x) x lm lv (wS nt f n g)
section
variable {nt : sp_NT} {N M : Nat} {P : yP} {hp : Nat} {H V : List wSl} {O : List (Int32 × List (Nat × Nat))} {K u sb : Nat} {C : Nat → Prop} {o : Option Int32} {lm lm' lm1 : Nat → Nat} {lv lv' lv1 ct ct' : Nat → Bool} {x y x1 : mj_X} {g G : wG} {res par : Nat → Int32} {f : Nat} {n : Int32}
theorem Y2.sbm {sb' : Nat} (h : Y2 nt N P hp H O K u sb C o V lm lv ct x g) (h1 : sb ≤ sb') (h2 : sb' ≤ 2000000000) : Y2 nt N P hp H O K u sb' C o V lm lv ct x g := by
  obtain ⟨t, a, e1, e2, e3, e4⟩ := h.ser.1
  exact h.num (yfr.rf _ _ x) rfl h.2.1.2.2.2.2.1 h.2.1.2.2.1 h.2.1.2.2.2.1 ⟨t, a, e1, e2, by omega, e4⟩ h2 ⟨rfl, rfl, rfl, rfl, rfl, rfl, rfl, rfl, rfl, rfl⟩ rfl rfl rfl (fun h0 => (h.ex h0).2.2.2.1)
/-- too many acts, or too deep -/
theorem Y2.ovac {v : Int32} {a : Nat} (h : Y2 nt N P hp H O K u sb C o V lm lv ct x g) (h0 : x.1 0 29 = 0) (hv : v = nI a) (ha : a ≤ 60001) (hg : g_ac g ≤ a) : Y2 nt N P hp H O K u sb C o V lm lv ct (mj_wI (mj_wI x 0 60 v) 0 29 1) (s_ov (s_ac g)) := by
  have f4 : yfr yo4 (p_pf P) x (mj_wI x 0 60 v) := (yfr.rf _ _ x).w _ rfl
  have f : yfr (yw2 P K) (p_pf P) x (mj_wI (mj_wI x 0 60 v) 0 29 1) := (yo4_w f4).w _ rfl
  have e0 := yV0.of f4 yvo4 rfl
  obtain ⟨h5, h6, h7, h8⟩ := h.ex h0
  have hac := h8.1.2.2.2.2
  obtain ⟨he, ⟨s1, s2, s3, s4, s5, s6, s7, s8, s9, s10, s11, ⟨t, a', t1, t2, t3, t4⟩, s13⟩, hC, hX⟩ := h
  have ea : a' = g_ac g := (nI_eq (by omega) (by omega)).mp (t2.symm.trans hac.1)
  refine ⟨he.fr2 f, ⟨s1, s2, s3, s4, s5, s6, s7, s8, s9, s10, s11, ⟨t, a, t1, hv, by omega, ha⟩, s13⟩, hC, Or.inr ⟨by show ¬ (1 : Int32) = 0; decide, (h7.v0 e0).mu (he.fr2 (yo4_w (K := K) f4)), ((h6.v0 e0).fr (y := mj_wI (mj_wI x 0 60 v) 0 29 1) rfl rfl rfl rfl).mono (by have := h7.2.1; omega), Or.inl (Or.inl rfl)⟩⟩
theorem KS.t506 {d k sb' : Nat} {a1 a2 a3 : Int32} {o4 o5 o6 : Option Value} (h : Y2 nt N P hp H O K (200 - f) sb' C none V lm lv ct x g) (hs : sb' ≤ sb) (hs2 : sb ≤ 2000000000) (hK : K ≤ 200 - (f + 1)) (hf : f + 1 ≤ 200) : KS nt N P hp H O K (200 - (f + 1)) sb k (z_skl V) C ct g (rX0_act d (506, [some (.ref 0), some (.int a1), some (.int a2), some (.int a3), o4, o5, o6], [], x)) x lm lv g := by
  obtain ⟨t, a, e1, e2, e3, e4⟩ := h.ser.1
  have f4 : yfr yo4 (p_pf P) x (mj_wI x 0 61 (x.1 0 61 - 1)) := (yfr.rf _ _ x).w _ rfl
  rw [bX0_act_506]
  refine KS.ret (h.num f4 rfl ?_ hK (by omega) ⟨t, a, e1, e2, by omega, e4⟩ hs2 ⟨rfl, rfl, rfl, rfl, rfl, rfl, rfl, rfl, rfl, rfl⟩ rfl rfl rfl (fun h0 => (h.ex h0).2.2.2.1)) (yo4_w f4) (fun w => ⟨w, yT.rf rfl rfl rfl⟩)
  show x.1 0 61 - 1 = nI (200 - (f + 1))
  rw [h.2.1.2.2.2.2.1, show (1 : Int32) = nI 1 from rfl, nI_sub (by omega)]
  rfl
/-- a statement begins -/
theorem k_entry {d B : Nat} (hf : f + 1 ≤ 200) (hn : sp_nd N n = true)
    (heq : kX0 (d + 1) 34 [.ref 0, .int n] x = (if (x.1 0 30) = 0 then some (none, x) else if (x.1 0 29) = 0 then (if (60000 : Int32) < ((x.1 0 60) + (1 : Int32)) then some (none, (mj_wI (mj_wI x 0 60 ((x.1 0 60) + (1 : Int32))) 0 29 (1 : Int32))) else if (x.1 0 61) = (200 : Int32) then some (none, (mj_wI (mj_wI x 0 60 ((x.1 0 60) + (1 : Int32))) 0 29 (1 : Int32)))
      else mj_g n 4000 (mj_g n 4000 (mj_g n 4000 (rX0_act d (B, [some (.ref 0), some (.int n), some (.int (x.1 2 n.toNatClampNeg)), some (.int (x.1 3 n.toNatClampNeg)), none, none, none], [], (mj_wI (mj_wI x 0 60 ((x.1 0 60) + (1 : Int32))) 0 61 ((x.1 0 61) + (1 : Int32)))))))) else some (none, x)))
    (h : Y2 nt N P hp H O K (200 - (f + 1)) (sb + 1) C none V lm lv ct x g) (hok : g_ok (wS nt (f + 1) n g))
    (body : ∀ x', x'.1 0 29 = 0 → w_q (s_ac g) = false → K ≤ 200 - (f + 1) → sb + 1 ≤ 2000000000 → Y2 nt N P hp H O K (200 - f) sb C none V lm lv ct x' (s_ac g) → g_ok (w_bd nt (wV nt 40) (wS nt f) n (s_ac g)) →
      KS nt N P hp H O K (200 - (f + 1)) (sb + 1) (g_nl g) (z_skl V) C ct (s_ac g) (rX0_act d (B, [some (.ref 0), some (.int n), some (.int (nA nt n)), some (.int (nB nt n)), none, none, none], [], x')) x' lm lv (w_bd nt (wV nt 40) (wS nt f) n (s_ac g))) :
    KS nt N P hp H O K (200 - (f + 1)) (sb + 1) (g_nl g) (z_skl V) C ct g (kX0 (d + 1) 34 [.ref 0, .int n] x) x lm lv (wS nt (f + 1) n g) := by
  have hm := wS_mono nt (f + 1) n g
  rw [heq]
  by_cases h1 : ¬ x.1 0 29 = 0
  · have hr : (if (x.1 0 30) = 0 then (some (none, x) : mj_R) else if (x.1 0 29) = 0 then (if (60000 : Int32) < ((x.1 0 60) + (1 : Int32)) then some (none, (mj_wI (mj_wI x 0 60 ((x.1 0 60) + (1 : Int32))) 0 29 (1 : Int32))) else if (x.1 0 61) = (200 : Int32) then some (none, (mj_wI (mj_wI x 0 60 ((x.1 0 60) + (1 : Int32))) 0 29 (1 : Int32)))
      else mj_g n 4000 (mj_g n 4000 (mj_g n 4000 (rX0_act d (B, [some (.ref 0), some (.int n), some (.int (x.1 2 n.toNatClampNeg)), some (.int (x.1 3 n.toNatClampNeg)), none, none, none], [], (mj_wI (mj_wI x 0 60 ((x.1 0 60) + (1 : Int32))) 0 61 ((x.1 0 61) + (1 : Int32)))))))) else some (none, x)) = some (none, x) := by
      rw [if_neg h1]; split <;> rfl
    rw [hr]; exact KS.skip h h1 hm (Nat.le_refl _)
  have h0 : x.1 0 29 = 0 := Decidable.not_not.mp h1
  obtain ⟨h5, h6, h7, h8⟩ := h.ex h0
  by_cases h30 : x.1 0 30 = 0
  · rw [if_pos h30]
    have hq := (h.dead (Or.inl h30) h0).2.2
    have e : wS nt (f + 1) n g = g := by show (bif w_q g then g else _) = g; rw [hq]; rfl
    rw [e]; exact KS.id_ h
  rw [if_neg h30, if_pos h0]
  have hq := (h.live (fun z => by rcases z with z | z; exact h30 z; exact z h0)).2.2
  obtain ⟨a1, a2, a3, a4, a5, a6⟩ := h8.1
  have e : wS nt (f + 1) n g = bif Nat.blt 60000 (g_ac g + 1) then s_ov (s_ac g) else w_bd nt (wV nt 40) (wS nt f) n (s_ac g) := by show (bif w_q g then g else _) = _; rw [hq]; rfl
  rw [e] at hok hm ⊢
  have hac : x.1 0 60 + (1 : Int32) = nI (g_ac g + 1) := by rw [a5]; exact nI_add _ 1
  rw [hac]
  have hu : x.1 0 61 = nI (200 - (f + 1)) := h.2.1.2.2.2.2.1
  by_cases ha : 60000 < g_ac g + 1
  · rw [if_pos (show (60000 : Int32) < nI (g_ac g + 1) from nI_lt (a := 60000) ha (by omega))]
    have hb : Nat.blt 60000 (g_ac g + 1) = true := Nat.ble_eq_true_of_le (by omega)
    rw [hb]
    exact KS.ret (h.ovac h0 rfl (by omega) (Nat.le_succ _)) ((yo4_w ((yfr.rf _ _ x).w _ rfl)).w _ rfl) (fun w => absurd w (by show ¬ (1 : Int32) = 0; decide))
  · rw [if_neg (show ¬ (60000 : Int32) < nI (g_ac g + 1) from nI_nlt (a := 60000) (by omega) (by omega)), hu, if_neg (show ¬ nI (200 - (f + 1)) = (200 : Int32) from fun e => by have := (nI_eq (b := 200) (by omega) (by omega)).mp e; omega), h.nd hn, h.nd hn, h.nd hn, h.T.2.1, h.T.2.2.1]
    have hb : Nat.blt 60000 (g_ac g + 1) = false := by rw [← Bool.not_eq_true, Nat.blt_eq]; exact ha
    rw [hb] at hok hm ⊢
    have hK := h.2.1.2.2.1
    have f' : yfr yo4 (p_pf P) x (mj_wI (mj_wI x 0 60 (nI (g_ac g + 1))) 0 61 (nI (200 - (f + 1)) + 1)) := ((yfr.rf _ _ x).w _ rfl).w _ rfl
    obtain ⟨t, a, t1, t2, t3, t4⟩ := h.ser.1
    have eac : a = g_ac g := (nI_eq (by omega) (by omega)).mp (t2.symm.trans a5)
    have q2 : Y2 nt N P hp H O K (200 - f) sb C none V lm lv ct (mj_wI (mj_wI x 0 60 (nI (g_ac g + 1))) 0 61 (nI (200 - (f + 1)) + 1)) (s_ac g) := by
      refine h.num f' rfl ?_ (by omega) (by omega) ⟨t, g_ac g + 1, t1, rfl, by omega, by omega⟩ (by have := h.ser.2; omega) ⟨rfl, rfl, rfl, rfl, rfl, rfl, rfl, rfl, rfl, rfl⟩ rfl rfl rfl (fun _ => ⟨a1, a2, a3, a4, rfl, by show g_ac g + 1 ≤ 60000; omega⟩)
      show nI (200 - (f + 1)) + 1 = nI (200 - f)
      rw [show (1 : Int32) = nI 1 from rfl, nI_add, show 200 - (f + 1) + 1 = 200 - f by omega]
    exact (body (mj_wI (mj_wI x 0 60 (nI (g_ac g + 1))) 0 61 (nI (200 - (f + 1)) + 1)) h0 hq hK h.ser.2 q2 hok).pre (yo4_w f') (fun w => ⟨w, yT.rf rfl rfl rfl⟩)
/-- the deepest -/
theorem kS_0 : kS nt N 0 n := by
  intro P hp H O K sb C V lm lv ct x g d hd hf h hC hok
  obtain ⟨d, rfl⟩ : ∃ e, d = e + 1 := ⟨d - 1, by omega⟩
  have hm := wS_mono nt 0 n g
  rw [eX0_act]
  by_cases h1 : ¬ x.1 0 29 = 0
  · have := KS.skip h h1 hm (Nat.le_refl _)
    split
    · exact this
    · first | exact this | (rw [if_neg h1]; exact this)
  have h0 : x.1 0 29 = 0 := Decidable.not_not.mp h1
  obtain ⟨h5, h6, h7, h8⟩ := h.ex h0
  by_cases h30 : x.1 0 30 = 0
  · rw [if_pos h30]
    have hq := (h.dead (Or.inl h30) h0).2.2
    have e : wS nt 0 n g = g := by show (bif w_q g then g else _) = g; rw [hq]; rfl
    rw [e]; exact KS.id_ h
  rw [if_neg h30, if_pos h0]
  have hq := (h.live (fun z => by rcases z with z | z; exact h30 z; exact z h0)).2.2
  have e : wS nt 0 n g = s_ov (s_ac g) := by show (bif w_q g then g else _) = _; rw [hq]; rfl
  rw [e]
  have a5 := h8.1.2.2.2.2
  have hac : x.1 0 60 + (1 : Int32) = nI (g_ac g + 1) := by rw [a5.1]; exact nI_add _ 1
  have hu : x.1 0 61 = 200 := h.2.1.2.2.2.2.1
  have done := KS.ret (n := g_nl g) (h.ovac h0 hac (by omega) (Nat.le_succ _)) ((yo4_w ((yfr.rf _ _ x).w _ rfl)).w _ rfl) (x := x) (g := g) (fun w => absurd w (by show ¬ (1 : Int32) = 0; decide))
  split
  · exact done
  · first | exact done | (rw [if_pos hu]; exact done)
/-- a statement by itself -/
theorem KS.alone {d : Nat} (R : kS nt N f n) (hd : 6 * f + 261 ≤ d) (hf : f ≤ 200) (h : Y2 nt N P hp H O K (200 - f) (sb + 1) C none V lm lv ct x g) (hc : ∀ c, c ∈ g_cx g → w_cok nt N c) (hok : g_ok (w_aln (wS nt f) n g)) :
    KS nt N P hp H O K (200 - f) (sb + 1) (g_nl g) (z_skl V) C ct g (kX0 d 75 [.ref 0, .int n] x) x lm lv (w_aln (wS nt f) n g) := by
  obtain ⟨d, rfl⟩ : ∃ e, d = e + 1 := ⟨d - 1, by omega⟩
  rw [eX0_actAlone]
  have hok1 : g_ok (wS nt f n g) := hok
  refine KS.b (Nat.le_refl _) (Nat.le_refl _) (R P hp H O K sb C V lm lv ct x g d (by omega) hf h hc hok1) (fun V1 C1 lm1 lv1 ct1 x1 q1 v1 c1 l1 f1 t1 => ?_)
  rw [← v1]
  have q2 : Y2 nt N P hp H O K (200 - f) (sb + 1) C1 none V1 lm1 lv1 ct1 x1 (s_L ((g_L (wS nt f n g)).take (g_nx g)) (wS nt f n g)) := q1
  refine KS.ret (q2.nx (fun h1 => ?_)) (yo4_w ((yfr.rf _ _ x1).w _ rfl)) (fun w => ⟨w, yT.rf rfl rfl rfl⟩)
  have h0 : x.1 0 29 = 0 := t1 h1
  exact ⟨(h.ex h0).2.2.2.1.1, (h.ex h0).2.2.2.1.2.1⟩
theorem k_s60 {d : Nat} (hd : 254 ≤ d) (hT : wTb nt N M res par) (hA : wA nt N 40 n) (hk : nK nt n = 60) (hf : f + 1 ≤ 200) (hq : w_q g = false) (hK : K ≤ 200 - (f + 1)) (hs : sb + 1 ≤ 2000000000) (h : Y2 nt N P hp H O K (200 - f) sb C none V lm lv ct x g) (hok : g_ok (w_bd nt (wV nt 40) (wS nt f) n g)) :
    KS nt N P hp H O K (200 - (f + 1)) (sb + 1) (g_nl g) (z_skl V) C ct g (rX0_act d (200, [some (.ref 0), some (.int n), some (.int (nA nt n)), some (.int (nB nt n)), none, none, none], [], x)) x lm lv (w_bd nt (wV nt 40) (wS nt f) n g) := by
  have e : w_bd nt (wV nt 40) (wS nt f) n g = wV nt 40 (nA nt n) 1 0 g := by unfold w_bd; simp only [hk]; rfl
  rw [e] at hok ⊢
  have ea := (wE_expr hT hA.1 hA.2.2 hk).mono (show 39 ≤ 40 by omega)
  rw [bX0_act_200]
  refine KS.b (Nat.le_refl _) (Nat.le_refl _) (KS.an (by omega) hT ea hq h hok) (fun V1 C1 lm1 lv1 ct1 x1 q1 v1 c1 l1 f1 t1 => ?_)
  rw [← v1]; exact KS.t506 q1 (Nat.le_succ _) hs hK hf
theorem k_s61 {d : Nat} (hd : 254 ≤ d) (hT : wTb nt N M res par) (hA : wA nt N 40 n) (hk : nK nt n = 61) (hf : f + 1 ≤ 200) (hq : w_q g = false) (hK : K ≤ 200 - (f + 1)) (hs : sb + 1 ≤ 2000000000) (h : Y2 nt N P hp H O K (200 - f) sb C none V lm lv ct x g) (hok : g_ok (w_bd nt (wV nt 40) (wS nt f) n g)) :
    KS nt N P hp H O K (200 - (f + 1)) (sb + 1) (g_nl g) (z_skl V) C ct g (rX0_act d (209, [some (.ref 0), some (.int n), some (.int (nA nt n)), some (.int (nB nt n)), none, none, none], [], x)) x lm lv (w_bd nt (wV nt 40) (wS nt f) n g) := by
  have e : w_bd nt (wV nt 40) (wS nt f) n g = s_pl (nA nt n).toNatClampNeg (g_nx (wV nt 40 (nB nt n) 0 0 g)) (w_ts (nT nt (nA nt n)) (w_tl (nT nt (nA nt n))).reverse (wV nt 40 (nB nt n) 0 0 g)) := by unfold w_bd; simp only [hk]; rfl
  rw [e] at hok ⊢
  obtain ⟨v1, v2, eb, tb, t1⟩ := wE_decl hT hA.1 hA.2.2 hk
  have eb := eb.mono (show 39 ≤ 40 by omega)
  have t8 := (hT.t v1).1
  have mb := wV_mono nt 40 (nB nt n) 0 0 g
  have sh := ((wV_sh hT 40 _ eb).2 g 0 hq (Nat.zero_le _)).1
  generalize hG : wV nt 40 (nB nt n) 0 0 g = g1 at *
  have mt : wM g1 (w_ts (nT nt (nA nt n)) (w_tl (nT nt (nA nt n))).reverse g1) := (wM.rf g1).ts _ _
  obtain ⟨p1, p2⟩ := hok.2 sh.2.1
  rw [bX0_act_209]
  have jv := KS.val (d := d) (by omega) hT eb h (by rw [hG]; exact mt.1 hok)
  rw [hG] at jv
  refine KS.b (Nat.le_refl _) (Nat.le_refl _) jv (fun V1 C1 lm1 lv1 ct1 x1 q1 v1' c1 l1 f1 m1 => ?_)
  rw [q1.nd v1, q1.T.2.2.2.1, hT.ty v1, e_takeX (by omega), mj_rI_k]
  have hx32 : x1.1 0 29 = 0 → x1.1 0 32 = nI (g_nx g1) := fun q => (q1.ex q).2.2.2.1.1
  have q2 := (q1.tk (t := nT nt (nA nt n)) t8 (fun _ => p2)).plw (v := nA nt n) (p := x1.1 0 32) (q := g_nx g1) (Nat.lt_of_lt_of_le (sp_nd_lt q1.T.2.2.2.2 v1) q1.T.2.2.2.2) v2 (fun q => ⟨hx32 q, by omega⟩)
  rw [q1.nd v1, q1.nd v1, q1.nd v1]
  have hpl : (mj_wI (mj_wI (mj_wI x1 0 32 (x1.1 0 32 + sp_pl (nI (nT nt (nA nt n))))) 0 33 (mj_max (x1.1 0 33) (x1.1 0 32 + sp_pl (nI (nT nt (nA nt n)))))) 35 (nA nt n).toNatClampNeg (x1.1 0 32)).1 35 (nA nt n).toNatClampNeg = x1.1 0 32 := by
    show upd (x1.1 35) (nA nt n).toNatClampNeg (x1.1 0 32) (nA nt n).toNatClampNeg = _; rw [pk_us]
  rw [hpl, show (mj_wI (mj_wI x1 0 32 (x1.1 0 32 + sp_pl (nI (nT nt (nA nt n))))) 0 33 (mj_max (x1.1 0 33) (x1.1 0 32 + sp_pl (nI (nT nt (nA nt n)))))).1 4 (nA nt n).toNatClampNeg = nI (nT nt (nA nt n)) by show x1.1 4 _ = _; rw [q1.T.2.2.2.1, hT.ty v1]]
  have js := KS.stn (d := d) (t := nT nt (nA nt n)) (p := x1.1 0 32) (q := g_nx g1) (F := (g_L g1 ++ (w_tl (nT nt (nA nt n))).reverse, (g_st g1).drop (w_tl (nT nt (nA nt n))).length)) (by omega) t1 t8 q2 (fun q => ⟨hx32 q, by omega⟩)
  rw [w_es_pl] at js
  rw [← v1']
  refine KS.le (KS.pre (KS.b (Nat.le_refl _) (Nat.le_refl _) js (fun V3 C3 lm3 lv3 ct3 x3 q3 v3 c3 l3 f3 m3 => ?_)) ((yo4_w (((yfr.rf _ _ x1).w _ rfl).w _ rfl)).w _ (by unfold yw2; exact Bool.or_true _)) (fun w => ⟨w, yT.rf rfl rfl rfl⟩)) mb.nl
  rw [← v3]; exact KS.t506 q3 (Nat.le_succ _) hs hK hf
theorem k_s62 {d : Nat} (hd : 6 * f + 260 ≤ d) (hT : wTb nt N M res par) (hA : wA nt N 40 n) (hk : nK nt n = 62) (hf : f + 1 ≤ 200) (R : ∀ m, wA nt N 40 m → kS nt N f m) (hC : ∀ c, c ∈ g_cx g → w_cok nt N c) (hK : K ≤ 200 - (f + 1)) (hs : sb + 1 ≤ 2000000000) (h : Y2 nt N P hp H O K (200 - f) sb C none V lm lv ct x g) (hok : g_ok (w_bd nt (wV nt 40) (wS nt f) n g)) :
    KS nt N P hp H O K (200 - (f + 1)) (sb + 1) (g_nl g) (z_skl V) C ct g (rX0_act d (250, [some (.ref 0), some (.int n), some (.int (nA nt n)), some (.int (nB nt n)), none, none, none], [], x)) x lm lv (w_bd nt (wV nt 40) (wS nt f) n g) := by
  have e : w_bd nt (wV nt 40) (wS nt f) n g = wS nt f (nB nt n) (wS nt f (nA nt n) g) := by unfold w_bd; simp only [hk]; rfl
  rw [e] at hok ⊢
  obtain ⟨sa, sb'⟩ := wE_seq hT hA.1 hA.2.2 hk
  have m1 := wS_mono nt f (nA nt n) g
  have m2 := wS_mono nt f (nB nt n) (wS nt f (nA nt n) g)
  rw [bX0_act_250]
  refine KS.b (Nat.le_refl _) (Nat.le_refl _) (R _ ⟨sa.1, sa.2.1, by have := sa.2.2; omega⟩ P hp H O K sb C V lm lv ct x g d hd (by omega) (h.sbm (Nat.le_succ _) hs) hC (m2.1 hok)) (fun V1 C1 lm1 lv1 ct1 x1 q1 v1 c1 l1 f1 mm1 => ?_)
  refine KS.b m1.nl (Nat.le_refl _) (R _ ⟨sb'.1, sb'.2.1, by have := sb'.2.2; omega⟩ P hp H O K sb C1 V1 lm1 lv1 ct1 x1 _ d hd (by omega) q1 (w_cok.wK m1.2.2.2.2.2.1 hC) hok) (fun V2 C2 lm2 lv2 ct2 x2 q2 v2 c2 l2 f2 mm2 => ?_)
  rw [← v1, ← v2]; exact KS.t506 q2 (Nat.le_refl _) hs hK hf
theorem k_s63 {d : Nat} (hd : 6 * f + 261 ≤ d) (hT : wTb nt N M res par) (hA : wA nt N 40 n) (hk : nK nt n = 63) (hf : f + 1 ≤ 200) (R : ∀ m, wA nt N 40 m → kS nt N f m) (hC : ∀ c, c ∈ g_cx g → w_cok nt N c) (hK : K ≤ 200 - (f + 1)) (hs : sb + 1 ≤ 2000000000) (h : Y2 nt N P hp H O K (200 - f) sb C none V lm lv ct x g) (hok : g_ok (w_bd nt (wV nt 40) (wS nt f) n g)) :
    KS nt N P hp H O K (200 - (f + 1)) (sb + 1) (g_nl g) (z_skl V) C ct g (rX0_act d (263, [some (.ref 0), some (.int n), some (.int (nA nt n)), some (.int (nB nt n)), none, none, none], [], x)) x lm lv (w_bd nt (wV nt 40) (wS nt f) n g) := by
  have e : w_bd nt (wV nt 40) (wS nt f) n g = w_aln (wS nt f) (nA nt n) g := by unfold w_bd; simp only [hk]; rfl
  rw [e] at hok ⊢
  have sa := wE_block hT hA.1 hA.2.2 hk
  rw [bX0_act_263]
  refine KS.b (Nat.le_refl _) (Nat.le_refl _) (KS.alone (R _ ⟨sa.1, sa.2.1, by have := sa.2.2; omega⟩) (d := d) (by omega) (by omega) (h.sbm (Nat.le_succ _) hs) hC hok) (fun V1 C1 lm1 lv1 ct1 x1 q1 v1 c1 l1 f1 mm1 => ?_)
  rw [← v1]; exact KS.t506 q1 (Nat.le_refl _) hs hK hf
end
