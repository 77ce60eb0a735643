/-! CodeWriter: statements: returns, all of it -/
theorem nI_le0 {a : Nat} (h : a < 2147483648) : (nI a ≤ 0) ↔ a = 0 := by
  constructor
  · intro q
    refine Decidable.byContradiction fun z => ?_
    have : ¬ nI a ≤ nI 0 := nI_ge (by omega) (by omega)
    exact this q
  · intro q; rw [q]; exact Int32.le_refl _
theorem z_ch.len : ∀ {V : List wSl} {hr : Int32} {k : Nat}, z_ch hr k V → V.length ≤ k := by
  intro V
  induction V with
  | nil => intro hr k _; exact Nat.zero_le _
  | cons s r ih =>
    intro hr k h
    have := ih h.2.2
    have := h.2.1
    show r.length + 1 ≤ k
    omega
theorem w_ts_cx (t : Nat) (ty : List Nat) (g : wG) : g_cx (w_ts t ty g) = g_cx g := by
  unfold w_ts w_es
  cases hq : w_q (s_tk (w_tl t).length g) <;> rfl
theorem w_ts_al (t : Nat) (ty : List Nat) (g : wG) : g_al (w_ts t ty g) = g_al g ∧ g_ov (w_ts t ty g) = g_ov g := by
  unfold w_ts w_es
  cases hq : w_q (s_tk (w_tl t).length g) <;> exact ⟨rfl, rfl⟩
theorem w_ts_nx (t : Nat) (ty : List Nat) (g : wG) : g_nx (w_ts t ty g) = g_nx g + (w_tl t).length := by
  unfold w_ts w_es
  cases hq : w_q (s_tk (w_tl t).length g) <;> rfl
section
variable {nt : sp_NT} {N M : Nat} {P : yP} {hp : Nat} {H V : List wSl} {O : List (Int32 × List (Nat × Nat))} {K u sb : Nat} {C : Nat → Prop} {o : Option Int32} {lm lm' lm1 : Nat → Nat} {lv lv' lv1 ct ct' : Nat → Bool} {x y x1 : mj_X} {g G : wG} {res par : Nat → Int32} {f : Nat} {n : Int32}
set_option maxHeartbeats 4000000 in
/-- the ends and the return's code -/
theorem k_from96 {d t p nx0 : Nat} {keep : Bool} {a2 a4 a5 a6 : Int32} (hd : 6 * f + 262 ≤ d) (hf : f ≤ 200) (hT : wTb nt N M res par) (R : ∀ m, wA nt N 40 m → kS nt N f m) (ht : t ≤ 8) (ht1 : keep = true → 1 ≤ t) (hC : ∀ c, c ∈ g_cx g → w_cok nt N c) (hx : x.1 0 29 = 0 → w_q g = false ∧ a4 = nI nx0 ∧ nx0 ≤ 8000 ∧ (keep = false → a6 = -1) ∧ (keep = true → a6 = nI p ∧ p < 256))
    (h : Y2 nt N P hp H O K (200 - f) (sb + 1) C none V lm lv ct x g) (hok : g_ok (w_rt1 (wS nt f) t p (bif keep then g_nx g else 0) nx0 keep g)) :
    KS nt N P hp H O K (200 - f) (sb + 1) (g_nl g) (z_skl V) C ct g (rX0_leave d (96, [some (.ref 0), some (.int (-1 : Int32)), some (.int a2), some (.int (nI t)), some (.int a4), some (.int a5), some (.int a6), none, none, none, none, none, none], [], x)) x lm lv (w_rt1 (wS nt f) t p (bif keep then g_nx g else 0) nx0 keep g) := by
  have hcx : V.map (fun s => s.2.2) = g_cx g := h.2.1.1
  have hlen : (g_cx g).length = V.length := by rw [← hcx, List.length_map]
  unfold w_rt1 at hok ⊢
  rw [hlen] at hok ⊢
  generalize hab : (bif keep then g_nx g else 0) = ab at *
  have mE := wM_ends (wS_mono nt f) ab V.length g
  have mL : wM (w_ends (wS nt f) ab V.length g).1 (bif keep then w_ld t p (w_tl t) (w_ends (wS nt f) ab V.length g).1 else (w_ends (wS nt f) ab V.length g).1) := wM.cond ((wM.rf _).ld _ _ _) (wM.rf _)
  have mR : wM (bif keep then w_ld t p (w_tl t) (w_ends (wS nt f) ab V.length g).1 else (w_ends (wS nt f) ab V.length g).1) (w_rtc t (bif keep then w_ld t p (w_tl t) (w_ends (wS nt f) ab V.length g).1 else (w_ends (wS nt f) ab V.length g).1)) := (wM.rf _).em _ _ _
  have okR : g_ok (w_rtc t (bif keep then w_ld t p (w_tl t) (w_ends (wS nt f) ab V.length g).1 else (w_ends (wS nt f) ab V.length g).1)) := hok
  have okE := mL.1 (mR.1 okR)
  have mT : wM (w_ends (wS nt f) ab V.length g).1 (w_gon (w_ends (wS nt f) ab V.length g).2 (s_nx nx0 (s_al false (w_rtc t (bif keep then w_ld t p (w_tl t) (w_ends (wS nt f) ab V.length g).1 else (w_ends (wS nt f) ab V.length g).1))))) := (((mL.tr mR).s_al false).s_nx nx0).gon _
  by_cases x0 : ¬ x.1 0 29 = 0
  · obtain ⟨y, G', e1, q1, m1, n1, f1, y1⟩ := k_96M (d := d) (a2 := a2) (a3 := nI t) (a4 := a4) (a5 := a5) (a6 := a6) (by omega) h x0
    obtain ⟨V', lm', lv', ct', q2, v2, l2⟩ := q1.skip y1 (m1 _ (mE.tr mT))
    exact ⟨V', C, lm', lv', ct', y, e1, q2, v2, fun _ q => q, fun l hl => l2 l (by rw [n1]; exact hl), f1, fun w => absurd w y1⟩
  have x0 : x.1 0 29 = 0 := Decidable.not_not.mp x0
  obtain ⟨hq, h4, hnx0, hkF, hkT⟩ := hx x0
  have n32 := (h.ex x0).2.2.2.1
  have hab8 : ab ≤ 8000 := by
    rw [← hab]; cases keep
    · exact Nat.zero_le _
    · exact n32.2.1
  have hch : z_ch (x.1 0 59) K V := h.ch
  have e96 : rX0_leave d (96, [some (.ref 0), some (.int (-1 : Int32)), some (.int a2), some (.int (nI t)), some (.int a4), some (.int a5), some (.int a6), none, none, none, none, none, none], [], x) = rX0_leave d (128, [some (.ref 0), some (.int (-1 : Int32)), some (.int a2), some (.int (nI t)), some (.int a4), some (.int a5), some (.int a6), some (.int (nI ab)), some (.int (x.1 0 59)), some (.int (-1 : Int32)), some (.int (1 : Int32)), some (.int (x.1 0 59)), none], [], x) := by
    rw [bX0_leave_96]
    cases keep
    · rw [if_pos (hkF rfl), bX0_leave_110, ← hab]; rfl
    · rw [if_neg (show ¬ a6 = -1 by rw [(hkT rfl).1]; exact nI_nm1 (by have := (hkT rfl).2; omega)), bX0_leave_110, ← hab, n32.1]; rfl
  obtain ⟨C', lm', lv', ct', x', v, b10, b11, run, hCC, hl1, f1, t1, alt⟩ := k_ends (d := d) (sb := sb) (by omega) hf hT R (ab := ab) hab8 (to := -1) (a2 := a2) (a3 := nI t) (a4 := a4) (a5 := a5) (a6 := a6) (a8 := x.1 0 59) V.length hp H V C lm lv ct x g (x.1 0 59) (-1) (Nat.le_refl _) (z_at_len V).symm hch hC x0 hq h.o1 okE
  rw [e96, run]
  have nlE : g_nl g ≤ g_nl (w_ends (wS nt f) ab V.length g).1 := mE.nl
  rcases alt with ⟨z0, A, B, q1, u2, u3, u4, u5, u6, u7⟩ | ⟨z0, V', q1, u2⟩
  · have hch1 : z_ch (x.1 0 59) K (A ++ B) := hch.skl u4
    have hlen1 : A.length + B.length = V.length := by have := congrArg List.length u4; simpa [z_skl] using this
    have hto : (-1 : Int32) = z_at (A ++ B) (A.length + B.length) := by rw [hlen1, z_at_skl u4, z_at_len]
    have hA0 : A = [] → x.1 0 59 = -1 := fun q => by
      have hV0 : V.length = 0 := Decidable.byContradiction fun z => u5 z q
      have h0 : z_at V 0 = -1 := by have := z_at_len V; rw [hV0] at this; exact this
      exact hch.at0.trans h0
    have q2 : Y2 nt N P (hp + yhp A) (A.reverse ++ H) O K (200 - f) (sb + 1) C' (some (z_at B 0)) B lm' lv' ct' (mj_wI (mj_wI x' 0 59 (x.1 0 59)) 0 32 a4) (s_cx (B.map (fun s => s.2.2)) (s_nx nx0 (w_ends (wS nt f) ab V.length g).1)) :=
      (q1.set59 (v := x.1 0 59) (w := z_at B 0) rfl).nx (n := nx0) (fun _ => ⟨h4, hnx0⟩)
    have fz : yfr (yw2 P K) (p_pf P) x' (mj_wI (mj_wI x' 0 59 (x.1 0 59)) 0 32 a4) := y59w.tr y32w
    have hov : g_ov (w_ends (wS nt f) ab V.length g).1 = false := (q1.ex z0).2.2.1.1
    rw [← u3]
    generalize hE : (w_ends (wS nt f) ab V.length g).1 = E at *
    rw [bX0_leave_278]
    by_cases a0 : x'.1 0 30 = 0
    · -- nothing follows
      have hqX : w_q E = true := (q2.dead (Or.inl a0) z0).2.2
      have e1 : (bif keep then w_ld t p (w_tl t) E else E) = E := by
        cases keep
        · rfl
        · exact w_em_qq hqX
      have e2 : w_rtc t E = E := w_em_qq hqX
      have alE : g_al E = false := by
        have hq' : (!g_al E || g_ov E) = true := hqX
        rw [hov, Bool.or_false] at hq'
        cases e : g_al E
        · rfl
        · rw [e] at hq'; exact absurd hq' (by decide)
      rw [if_pos a0, e1, e2, s_al_id alE]
      obtain ⟨y, V2, e4, q4, v4, f4, y29, t4⟩ := k_goon (d := d) (A := A) (B := B) (W := s_nx nx0 E) (hr := x.1 0 59) (v := v) (to := -1) (a2 := a2) (a3 := nI t) (a4 := a4) (a5 := a5) (a6 := a6) (a7 := nI ab) (a8 := x.1 0 59) (a10 := b10) (j := B.length) q2 rfl u2 hch1 rfl (Nat.le_refl _) hto hA0 u7
      have tz : yT x' E (mj_wI (mj_wI x' 0 59 (x.1 0 59)) 0 32 a4) (s_cx (B.map (fun s => s.2.2)) (s_nx nx0 E)) := yT.rf rfl rfl rfl
      exact ⟨V2, C', lm', lv', ct', y, e4, q4, v4.trans u4, hCC, hl1, (f1.tr fz).tr f4, fun w => ⟨x0, ((t1 z0).tr tz).tr t4⟩⟩
    rw [if_neg a0, if_pos rfl]
    -- from the code on
    have fin : ∀ (lm3 : Nat → Nat) (lv3 ct3 : Nat → Bool) (x3 : mj_X) (E1 : wG), Y2 nt N P (hp + yhp A) (A.reverse ++ H) O K (200 - f) (sb + 1) C' (some (z_at B 0)) B lm3 lv3 ct3 x3 (s_cx (B.map (fun s => s.2.2)) (s_nx nx0 E1)) → g_cx E1 = g_cx E → x3.1 0 59 = x.1 0 59 → (∀ l, l < g_nl E → lm3 l = lm' l ∧ lv3 l = lv' l ∧ ct3 l = ct' l) → g_nl E ≤ g_nl E1 → yfr (yw2 P K) (p_pf P) x' x3 → (x3.1 0 29 = 0 → yT x' E x3 E1) →
        KS nt N P hp H O K (200 - f) (sb + 1) (g_nl g) (z_skl V) C ct g (rX0_leave d (341, [some (.ref 0), some (.int (-1 : Int32)), some (.int a2), some (.int (nI t)), some (.int a4), some (.int a5), some (.int a6), some (.int (nI ab)), some (.int (x.1 0 59)), some (.int v), some (.int b10), some (.int b11), none], [], x3)) x lm lv (w_gon A.length (s_nx nx0 (s_al false (w_rtc t E1)))) := by
      intro lm3 lv3 ct3 x3 E1 q3 cxE x59 l3 nE f3 t3
      obtain ⟨lm4, lv4, ct4, y, V2, e4, q4, v4, l4, f4, t4⟩ := k_341 (d := d) (t := t) (v := v) (a2 := a2) (a4 := a4) (a5 := a5) (a6 := a6) (a7 := nI ab) (a10 := b10) (a11 := b11) (j := B.length) (by omega) ht q3 (cxE.trans u2) hch1 x59 (Nat.le_refl _) hto hA0 u7
      refine ⟨V2, C', lm4, lv4, ct4, y, e4, q4, v4.trans u4, hCC, fun l hl => ?_, (f1.tr f3).tr f4, fun w => ⟨x0, ?_⟩⟩
      · have a := l4 l (by omega)
        have b := l3 l (by omega)
        have c := hl1 l hl
        exact ⟨a.1.trans (b.1.trans c.1), a.2.1.trans (b.2.1.trans c.2.1), a.2.2.trans (b.2.2.trans c.2.2)⟩
      · obtain ⟨w1, w2⟩ := t4 w
        exact ((t1 z0).tr (t3 w1)).tr w2
    cases keep
    · rw [if_pos (hkF rfl)]
      exact fin lm' lv' ct' _ E q2 rfl rfl (fun _ _ => ⟨rfl, rfl, rfl⟩) (Nat.le_refl _) fz (fun _ => yT.rf rfl rfl rfl)
    · obtain ⟨k1, k2⟩ := hkT rfl
      have zz0 : (mj_wI (mj_wI x' 0 59 (x.1 0 59)) 0 32 a4).1 0 29 = 0 := z0
      obtain ⟨lm3, lv3, ct3, x3, e3, q3, l3, f3, t3⟩ := Y2.kj (b := 45500) (G := w_ld t p (w_tl t) (s_cx (B.map (fun s => s.2.2)) (s_nx nx0 E))) ((wM.rf _).ld _ _ _) q2 zz0 (c_ld (d := d) (n := g_nl (s_cx (B.map (fun s => s.2.2)) (s_nx nx0 E))) (t := t) (p := p) (on := w_tl t) (by omega) (ht1 rfl) ht k2 (q2.vx (b := 45500) zz0 (by omega) (by omega))) (by omega) (wU_em _ _ _)
      have eld : w_ld t p (w_tl t) (s_cx (B.map (fun s => s.2.2)) (s_nx nx0 E)) = s_cx (B.map (fun s => s.2.2)) (s_nx nx0 (w_ld t p (w_tl t) E)) := w_em_ph
      rw [eld] at q3 t3
      rw [if_neg (show ¬ a6 = -1 by rw [k1]; exact nI_nm1 (by omega))]
      rw [k1] at fin ⊢
      rw [e3, mj_rV_k]
      refine fin lm3 lv3 ct3 x3 (w_ld t p (w_tl t) E) q3 ((wU_em (2, t, p, 0, []) 0 (w_tl t) (g := E)).2.2.2.2.1) ((yU.of f3).1 59 rfl) l3 ((wM.rf E).ld _ _ _).nl (fz.tr f3.up) (fun z => ?_)
      have a : yT x' E (mj_wI (mj_wI x' 0 59 (x.1 0 59)) 0 32 a4) (s_cx (B.map (fun s => s.2.2)) (s_nx nx0 E)) := yT.rf rfl rfl rfl
      have b : yT x3 (s_cx (B.map (fun s => s.2.2)) (s_nx nx0 (w_ld t p (w_tl t) E))) x3 (w_ld t p (w_tl t) E) := yT.rf rfl rfl rfl
      exact (a.tr (t3 z)).tr b
  · obtain ⟨y, G', e2, q2, m2, n2', f2, y2⟩ := k_278M (d := d) (a2 := a2) (a3 := nI t) (a4 := a4) (a5 := a5) (a6 := a6) (a7 := nI ab) (a8 := x.1 0 59) (a9 := v) (a10 := b10) (a11 := b11) (by omega) q1 z0
    obtain ⟨V3, lm3, lv3, ct3, q3, v3, l3⟩ := q2.skip y2 (m2 _ mT)
    refine ⟨V3, C', lm3, lv3, ct3, y, e2, q3, v3.trans u2, hCC, fun l hl => ?_, f1.tr f2, fun w => absurd w y2⟩
    have a := l3 l (by omega)
    have b := hl1 l hl
    exact ⟨a.1.trans b.1, a.2.1.trans b.2.1, a.2.2.trans b.2.2⟩
set_option maxHeartbeats 4000000 in
theorem k_lret {d t : Nat} (hd : 6 * f + 263 ≤ d) (hf : f ≤ 200) (hT : wTb nt N M res par) (R : ∀ m, wA nt N 40 m → kS nt N f m) (ht : t ≤ 8) (hC : ∀ c, c ∈ g_cx g → w_cok nt N c) (hq : x.1 0 29 = 0 → w_q g = false) (h : Y2 nt N P hp H O K (200 - f) (sb + 1) C none V lm lv ct x g) {keep : Bool} (hk : keep = (!decide (t = 0) && (g_cx g).any (fun c => Nat.ble 3 c.1)))
    {g1 : wG} (hg1 : g1 = bif keep then w_ts t (w_tl t).reverse g else g) (hok : g_ok (w_rt1 (wS nt f) t (g_nx g) (bif keep then g_nx g1 else 0) (g_nx g) keep g1)) :
    KS nt N P hp H O K (200 - f) (sb + 1) (g_nl g) (z_skl V) C ct g (kX0 d 81 [.ref 0, .int (-1 : Int32), .int (0 : Int32), .int (nI t)] x) x lm lv (w_rt1 (wS nt f) t (g_nx g) (bif keep then g_nx g1 else 0) (g_nx g) keep g1) := by
  obtain ⟨d, rfl⟩ : ∃ e, d = e + 1 := ⟨d - 1, by omega⟩
  have hcx : V.map (fun s => s.2.2) = g_cx g := h.2.1.1
  have hch : z_ch (x.1 0 59) K V := h.ch
  have hK200 : K ≤ 200 := by have := h.2.1.2.2.1; omega
  rw [eX0_leave]
  have e15 : rX0_leave d (15, [some (.ref 0), some (.int (-1 : Int32)), some (.int (0 : Int32)), some (.int (nI t)), some (.int (x.1 0 32)), some (.int (0 : Int32)), some (.int (x.1 0 59)), none, none, none, none, none, none], [], x) = rX0_leave d (15, [some (.ref 0), some (.int (-1 : Int32)), some (.int (0 : Int32)), some (.int (nI t)), some (.int (x.1 0 32)), some (.int (nI (0 + y_ends V.length V))), some (.int (-1 : Int32)), none, none, none, none, none, none], [], x) :=
    k_cnt (K := K) (by omega) V.length V (x.1 0 59) K 0 (Nat.le_refl _) (z_at_len V).symm hch (Nat.le_refl _) h.cxs
  rw [e15, bX0_leave_15, if_pos rfl, if_pos rfl, Nat.zero_add]
  have hVl : V.length < 2147483648 := by have := hch.len; omega
  have hen : y_ends V.length V < 2147483648 := Nat.lt_of_le_of_lt (y_ends_le _ _) hVl
  have hany : (g_cx g).any (fun c => Nat.ble 3 c.1) = decide (0 < y_ends V.length V) := by rw [← hcx]; exact y_ends_any V
  rw [hany] at hk
  have hx : x.1 0 29 = 0 → x.1 0 32 = nI (g_nx g) ∧ g_nx g ≤ 8000 := fun z => ⟨(h.ex z).2.2.2.1.1, (h.ex z).2.2.2.1.2.1⟩
  have noKeep : keep = false → KS nt N P hp H O K (200 - f) (sb + 1) (g_nl g) (z_skl V) C ct g (rX0_leave d (96, [some (.ref 0), some (.int (-1 : Int32)), some (.int (0 : Int32)), some (.int (nI t)), some (.int (x.1 0 32)), some (.int (nI (y_ends V.length V))), some (.int (-1 : Int32)), none, none, none, none, none, none], [], x)) x lm lv (w_rt1 (wS nt f) t (g_nx g) (bif keep then g_nx g1 else 0) (g_nx g) keep g1) := by
    intro hkk
    subst hkk
    have hg1 : g1 = g := hg1
    subst hg1
    exact k_from96 (keep := false) (by omega) hf hT R ht (fun q => (by cases q)) hC (fun z => ⟨hq z, (hx z).1, (hx z).2, fun _ => rfl, fun q => (by cases q)⟩) h hok
  by_cases t0 : t = 0
  · rw [if_pos ((nI_le0 (by omega)).mpr t0)]
    exact noKeep (by rw [hk, decide_eq_true t0]; rfl)
  rw [if_neg (fun z => t0 ((nI_le0 (by omega)).mp z))]
  by_cases e0 : y_ends V.length V = 0
  · rw [if_pos ((nI_le0 hen).mpr e0)]
    exact noKeep (by rw [hk, decide_eq_false (show ¬ 0 < y_ends V.length V by omega), Bool.and_false])
  rw [if_neg (fun z => e0 ((nI_le0 hen).mp z))]
  have hkk : keep = true := by rw [hk, decide_eq_false t0, decide_eq_true (show 0 < y_ends V.length V by omega)]; rfl
  subst hkk
  have hg1 : g1 = w_ts t (w_tl t).reverse g := hg1
  rw [e_takeX (by omega), mj_rI_k]
  have mt : wM g g1 := by rw [hg1]; exact (wM.rf g).ts _ _
  have mT2 : wM g1 (w_rt1 (wS nt f) t (g_nx g) (bif true then g_nx g1 else 0) (g_nx g) true g1) := by
    unfold w_rt1
    exact (((((wM_ends (wS_mono nt f) _ _ g1).tr (wM.cond ((wM.rf _).ld _ _ _) (wM.rf _))).tr ((wM.rf _).em _ _ _)).s_al false).s_nx _).gon _
  have ok1 : g_ok g1 := mT2.1 hok
  have h250 : x.1 0 29 = 0 → g_nx g < 250 := fun z => by
    rw [hg1] at ok1
    exact (ok1.2 (hq z)).2
  have q2 := h.tk (t := t) ht h250
  have f2 : yfr (yw2 P K) (p_pf P) x (mj_wI (mj_wI x 0 32 (x.1 0 32 + sp_pl (nI t))) 0 33 (mj_max (x.1 0 33) (x.1 0 32 + sp_pl (nI t)))) := yo4_w (((yfr.rf _ _ x).w _ rfl).w _ rfl)
  have js := KS.stn (d := d) (t := t) (p := x.1 0 32) (q := g_nx g) (F := (g_L g ++ (w_tl t).reverse, (g_st g).drop (w_tl t).length)) (by omega) (by omega) ht q2 (fun z => ⟨(hx z).1, by have := h250 z; omega⟩)
  have js : KS nt N P hp H O K (200 - f) (sb + 1) (g_nl g) (z_skl V) C ct g (kX0 d 39 [.ref 0, .int (nI t), .int (x.1 0 32)] (mj_wI (mj_wI x 0 32 (x.1 0 32 + sp_pl (nI t))) 0 33 (mj_max (x.1 0 33) (x.1 0 32 + sp_pl (nI t))))) x lm lv g1 := by
    have j2 : KS nt N P hp H O K (200 - f) (sb + 1) (g_nl g) (z_skl V) C ct (s_tk (w_tl t).length g) (kX0 d 39 [.ref 0, .int (nI t), .int (x.1 0 32)] (mj_wI (mj_wI x 0 32 (x.1 0 32 + sp_pl (nI t))) 0 33 (mj_max (x.1 0 33) (x.1 0 32 + sp_pl (nI t))))) (mj_wI (mj_wI x 0 32 (x.1 0 32 + sp_pl (nI t))) 0 33 (mj_max (x.1 0 33) (x.1 0 32 + sp_pl (nI t)))) lm lv g1 := by
      obtain ⟨V1, C1, lm1, lv1, ct1, x1, e1, q1, r1⟩ := js
      exact ⟨V1, C1, lm1, lv1, ct1, x1, e1, by rw [hg1]; exact q1, by rw [hg1]; exact r1⟩
    exact j2.pre f2 (fun w => ⟨w, yT.rf rfl rfl rfl⟩)
  refine KS.b (Nat.le_refl _) (Nat.le_refl _) js (fun V1 C1 lm1 lv1 ct1 x1 q1 v1 c1 l1 f1 m1 => ?_)
  rw [← v1]
  have nlg : g_nl g ≤ g_nl g1 := mt.nl
  refine (k_from96 (p := g_nx g) (nx0 := g_nx g) (keep := true) (by omega) hf hT R ht (fun _ => by omega) (by rw [hg1, w_ts_cx]; exact hC) (fun z => ⟨?_, (hx (m1 z)).1, (hx (m1 z)).2, fun q => (by cases q), fun _ => ⟨(hx (m1 z)).1, by have := h250 (m1 z); omega⟩⟩) q1 hok).le nlg
  have := hq (m1 z)
  rw [hg1]
  obtain ⟨a1, a2⟩ := w_ts_al t (w_tl t).reverse g
  unfold w_q; rw [a1, a2]; exact this
theorem k_s73 {d : Nat} (hd : 6 * f + 263 ≤ d) (hT : wTb nt N M res par) (hA : wA nt N 40 n) (hk : nK nt n = 73) (hf : f + 1 ≤ 200) (hq : w_q g = false) (R : ∀ m, wA nt N 40 m → kS nt N f m) (hC : ∀ c, c ∈ g_cx g → w_cok nt N c) (hK : K ≤ 200 - (f + 1)) (hs : sb + 1 ≤ 2000000000) (h : Y2 nt N P hp H O K (200 - f) sb C none V lm lv ct x g) (hok : g_ok (w_bd nt (wV nt 40) (wS nt f) n g)) :
    KS nt N P hp H O K (200 - (f + 1)) (sb + 1) (g_nl g) (z_skl V) C ct g (rX0_act d (418, [some (.ref 0), some (.int n), some (.int (nA nt n)), some (.int (nB nt n)), none, none, none], [], x)) x lm lv (w_bd nt (wV nt 40) (wS nt f) n g) := by
  have e : w_bd nt (wV nt 40) (wS nt f) n g = w_ret nt (wV nt 40) (wS nt f) (nA nt n) g := by unfold w_bd; simp only [hk]; rfl
  rw [e] at hok ⊢
  have h' := h.sbm (Nat.le_succ sb) hs
  rw [bX0_act_418]
  rcases wE_ret hT hA.1 hA.2.2 hk with ha | ⟨ea, t1, t8⟩
  · rw [ha] at hok ⊢
    rw [if_pos rfl, bX0_act_429, if_pos rfl]
    exact KS.wrap rfl (k_lret (t := 0) (keep := false) (g1 := g) hd (by omega) hT R (by omega) hC (fun _ => hq) h' rfl rfl hok) hs hK hf
  · have ea := ea.mono (show 39 ≤ 40 by omega)
    have hne : ¬ nA nt n = -1 := nd_n1 ea.1
    have mv := wV_mono nt 40 (nA nt n) 0 0 g
    have sh := ((wV_sh hT 40 _ ea).2 g 0 hq (Nat.zero_le _)).1
    have eR : w_ret nt (wV nt 40) (wS nt f) (nA nt n) g = w_rt1 (wS nt f) (nT nt (nA nt n)) (g_nx (wV nt 40 (nA nt n) 0 0 g)) (bif (!decide (nA nt n = -1) && (g_cx (wV nt 40 (nA nt n) 0 0 g)).any (fun c => Nat.ble 3 c.1)) then g_nx (bif (!decide (nA nt n = -1) && (g_cx (wV nt 40 (nA nt n) 0 0 g)).any (fun c => Nat.ble 3 c.1)) then w_ts (nT nt (nA nt n)) (w_tl (nT nt (nA nt n))).reverse (wV nt 40 (nA nt n) 0 0 g) else wV nt 40 (nA nt n) 0 0 g) else 0) (g_nx (wV nt 40 (nA nt n) 0 0 g)) (!decide (nA nt n = -1) && (g_cx (wV nt 40 (nA nt n) 0 0 g)).any (fun c => Nat.ble 3 c.1)) (bif (!decide (nA nt n = -1) && (g_cx (wV nt 40 (nA nt n) 0 0 g)).any (fun c => Nat.ble 3 c.1)) then w_ts (nT nt (nA nt n)) (w_tl (nT nt (nA nt n))).reverse (wV nt 40 (nA nt n) 0 0 g) else wV nt 40 (nA nt n) 0 0 g) := by
      unfold w_ret w_rt1 w_rtc
      simp only [if_neg hne, if_neg (show ¬ nT nt (nA nt n) = 0 by omega)]
    rw [eR] at hok ⊢
    clear eR
    have hkb : (!decide (nA nt n = -1)) = !decide (nT nt (nA nt n) = 0) := by rw [decide_eq_false hne, decide_eq_false (show ¬ nT nt (nA nt n) = 0 by omega)]
    rw [hkb] at hok ⊢
    have okv : g_ok (wV nt 40 (nA nt n) 0 0 g) := by
      have m1 : wM (wV nt 40 (nA nt n) 0 0 g) (bif (!decide (nT nt (nA nt n) = 0) && (g_cx (wV nt 40 (nA nt n) 0 0 g)).any (fun c => Nat.ble 3 c.1)) then w_ts (nT nt (nA nt n)) (w_tl (nT nt (nA nt n))).reverse (wV nt 40 (nA nt n) 0 0 g) else wV nt 40 (nA nt n) 0 0 g) := wM.cond ((wM.rf _).ts _ _) (wM.rf _)
      refine m1.1 ?_
      generalize (bif (!decide (nT nt (nA nt n) = 0) && (g_cx (wV nt 40 (nA nt n) 0 0 g)).any (fun c => Nat.ble 3 c.1)) then w_ts (nT nt (nA nt n)) (w_tl (nT nt (nA nt n))).reverse (wV nt 40 (nA nt n) 0 0 g) else wV nt 40 (nA nt n) 0 0 g) = g1 at *
      have mT2 : ∀ t p ab nx0 keep, wM g1 (w_rt1 (wS nt f) t p ab nx0 keep g1) := fun t p ab nx0 keep => by
        unfold w_rt1
        exact (((((wM_ends (wS_mono nt f) _ _ g1).tr (wM.cond ((wM.rf _).ld _ _ _) (wM.rf _))).tr ((wM.rf _).em _ _ _)).s_al false).s_nx _).gon _
      exact (mT2 _ _ _ _ _).1 hok
    have jv := KS.val (d := d) (by omega) hT ea h' okv
    rw [if_neg hne]
    generalize hgv : wV nt 40 (nA nt n) 0 0 g = gv at *
    refine KS.b (Nat.le_refl _) (Nat.le_refl _) jv (fun V1 C1 lm1 lv1 ct1 x1 q1 v1 c1 l1 f1 m1 => ?_)
    rw [bX0_act_429, if_neg hne, q1.nd ea.1, q1.T.2.2.2.1, hT.ty ea.1, ← v1]
    exact (KS.wrap rfl (k_lret (t := nT nt (nA nt n)) hd (by omega) hT R t8 (by rw [sh.1.1.2.2.2.2.2.1]; exact hC) (fun _ => sh.2.1) q1 rfl rfl hok) hs hK hf).le mv.nl
end
