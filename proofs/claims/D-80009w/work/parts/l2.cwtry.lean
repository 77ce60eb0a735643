/-! CodeWriter: statements: what is guarded, handlers -/
section
variable {nt : sp_NT} {N M : Nat} {P : yP} {hp : Nat} {H V : List wSl} {O : List (Int32 × List (Nat × Nat))} {K u sb : Nat} {C : Nat → Prop} {o : Option Int32} {lm lm' lm1 : Nat → Nat} {lv lv' lv1 ct ct' : Nat → Bool} {x y x1 : mj_X} {g G : wG} {res par : Nat → Int32} {f : Nat} {n : Int32}
theorem yw2_52 {P : yP} {K : Nat} : yw2 P (K + 1) 52 K = false := by
  have nb : Nat.ble (K + 1) K = false := by rw [← Bool.not_eq_true, Nat.ble_eq]; omega
  show (false || Nat.ble (K + 1) K) = false
  rw [nb]; rfl
/-- the guarded part is written, its last piece is cut, its context is shut -/
theorem k_guard {d sort : Nat} {node hr a : Int32} {g1 : wG} (hd : 6 * f + 261 ≤ d) (hf : f ≤ 200) (h2 : 2 ≤ sort) (sa : wA nt N 40 a) (hnode : w_cok nt N (sort, node, 0, 0, g_nx g1, (g_it g1).length, [])) (R : ∀ m, wA nt N 40 m → kS nt N f m) (hC : ∀ c, c ∈ g_cx g1 → w_cok nt N c)
    (q2 : Y2 nt N P hp H O (K + 1) (200 - f) (sb + 1) C none ((K, hr, (sort, node, 0, 0, g_nx g1, (g_it g1).length, [])) :: V) lm lv ct y (w_ctx sort node 0 0 g1)) (hok : g_ok (w_aln (wS nt f) a (w_ctx sort node 0 0 g1))) :
    ∃ V1 C1 lm1 lv1 ct1 x7 c0 r0, (∀ kk : mj_X → mj_R, (mj_rV (kX0 d 75 [.ref 0, .int a] y) fun x5 => mj_rV (kX0 d 82 [.ref 0, .int (nI K)] x5) fun x6 => mj_rV (kX0 d 79 [.ref 0, .int (nI K)] x6) kk) = kk x7)
    ∧ g_cx (w_aln (wS nt f) a (w_ctx sort node 0 0 g1)) = c0 :: r0 ∧ wCs c0 = (sort, node, 0, 0, g_nx g1) ∧ wK (g_cx g1) r0
    ∧ Y2 nt N P (hp + (c_ps (w_pc (g_it (w_aln (wS nt f) a (w_ctx sort node 0 0 g1))).length c0)).length) H ((y.1 52 K, c_ps (w_pc (g_it (w_aln (wS nt f) a (w_ctx sort node 0 0 g1))).length c0)) :: O) K (200 - f) (sb + 1) C1 none V1 lm1 lv1 ct1 x7 (w_shut (w_aln (wS nt f) a (w_ctx sort node 0 0 g1)))
    ∧ z_skl V1 = z_skl V ∧ (∀ k, C k → C1 k) ∧ (∀ l, l < g_nl g1 → lm1 l = lm l ∧ lv1 l = lv l ∧ ct1 l = ct l) ∧ yfr (yw2 P K) (p_pf P) y x7 ∧ (x7.1 0 29 = 0 → y.1 0 29 = 0 ∧ yT y (w_ctx sort node 0 0 g1) x7 (w_shut (w_aln (wS nt f) a (w_ctx sort node 0 0 g1)))) := by
  have ck : ∀ c, c ∈ g_cx (w_ctx sort node 0 0 g1) → w_cok nt N c := by
    intro c hc
    rcases List.mem_cons.mp hc with rfl | hc
    · unfold w_cok at *; exact hnode
    · exact hC c hc
  have m2 : wM (w_ctx sort node 0 0 g1) (w_aln (wS nt f) a (w_ctx sort node 0 0 g1)) := (wM.rf _).aln (wS_mono nt f) _
  obtain ⟨-, dd, r, hcx, hwk, hwr⟩ := wM.in_ (g := g1) (c := (sort, node, 0, 0, g_nx g1, (g_it g1).length, [])) m2
  obtain ⟨V3, C3, lm3, lv3, ct3, x5, e5, q5, v5, c5, l5, f5, t5⟩ := KS.alone (R _ sa) (d := d) hd hf q2 ck hok
  generalize hG : w_aln (wS nt f) a (w_ctx sort node 0 0 g1) = G at *
  have vs : z_skl V3 = (K, hr) :: z_skl V := v5
  cases V3 with
  | nil => simp [z_skl] at vs
  | cons s V3 =>
    have w1 : (s.1, s.2.1) = (K, hr) := by injection vs
    have w2 : z_skl V3 = z_skl V := by injection vs
    have w3 : s.1 = K := by have := congrArg (fun q : Nat × Int32 => q.1) w1; exact this
    have hc := q5.2.1.1
    rw [hcx] at hc
    have hd0 : s.2.2 = dd := by injection hc
    have hsort : s.2.2.1 = sort := by rw [hd0]; have := congrArg Prod.fst hwk.1; exact this
    have hch := q5.ch
    have hne := q5.ne
    have hlo : ∀ t, t ∈ H → t.1 < K + 1 := fun t ht => (q5.low (s := t) (List.mem_append.mpr (Or.inl ht))).1
    have hK2 : K < 2000 := by have := q5.2.1.2.2.1; have := q5.2.1.2.2.2.1; omega
    obtain ⟨x6, e6, q6, f6, m6⟩ := Y2.cut_ (d := d) (by omega) q5 (by rw [hsort]; exact h2)
    have h51 : x6.1 51 K = s.2.1 := by have := (q6.sk (s := (s.1, s.2.1, w_pc (g_it G).length s.2.2)) (by simp)).2.1; rw [← w3]; exact this
    have q7 := q6.shutH (s := (s.1, s.2.1, w_pc (g_it G).length s.2.2)) (fun t ht => by
      have := hne t (List.mem_append.mpr (Or.inl ht))
      have := hlo t ht
      show t.1 < s.1; omega) hch.2.2
    have h52 : x6.1 52 s.1 = y.1 52 K := by rw [f6.1 52 s.1 rfl, w3]; exact f5.1 52 K yw2_52
    have q7 : Y2 nt N P (hp + (c_ps (w_pc (g_it G).length dd)).length) H ((y.1 52 K, c_ps (w_pc (g_it G).length dd)) :: O) K (200 - f) (sb + 1) C3 none V3 lm3 lv3 ct3 (mj_wI (mj_wI x6 0 59 s.2.1) 0 58 (nI K)) (w_shut G) := by
      rw [← h52, ← hd0, ← w3]; exact q7
    have fsh : yfr (yw2 P K) (p_pf P) x6 (mj_wI (mj_wI x6 0 59 s.2.1) 0 58 (nI K)) := ((yfr.rf _ _ x6).w _ rfl).w _ rfl
    refine ⟨V3, C3, lm3, lv3, ct3, _, dd, r, fun kk => ?_, hcx, hwk.1, hwr, q7, w2, c5, l5, ((f5.low (Nat.le_succ K)).tr (yc_w f6)).tr fsh, fun w => ?_⟩
    · rw [e5, mj_rV_k]
      rw [w3] at e6
      rw [e6, mj_rV_k, e_shutX (by omega) hK2, mj_rV_k, h51]
    · have w6 : x5.1 0 29 = 0 := m6 w
      obtain ⟨a1, a2⟩ := t5 w6
      have b1 : yT x5 G x6 (w_shut G) := yT.rf rfl (f6.1 0 48 rfl) (f6.1 0 47 rfl)
      have b2 : yT x6 (w_shut G) (mj_wI (mj_wI x6 0 59 s.2.1) 0 58 (nI K)) (w_shut G) := yT.rf rfl rfl rfl
      exact ⟨a1, (a2.tr b1).tr b2⟩
/-- when it was much, S may stay where it was -/
theorem KS.back {k : Nat} {S : List (Nat × Int32)} {r : mj_R} {g2 : wG} (h : KS nt N P hp H O K u sb k S C ct g r x lm lv G) (h0 : ¬ x.1 0 29 = 0) (e1 : g_cx g2 = g_cx G) (e2 : g_nl g2 = g_nl G) (ho : c_over (pH P hp) g2) : KS nt N P hp H O K u sb k S C ct g r x lm lv g2 := by
  obtain ⟨V1, C1, lm1, lv1, ct1, x1, e, q, v, c, l, f, t⟩ := h
  have z0 : ¬ x1.1 0 29 = 0 := fun w => h0 (t w).1
  exact ⟨V1, C1, lm1, lv1, ct1, x1, e, q.cxM z0 (q.2.1.1.trans e1.symm) rfl e2 ho, v, c, l, f, fun w => absurd w z0⟩
theorem Y2.toM {g2 : wG} (h : Y2 nt N P hp H O K u sb C o V lm lv ct x g) (h0 : ¬ x.1 0 29 = 0) (e1 : g_cx g2 = g_cx g) (e2 : g_nl g2 = g_nl g) (ho : c_over (pH P hp) g2) : Y2 nt N P hp H O K u sb C o V lm lv ct x g2 := h.cxM h0 (h.2.1.1.trans e1.symm) rfl e2 ho
/-- another number of pieces put aside, when it was much -/
theorem Y2.hpM {hp2 : Nat} (h : Y2 nt N P hp H O K u sb C o V lm lv ct x g) (h0 : ¬ x.1 0 29 = 0) (ho : c_over (pH P hp2) g) : Y2 nt N P hp2 H O K u sb C o V lm lv ct x g := by
  obtain ⟨he, hS, hC, hX⟩ := h
  rcases hX with ⟨w, -⟩ | ⟨-, m1, m2, -⟩
  · exact absurd w h0
  · exact ⟨he, hS, hC, Or.inr ⟨h0, m1, m2, ho⟩⟩
theorem w_go_nl (l : Nat) (g : wG) : g_nl (w_go l g) = g_nl g := by
  unfold w_go
  cases hq : w_q g
  · unfold w_em w_es; rw [hq]; rfl
  · rfl
/-- a handler, when it was much -/
theorem k_handM {d : Nat} {q v : Int32} (hd : 6 ≤ d) (hT : wTb nt N M res par) (nq : sp_nd N q = true) (dq : nD nt q ≤ 40) (kq : nK nt q = 77 ∨ nK nt q = 78) {ps : List (Nat × Nat)} (h0 : ¬ x.1 0 29 = 0) (hG : g_ok G) (h : Y2 nt N P hp H ((v, ps) :: O) K u sb C none V lm lv ct x G) :
    KS nt N P hp H ((v, ps) :: O) K u sb (g_nl G) (z_skl V) C ct G (kX0 d 89 [.ref 0, .int q, .int v] x) x lm lv G := by
  obtain ⟨d, rfl⟩ : ∃ e, d = e + 1 := ⟨d - 1, by omega⟩
  have ho := (h.mc h0).2.2
  -- the statement, and the end
  have tail : ∀ (cl a3 a5 : Int32) (z : mj_X) (V2 : List wSl) (lm2 : Nat → Nat) (lv2 ct2 : Nat → Bool) (C2 : Nat → Prop), sp_nd N cl = true → ¬ z.1 0 29 = 0 → Y2 nt N P hp H ((v, ps) :: O) K u sb C2 none V2 lm2 lv2 ct2 z G → KS nt N P hp H ((v, ps) :: O) K u sb (g_nl G) (z_skl V2) C2 ct2 G (rX0_handler d (112, [some (.ref 0), some (.int q), some (.int v), some (.int a3), some (.int cl), some (.int a5)], [], z)) z lm2 lv2 G := by
    intro cl a3 a5 z V2 lm2 lv2 ct2 C2 ncl z0 qz
    rw [bX0_handler_112, qz.nd ncl, k_aloneM (by omega) z0, mj_rV_k]
    have q1 := (qz.nxM (v := z.1 0 32) z0).nxM (v := a5) z0
    exact KS.ret q1 (y32w.tr y32w) (fun w => absurd w z0)
  have e31 : ∀ (a3 cl : Int32), sp_nd N cl = true → (¬ a3 = 0 → nK nt q = 78) → KS nt N P hp H ((v, ps) :: O) K u sb (g_nl G) (z_skl V) C ct G (rX0_handler d (31, [some (.ref 0), some (.int q), some (.int v), some (.int a3), none, none], [.int cl], x)) x lm lv G := by
    intro a3 cl ncl ha3
    rw [bX0_handler_31, h.nd ncl]
    have qa : Y2 nt N P hp H ((v, ps) :: O) K u sb C none V lm lv ct (mj_wI x 0 30 1) G := (h.al true).toM (x := mj_wI x 0 30 1) h0 rfl rfl ho
    obtain ⟨V2, lm2, lv2, ct2, y, ey, qy, vy, ly, fy, y2, ty⟩ := Y2.reg (d := d) (m0 := 0) (k := x.1 2 cl.toNatClampNeg) (ve := x.1 0 28) (by omega) (Nat.zero_le _) qa (fun z => absurd z h0)
    have y0 : ¬ y.1 0 29 = 0 := fun w => h0 (ty w)
    have qy : Y2 nt N P hp H ((v, ps) :: O) K u sb C none V2 lm2 lv2 ct2 y G := qy.toM y0 rfl rfl ho
    have fa : yfr (yw2 P K) (p_pf P) x y := ((yfr.rf _ _ x).w _ rfl).tr (yr_w fy)
    rw [ey, mj_rV_k, ← vy]
    refine KS.from (G := G) ?_ fa (fun w => absurd w y0) (fun l hl => ly l hl)
    by_cases q3 : a3 = 0
    · rw [if_pos q3, c_codeq (by omega) (Or.inr y0), mj_rV_k]
      exact tail cl a3 _ y V2 lm2 lv2 ct2 C ncl y0 qy
    · rw [if_neg q3]
      obtain ⟨w1, w2, w3, w4, w5, w6⟩ := wE_with (f := 39) hT nq dq (ha3 q3)
      have qm : Y2 nt N P hp H ((v, ps) :: O) K u sb C none V2 lm2 lv2 ct2 y (s_mu G) := qy.toM y0 rfl rfl (Or.inl (Or.inl rfl))
      have epe : w_pe 15 72 0 1 [1] (s_mu G) = s_mu G := by
        have hq : w_q (s_mu G) = true := by show (!g_al G || true) = true; rw [Bool.or_true]
        unfold w_pe; rw [hq]; rfl
      have ji := KS.inv (d := d) (s := 72) (off := 1) (v := 0) (on := [1]) (by omega) (by omega) qm (by rw [epe]; exact hG)
      rw [epe] at ji
      have ji := ji.back (g2 := G) y0 rfl rfl ho
      have ji : KS nt N P hp H ((v, ps) :: O) K u sb (g_nl G) (z_skl V2) C ct2 G (kX0 d 54 [.ref 0, .int (72 : Int32), .long 0] y) y lm2 lv2 G := by
        obtain ⟨V1, C1, lm1, lv1, ct1, x1, e, q, v, c, l, f, t⟩ := ji
        exact ⟨V1, C1, lm1, lv1, ct1, x1, e, q, v, c, l, f, fun w => absurd (t w).1 y0⟩
      refine KS.b (Nat.le_refl _) (Nat.le_refl _) ji (fun V3 C3 lm3 lv3 ct3 x3 q3 v3 c3 l3 f3 m3 => ?_)
      have z3 : ¬ x3.1 0 29 = 0 := fun w => y0 (m3 w)
      rw [q3.nd nq, e_takeX (by omega), mj_rI_k, show x3.1 2 q.toNatClampNeg = nA nt q by rw [q3.T.2.1]]
      have f4 : yfr yo4 (p_pf P) x3 (mj_wI (mj_wI x3 0 32 (x3.1 0 32 + sp_pl 1)) 0 33 (mj_max (x3.1 0 33) (x3.1 0 32 + sp_pl 1))) := ((yfr.rf _ _ x3).w _ rfl).w _ rfl
      have q4 := q3.numM z3 f4 rfl rfl rfl
      have q5 := (q4.plw (v := nA nt q) (p := x3.1 0 32) (q := 0) (Nat.lt_of_lt_of_le (sp_nd_lt q3.T.2.2.2.2 w1) q3.T.2.2.2.2) w2 (fun w => absurd w z3)).toM (g2 := G) z3 rfl rfl ho
      have e2' : (mj_wI (mj_wI x3 0 32 (x3.1 0 32 + sp_pl 1)) 0 33 (mj_max (x3.1 0 33) (x3.1 0 32 + sp_pl 1))).1 2 q.toNatClampNeg = nA nt q := by show x3.1 2 _ = _; rw [q3.T.2.1]
      have z5 : ¬ (mj_wI (mj_wI (mj_wI x3 0 32 (x3.1 0 32 + sp_pl 1)) 0 33 (mj_max (x3.1 0 33) (x3.1 0 32 + sp_pl 1))) 35 (nA nt q).toNatClampNeg (x3.1 0 32)).1 0 29 = 0 := z3
      rw [e2', q3.nd w1, q3.nd nq, q3.nd w1, c_stq (d := d) (by omega) (Or.inr z5), mj_rV_k]
      have f5 : yfr (yw2 P K) (p_pf P) x3 (mj_wI (mj_wI (mj_wI x3 0 32 (x3.1 0 32 + sp_pl 1)) 0 33 (mj_max (x3.1 0 33) (x3.1 0 32 + sp_pl 1))) 35 (nA nt q).toNatClampNeg (x3.1 0 32)) := (yo4_w f4).w _ (by unfold yw2; exact Bool.or_true _)
      rw [← v3]
      exact (tail cl a3 _ _ V3 lm3 lv3 ct3 C3 ncl z5 q5).pre f5 (fun w => absurd w z3)
  have hk : x.1 1 q.toNatClampNeg = nK nt q := by rw [h.T.1]
  rw [eX0_handler, h.nd nq, hk]
  rcases kq with k7 | k8
  · rw [k7, if_neg (by decide), bX0_handler_16, if_pos rfl]
    exact e31 0 q nq (fun w => absurd rfl w)
  · obtain ⟨w1, w2, w3, w4, w5, w6⟩ := wE_with (f := 39) hT nq dq k8
    rw [k8, if_pos rfl, bX0_handler_16, if_neg (by decide), h.nd nq, show x.1 3 q.toNatClampNeg = nB nt q by rw [h.T.2.2.1]]
    exact e31 1 _ w4 (fun _ => k8)
end
