/-! CodeWriter: statements: loops -/
section
variable {nt : sp_NT} {N M : Nat} {P : yP} {hp : Nat} {H V : List wSl} {O : List (Int32 × List (Nat × Nat))} {K u sb : Nat} {C : Nat → Prop} {o : Option Int32} {lm lm' lm1 : Nat → Nat} {lv lv' lv1 ct ct' : Nat → Bool} {x y x1 : mj_X} {g G : wG} {res par : Nat → Int32} {f : Nat} {n : Int32}
/-- its labels, its context -/
theorem k_lopen {d cc : Nat} {k : Int32} (hd : 1 ≤ d) (hcc : cc = if k = 67 then g_nl g + 2 else g_nl g + 1) (hK : K + 1 ≤ u) (hsb : sb + 1 ≤ 2000000000) (h : Y2 nt N P hp H O K u sb C none V lm lv ct x g) (h0 : x.1 0 29 = 0) (hok : g_ok (w_lbl k (g_L g, []) g)) :
    ∃ i1 i2 i3 lm3 lv3 ct3 z, (∀ kk : Int32 → Int32 → Int32 → Int32 → mj_X → mj_R, (mj_rI (kX0 d 64 [.ref 0] x) fun v2 x1 => mj_rI (kX0 d 64 [.ref 0] x1) fun v4 x3 => mj_rI (kX0 d 64 [.ref 0] x3) fun v6 x5 => mj_rI (kX0 d 78 [.ref 0, .int (0 : Int32), .int n] x5) fun v8 x7 => mj_g v8 2000 (mj_g v8 2000 (mj_rV (kX0 d 71 [.ref 0, .int v2] (mj_wI (mj_wI x7 54 v8.toNatClampNeg v6) 55 v8.toNatClampNeg v4)) fun x9 => kk v2 v4 v6 v8 x9))) = mj_rV (kX0 d 71 [.ref 0, .int (nI i1)] z) fun x9 => kk (nI i1) (nI i2) (nI i3) (nI K) x9)
    ∧ Y2 nt N P hp H O (K + 1) u (sb + 1) C none ((K, x.1 0 59, (0, 0, g_nl g, cc, g_nx (w_lbl k (g_L g, []) g), (g_it (w_lbl k (g_L g, []) g)).length, [])) :: V) lm3 lv3 ct3 z (w_ctx 0 0 (g_nl g) cc (w_lbl k (g_L g, []) g))
    ∧ lm3 (g_nl g) = i3 ∧ (k = 67 → lm3 (g_nl g + 1) = i1 ∧ lm3 (g_nl g + 2) = i2) ∧ (¬ k = 67 → lm3 (g_nl g + 1) = i2 ∧ lm3 (g_nl g + 2) = i1) ∧ (∀ l, g_nl g ≤ l → l < g_nl g + 3 → lv3 l = true ∧ ct3 l = false) ∧ (∀ l, l < g_nl g → lm3 l = lm l ∧ lv3 l = lv l ∧ ct3 l = ct l) ∧ yfr (yw2 P K) (p_pf P) x z ∧ z.1 0 29 = 0 ∧ yT x g z (w_ctx 0 0 (g_nl g) cc (w_lbl k (g_L g, []) g)) := by
  obtain ⟨i1, i2, i3, lm3, lv3, ct3, y, ey, qy, m3, m67, mo, ⟨⟨va, ca⟩, ⟨vb, cb⟩, ⟨vc, cc'⟩⟩, old, fy, y0, ty⟩ := k_lb3 (k := k) hd h h0 hok
  obtain ⟨nl, nx, it, cx⟩ := w_lbl_f k (g_L g, []) g
  generalize hG4 : w_lbl k (g_L g, []) g = G4 at *
  have fy : yfr (yw (p_pf P) (p_lf P)) (p_pf P) x y := fy
  have y58 : y.1 0 58 = nI K := qy.2.1.2.1
  have y59 : y.1 0 59 = x.1 0 59 := (yU.of fy).1 59 rfl
  have hK2 : K < 2000 := by have := h.2.1.2.2.2.1; omega
  have fz : yfr (yk K) (p_pf P) y (mj_wI (mj_wI (mj_wI (mj_wI (mj_wI (mj_wI (mj_wI (mj_wI (mj_wI (mj_wI (mj_wI y 0 58 (nI (K + 1))) 50 K 0) 53 K n) 51 K (y.1 0 59)) 56 K (y.1 0 32)) 58 K (y.1 0 28)) 0 66 (y.1 0 66 + 1)) 52 K (y.1 0 66)) 0 59 (nI K)) 54 K (nI i3)) 55 K (nI i2)) :=
    (((((((((((yfr.rf _ _ y).w _ rfl).w _ (ykk K 50 rfl)).w _ (ykk K 53 rfl)).w _ (ykk K 51 rfl)).w _ (ykk K 56 rfl)).w _ (ykk K 58 rfl)).w _ rfl).w _ (ykk K 52 rfl)).w _ rfl).w _ (ykk K 54 rfl)).w _ (ykk K 55 rfl)
  have hcl : cc < g_nl g + 3 ∧ g_nl g ≤ cc ∧ lm3 cc = i2 := by
    rw [hcc]
    by_cases q : k = 67
    · rw [if_pos q]; exact ⟨by omega, by omega, (m67 q).2⟩
    · rw [if_neg q]; exact ⟨by omega, by omega, (mo q).1⟩
  have hall : ∀ l, g_nl g ≤ l → l < g_nl g + 3 → lv3 l = true ∧ ct3 l = false := by
    intro l h1 h2
    have : l = g_nl g ∨ l = g_nl g + 1 ∨ l = g_nl g + 2 := by omega
    rcases this with rfl | rfl | rfl
    · exact ⟨va, ca⟩
    · exact ⟨vb, cb⟩
    · exact ⟨vc, cc'⟩
  refine ⟨i1, i2, i3, lm3, lv3, ct3, _, fun kk => ?_, ?_, m3, m67, mo, hall, old, fy.up.tr (yk_w fz), y0, ?_⟩
  · rw [ey (fun v2 v4 v6 x5 => mj_rI (kX0 d 78 [.ref 0, .int (0 : Int32), .int n] x5) fun v8 x7 => mj_g v8 2000 (mj_g v8 2000 (mj_rV (kX0 d 71 [.ref 0, .int v2] (mj_wI (mj_wI x7 54 v8.toNatClampNeg v6) 55 v8.toNatClampNeg v4)) fun x9 => kk v2 v4 v6 v8 x9))), e_openX hd hK2 _ _ y58, mj_rI_k, n2 hK2, n2 hK2, nI_clamp (by omega)]
  · rw [← y59]
    refine Y2.open_ (node := 0) qy fz rfl hK rfl rfl rfl ?_ (by decide) ?_ ?_ hsb (fun _ => ⟨?_, ?_, fun _ => ⟨by omega, va, ?_⟩, fun _ => ⟨by omega, (hall _ hcl.2.1 hcl.1).1, ?_⟩, fun q => by omega, fun q => by omega⟩)
    · exact pk_us
    · exact pk_us
    · exact pk_us
    · exact pk_us
    · exact pk_us
    · rw [m3]; exact pk_us
    · rw [hcl.2.2]; exact pk_us
  · exact ty.tr (yT.rf rfl rfl rfl)
theorem w_cl_ctx {e oo : Nat} {G4 G5 : wG} (hm : wM (w_ctx 0 0 e oo G4) G5) (hcl : ∀ c, c ∈ g_cx G4 → w_cl e c) : ∃ dd r, g_cx G5 = dd :: r ∧ c_ps dd = [] ∧ ∀ c, c ∈ r → w_cl e c := by
  obtain ⟨-, dd, r, hcx, hwk, hwr⟩ := wM.in_ (g := G4) (c := (0, 0, e, oo, g_nx G4, (g_it G4).length, [])) hm
  exact ⟨dd, r, hcx, hwk.2.1 (by show 0 < 2; decide), w_cl.wK hwr hcl⟩
set_option maxHeartbeats 4000000 in
theorem k_while {d : Nat} (hd : 6 * f + 263 ≤ d) (hf : f ≤ 200) {a b : Int32} (hn : sp_nd N n = true) (hkn : nK nt n = 67) (hT : wTb nt N M res par) (ea : wE nt N 40 a) (ta : nT nt a = 1) (sB : wA nt N 40 b) (x0 : x.1 0 29 = 0) (R : ∀ m, wA nt N 40 m → kS nt N f m) (hC : ∀ c, c ∈ g_cx g → w_cok nt N c) (hKu : K + 1 ≤ 200 - f) (hs : sb + 1 ≤ 2000000000) (h : Y2 nt N P hp H O K (200 - f) sb C none V lm lv ct x g)
    (hok : g_ok (w_loop nt (wV nt 40) (wS nt f) 67 a b g)) :
    KS nt N P hp H O K (200 - f) (sb + 1) (g_nl g) (z_skl V) C ct g (kX0 d 77 [.ref 0, .int n, .int a, .int b] x) x lm lv (w_loop nt (wV nt 40) (wS nt f) 67 a b g) := by
  obtain ⟨d, rfl⟩ : ∃ e, d = e + 1 := ⟨d - 1, by omega⟩
  obtain ⟨hcl, hclH⟩ := h.cl x0
  have e : w_loop nt (wV nt 40) (wS nt f) 67 a b g = w_sl false (g_nl g) (w_put (g_nl g) (w_sl false (g_nl g + 1) (w_sl false (g_nl g + 2) (w_shut (w_go (g_nl g + 1) (w_aln (wS nt f) b (wV nt 40 a 3 (g_nl g) (w_put (g_nl g + 1) (w_ctx 0 0 (g_nl g) (g_nl g + 1) (w_lbl 67 (g_L g, []) g)))))))))) := rfl
  rw [e, w_sl_comm (g_nl g + 1) (g_nl g + 2)] at hok ⊢
  clear e
  obtain ⟨nl, nx, it, cx⟩ := w_lbl_f 67 (g_L g, []) g
  have mL : wM g (w_lbl 67 (g_L g, []) g) := (wM.rf g).lbl 67 _
  have op := fun okL => k_lopen (n := n) (d := d) (cc := g_nl g + 2) (k := 67) (by omega) (by rw [if_pos rfl]) hKu hs h x0 okL
  generalize hG4 : w_lbl 67 (g_L g, []) g = G4 at *
  have okc : g_ok (w_ctx 0 0 (g_nl g) (g_nl g + 1) G4) → g_ok G4 := fun q => q
  have n5 : g_nl (w_ctx 0 0 (g_nl g) (g_nl g + 1) G4) = g_nl g + 3 := nl
  have n5' : g_nl (w_ctx 0 0 (g_nl g) (g_nl g + 2) G4) = g_nl g + 3 := nl
  have ep : s_cx ((0, 0, g_nl g, g_nl g + 1, g_nx G4, (g_it G4).length, []) :: (g_cx (w_put (g_nl g + 1) (w_ctx 0 0 (g_nl g) (g_nl g + 2) G4))).tail) (w_put (g_nl g + 1) (w_ctx 0 0 (g_nl g) (g_nl g + 2) G4)) = w_put (g_nl g + 1) (w_ctx 0 0 (g_nl g) (g_nl g + 1) G4) := by
    have : g_cx (w_put (g_nl g + 1) (w_ctx 0 0 (g_nl g) (g_nl g + 2) G4)) = g_cx (w_ctx 0 0 (g_nl g) (g_nl g + 2) G4) := (wU_put _ _).2.2.2.2.1
    rw [this]
    unfold w_ctx
    rw [w_put_cx, w_put_cx]; rfl
  have cxp : g_cx (w_put (g_nl g + 1) (w_ctx 0 0 (g_nl g) (g_nl g + 2) G4)) = (0, 0, g_nl g, g_nl g + 2, g_nx G4, (g_it G4).length, []) :: g_cx G4 := (wU_put _ _).2.2.2.2.1
  have itp : g_it (w_put (g_nl g + 1) (w_ctx 0 0 (g_nl g) (g_nl g + 2) G4)) = g_it (w_put (g_nl g + 1) (w_ctx 0 0 (g_nl g) (g_nl g + 1) G4)) := by rw [← ep]; rfl
  have mc : wM (w_ctx 0 0 (g_nl g) (g_nl g + 1) G4) (w_put (g_nl g + 1) (w_ctx 0 0 (g_nl g) (g_nl g + 1) G4)) := (wM.rf _).put _
  have ck : ∀ c, c ∈ g_cx (w_ctx 0 0 (g_nl g) (g_nl g + 1) G4) → w_cok nt N c := by
    intro c hc
    rcases List.mem_cons.mp hc with rfl | hc
    · exact ⟨fun q => absurd q (by show ¬ (0 : Nat) = 3; decide), fun q => absurd q (by show ¬ (0 : Nat) = 4; decide)⟩
    · rw [cx] at hc; exact hC c hc
  have hcl4 : ∀ c, c ∈ g_cx G4 → w_cl (g_nl g) c := by rw [cx]; exact hcl
  have nl6 : g_nl (w_put (g_nl g + 1) (w_ctx 0 0 (g_nl g) (g_nl g + 1) G4)) = g_nl g + 3 := w_put_s.2.2.2.1.trans nl
  generalize hG6 : w_put (g_nl g + 1) (w_ctx 0 0 (g_nl g) (g_nl g + 1) G4) = G6 at *
  have m7 := wV_mono nt 40 a 3 (g_nl g) G6
  generalize hG7 : wV nt 40 a 3 (g_nl g) G6 = G7 at *
  have m8 : wM G7 (w_aln (wS nt f) b G7) := (wM.rf G7).aln (wS_mono nt f) _
  generalize hG8 : w_aln (wS nt f) b G7 = G8 at *
  have m9 : wM G8 (w_go (g_nl g + 1) G8) := (wM.rf G8).go _
  generalize hG9 : w_go (g_nl g + 1) G8 = G9 at *
  have mZ : wM (w_shut G9) (w_sl false (g_nl g) (w_put (g_nl g) (w_sl false (g_nl g + 2) (w_sl false (g_nl g + 1) (w_shut G9))))) := ((((wM.rf _).sl _ _).sl _ _).put _).sl _ _
  have ok9 : g_ok G9 := mZ.1 hok
  have ok8 := m9.1 ok9
  have ok7 := m8.1 ok8
  have ok6 := m7.1 ok7
  have ok4 : g_ok G4 := okc (mc.1 ok6)
  obtain ⟨i1, i2, i3, lm3, lv3, ct3, z, ez, qz, m3, m67, -, hall, old, fz, z0, tz⟩ := op ok4
  obtain ⟨mo, mt⟩ := m67 rfl
  have hK2 : K < 2000 := by omega
  have nn7 := m7.nl
  have nn8 := m8.nl
  have nn9 := m9.nl
  rw [eX0_loop, ez]
  refine KS.from ?_ fz (fun _ => ⟨x0, tz⟩) old
  have jp := KS.put (d := d) (l := g_nl g + 1) (by omega) (by omega) (hall _ (by omega) (by omega)).1 qz
  rw [mo] at jp
  refine KS.b (by omega) (Nat.le_succ K) jp (fun V6 C6 lm6 lv6 ct6 x6 q6 v6 c6 l6 f6 mm6 => ?_)
  have l6 : ∀ l, l < g_nl g + 3 → lm6 l = lm3 l ∧ lv6 l = lv3 l ∧ ct6 l = ct3 l := fun l hl => l6 l (by omega)
  have hk1 : x6.1 1 n.toNatClampNeg = 67 := by rw [q6.T.1]; exact hkn
  rw [q6.nd hn, hk1, if_neg (by decide), q6.nd hn, if_pos rfl, bX0_loop_106, if_neg (by decide), n2 hK2, nI_clamp (by omega), bX0_loop_122, if_neg (by decide), bX0_loop_138]
  cases V6 with
  | nil => simp [z_skl] at v6
  | cons s V6 =>
    have w1 : (s.1, s.2.1) = (K, x.1 0 59) := by injection v6
    have w2 : z_skl V6 = z_skl V := by injection v6
    have w3 : s.1 = K := congrArg Prod.fst w1
    have w4 : s.2.1 = x.1 0 59 := congrArg Prod.snd w1
    have hc := q6.2.1.1
    rw [cxp] at hc
    have w5 : s.2.2 = (0, 0, g_nl g, g_nl g + 2, g_nx G4, (g_it G4).length, []) := by injection hc
    have q7 := q6.cont (oo := g_nl g + 1) (v := nI i1) (fun _ => ⟨by show g_nl g + 1 < g_nl (w_put _ _); rw [w_put_s.2.2.2.1]; show g_nl g + 1 < g_nl G4; omega, by rw [(l6 _ (by omega)).2.1]; exact (hall _ (by omega) (by omega)).1, by rw [(l6 _ (by omega)).1, mo]⟩)
    rw [w5] at q7
    have q7 : Y2 nt N P hp H O (K + 1) (200 - f) (sb + 1) C6 none ((s.1, s.2.1, (0, 0, g_nl g, g_nl g + 1, g_nx G4, (g_it G4).length, [])) :: V6) lm6 lv6 ct6 (mj_wI x6 55 s.1 (nI i1)) (s_cx ((0, 0, g_nl g, g_nl g + 1, g_nx G4, (g_it G4).length, []) :: (g_cx (w_put (g_nl g + 1) (w_ctx 0 0 (g_nl g) (g_nl g + 2) G4))).tail) (w_put (g_nl g + 1) (w_ctx 0 0 (g_nl g) (g_nl g + 2) G4))) := q7
    rw [ep, w3] at q7
    refine KS.pre (y := mj_wI x6 55 K (nI i1)) (g := G6) ?_ ((yfr.rf _ _ x6).w _ (by unfold yw2; have : Nat.ble K K = true := Nat.ble_eq_true_of_le (Nat.le_refl _); simp only [this, Bool.or_true])) (fun w => ⟨w, yT.rf itp.symm rfl rfl⟩)
    have jc := KS.cnd (d := d) (by omega) hT ea ta false (l := g_nl g) (by omega) (by rw [(l6 _ (by omega)).2.1]; exact (hall _ (by omega) (by omega)).1) q7 (by show g_ok (wV nt 40 a 3 (g_nl g) G6); rw [hG7]; exact ok7)
    have jc : KS nt N P hp H O (K + 1) (200 - f) (sb + 1) (g_nl G6) ((K, s.2.1) :: z_skl V6) C6 ct6 G6 (kX0 d 65 [.ref 0, .int a, .int (0 : Int32), .int (nI i3)] (mj_wI x6 55 K (nI i1))) (mj_wI x6 55 K (nI i1)) lm6 lv6 G7 := by rw [← hG7, ← m3, ← (l6 _ (show g_nl g < g_nl g + 3 by omega)).1]; exact jc
    refine KS.b (by omega) (Nat.le_succ K) jc (fun V7 C7 lm7 lv7 ct7 x7 q7 v7 c7 l7 f7 mm7 => ?_)
    have l7 : ∀ l, l < g_nl g + 3 → lm7 l = lm3 l ∧ lv7 l = lv3 l ∧ ct7 l = ct3 l := fun l hl => by
      have p := l7 l (by omega)
      have q := l6 l hl
      exact ⟨p.1.trans q.1, p.2.1.trans q.2.1, p.2.2.trans q.2.2⟩
    have jb := KS.alone (R _ sB) (d := d) (by omega) (by omega) q7 (w_cok.wK (mc.tr m7).2.2.2.2.2.1 ck) (by rw [hG8]; exact ok8)
    rw [hG8] at jb
    refine KS.b (by omega) (Nat.le_succ K) jb (fun V8 C8 lm8 lv8 ct8 x8 q8 v8 c8 l8 f8 mm8 => ?_)
    have l8 : ∀ l, l < g_nl g + 3 → lm8 l = lm3 l ∧ lv8 l = lv3 l ∧ ct8 l = ct3 l := fun l hl => by
      have p := l8 l (by omega)
      have q := l7 l hl
      exact ⟨p.1.trans q.1, p.2.1.trans q.2.1, p.2.2.trans q.2.2⟩
    rw [if_neg (by decide)]
    have jg := KS.go (d := d) (l := g_nl g + 1) (by omega) (by omega) (by rw [(l8 _ (by omega)).2.1]; exact (hall _ (by omega) (by omega)).1) q8
    rw [hG9, (l8 _ (by omega)).1, mo] at jg
    refine KS.b (by omega) (Nat.le_succ K) jg (fun V9 C9 lm9 lv9 ct9 x9 q9 v9 c9 l9 f9 mm9 => ?_)
    have l9 : ∀ l, l < g_nl g + 3 → lm9 l = lm3 l ∧ lv9 l = lv3 l ∧ ct9 l = ct3 l := fun l hl => by
      have p := l9 l (by omega)
      have q := l8 l hl
      exact ⟨p.1.trans q.1, p.2.1.trans q.2.1, p.2.2.trans q.2.2⟩
    have live : ∀ l, g_nl g ≤ l → l < g_nl g + 3 → lv9 l = true ∧ ct9 l = false := fun l h1 h2 => by
      have p := l9 l h2
      have q := hall l h1 h2
      exact ⟨p.2.1.trans q.1, p.2.2.trans q.2⟩
    have n9 : g_nl g + 3 ≤ g_nl G9 := by omega
    exact k_ltail (hr := s.2.1) (by omega) (l1 := g_nl g + 1) (l2 := g_nl g + 2) q9 (by rw [v9, v8, v7, w2]) (w_cl_ctx (((mc.tr m7).tr m8).tr m9) hcl4) hclH (by omega) (by omega) (by omega) (by omega) (by omega) (live _ (by omega) (by omega)) (live _ (by omega) (by omega)) (live _ (by omega) (by omega)) (by rw [(l9 _ (by omega)).1, mo]) (by rw [(l9 _ (by omega)).1, mt]) (by rw [(l9 _ (by omega)).1, m3])
end
