/-! CodeWriter: statements: choices, ends, lines -/
section
variable {nt : sp_NT} {N M : Nat} {P : yP} {hp : Nat} {H V : List wSl} {O : List (Int32 × List (Nat × Nat))} {K u sb : Nat} {C : Nat → Prop} {o : Option Int32} {lm lm' lm1 : Nat → Nat} {lv lv' lv1 ct ct' : Nat → Bool} {x y x1 : mj_X} {g G : wG} {res par : Nat → Int32} {f : Nat} {n : Int32}
theorem KS.from {k : Nat} {S : List (Nat × Int32)} {r : mj_R} {L : wG} (h : KS nt N P hp H O K u sb k S C ct' G r y lm' lv' L) (ff : yfr (yw2 P K) (p_pf P) x y) (t : y.1 0 29 = 0 → x.1 0 29 = 0 ∧ yT x g y G) (hl : ∀ l, l < k → lm' l = lm l ∧ lv' l = lv l ∧ ct' l = ct l) : KS nt N P hp H O K u sb k S C ct g r x lm lv L := by
  obtain ⟨V1, C1, lm1, lv1, ct1, x1, e1, q1, v1, c1, l1, f1, t1⟩ := h
  refine ⟨V1, C1, lm1, lv1, ct1, x1, e1, q1, v1, c1, fun l hk => ?_, ff.tr f1, fun w => ?_⟩
  · have a := l1 l hk
    have b := hl l hk
    exact ⟨a.1.trans b.1, a.2.1.trans b.2.1, a.2.2.trans b.2.2⟩
  · obtain ⟨u1, u2⟩ := t1 w
    obtain ⟨v1, v2⟩ := t u1
    exact ⟨v1, v2.tr u2⟩
theorem KS.wrap {d k : Nat} {r s : mj_R} {a1 a2 a3 : Int32} {o4 o5 o6 : Option Value} (e : s = mj_rV r (fun x1 => rX0_act d (506, [some (.ref 0), some (.int a1), some (.int a2), some (.int a3), o4, o5, o6], [], x1))) (j : KS nt N P hp H O K (200 - f) (sb + 1) k (z_skl V) C ct g r x lm lv G) (hs : sb + 1 ≤ 2000000000) (hK : K ≤ 200 - (f + 1)) (hf : f + 1 ≤ 200) : KS nt N P hp H O K (200 - (f + 1)) (sb + 1) k (z_skl V) C ct g s x lm lv G := by
  rw [e]
  refine KS.b (Nat.le_refl _) (Nat.le_refl _) j (fun V1 C1 lm1 lv1 ct1 x1 q1 v1 c1 l1 f1 m1 => ?_)
  rw [← v1]; exact KS.t506 q1 (Nat.le_refl _) hs hK hf
theorem k_s64 {d : Nat} (hd : 6 * f + 261 ≤ d) (hT : wTb nt N M res par) (hA : wA nt N 40 n) (hk : nK nt n = 64) (hf : f + 1 ≤ 200) (x0 : x.1 0 29 = 0) (R : ∀ m, wA nt N 40 m → kS nt N f m) (hC : ∀ c, c ∈ g_cx g → w_cok nt N c) (hK : K ≤ 200 - (f + 1)) (hs : sb + 1 ≤ 2000000000) (h : Y2 nt N P hp H O K (200 - f) sb C none V lm lv ct x g) (hok : g_ok (w_bd nt (wV nt 40) (wS nt f) n g)) :
    KS nt N P hp H O K (200 - (f + 1)) (sb + 1) (g_nl g) (z_skl V) C ct g (rX0_act d (315, [some (.ref 0), some (.int n), some (.int (nA nt n)), some (.int (nB nt n)), none, none, none], [], x)) x lm lv (w_bd nt (wV nt 40) (wS nt f) n g) := by
  have e : w_bd nt (wV nt 40) (wS nt f) n g = w_sl false (g_nl g) (w_put (g_nl g) (w_aln (wS nt f) (nB nt n) (wV nt 40 (nA nt n) 3 (g_nl g) (w_lb (g_L g, []) g)))) := by unfold w_bd; simp only [hk]; rfl
  rw [e] at hok ⊢
  obtain ⟨ea, ta, sb'⟩ := wE_if hT hA.1 hA.2.2 hk
  have ea := ea.mono (show 39 ≤ 40 by omega)
  have sb' : wA nt N 40 (nB nt n) := ⟨sb'.1, sb'.2.1, by have := sb'.2.2; omega⟩
  obtain ⟨hcl, hclH⟩ := h.cl x0
  have n1 : g_nl (w_lb (g_L g, []) g) = g_nl g + 1 := rfl
  have cx1 : g_cx (w_lb (g_L g, []) g) = g_cx g := rfl
  clear e
  generalize hg1 : w_lb (g_L g, []) g = g1 at *
  have m2 := wV_mono nt 40 (nA nt n) 3 (g_nl g) g1
  generalize hg2 : wV nt 40 (nA nt n) 3 (g_nl g) g1 = g2 at *
  have m3 : wM g2 (w_aln (wS nt f) (nB nt n) g2) := (wM.rf g2).aln (wS_mono nt f) _
  generalize hg3 : w_aln (wS nt f) (nB nt n) g2 = g3 at *
  have m4 : wM g3 (w_sl false (g_nl g) (w_put (g_nl g) g3)) := ((wM.rf _).put _).sl _ _
  have ok3 := m4.1 hok
  have ok2 := m3.1 ok3
  have ok1 := m2.1 ok2
  have nn2 := m2.nl
  have nn3 := m3.nl
  rw [bX0_act_315]
  refine KS.lb (F := (g_L g, [])) (by omega) h x0 (by rw [hg1]; exact ok1) (Nat.le_refl _) (fun lm1 lv1 ct1 x1 q1 w1 u1 a1 z1 f1 => ?_)
  rw [hg1] at q1 ⊢
  have jc := KS.cnd (d := d) (by omega) hT ea ta false (l := g_nl g) (by omega) w1 q1 (by show g_ok (wV nt 40 (nA nt n) 3 (g_nl g) g1); rw [hg2]; exact ok2)
  have jc : KS nt N P hp H O K (200 - f) sb (g_nl g1) (z_skl V) C ct1 g1 (kX0 d 65 [.ref 0, .int (nA nt n), .int (0 : Int32), .int (nI (lm1 (g_nl g)))] x1) x1 lm1 lv1 g2 := by rw [← hg2]; exact jc
  refine KS.b (by omega) (Nat.le_refl _) jc (fun V2 C2 lm2 lv2 ct2 x2 q2 v2 c2 l2 f2 mm2 => ?_)
  have k2 : wK (g_cx g) (g_cx g2) := by rw [← cx1]; exact m2.2.2.2.2.2.1
  have jb := KS.alone (R _ sb') (d := d) (by omega) (by omega) (q2.sbm (Nat.le_succ _) hs) (w_cok.wK k2 hC) (by rw [hg3]; exact ok3)
  rw [hg3] at jb
  refine KS.b (by omega) (Nat.le_refl _) jb (fun V3 C3 lm3 lv3 ct3 x3 q3 v3 c3 l3 f3 mm3 => ?_)
  have e2 := l2 (g_nl g) (by omega)
  have e3 := l3 (g_nl g) (by omega)
  rw [← e2.1, ← e3.1]
  have jp := KS.pl (d := d) (n := g_nl g) (l := g_nl g) (by omega) false (by omega) (by rw [e3.2.1, e2.2.1]; exact w1) (by rw [e3.2.2, e2.2.2]; exact u1) (Nat.le_refl _) q3 (w_cl.wK m3.2.2.2.2.2.1 (w_cl.wK k2 hcl)) hclH
  refine KS.b (Nat.le_refl _) (Nat.le_refl _) jp (fun V4 C4 lm4 lv4 ct4 x4 q4 v4 c4 l4 f4 mm4 => ?_)
  rw [← v2, ← v3, ← v4]; exact KS.t506 q4 (Nat.le_refl _) hs hK hf
/-- one or the other -/
theorem k_either {d : Nat} (hd : 6 * f + 262 ≤ d) (hf : f ≤ 200) {a b1 b2 : Int32} (hT : wTb nt N M res par) (ea : wE nt N 40 a) (ta : nT nt a = 1) (sa : wA nt N 40 b1) (sb' : wA nt N 40 b2) (x0 : x.1 0 29 = 0) (R : ∀ m, wA nt N 40 m → kS nt N f m) (hC : ∀ c, c ∈ g_cx g → w_cok nt N c) (hs : sb + 1 ≤ 2000000000) (h : Y2 nt N P hp H O K (200 - f) sb C none V lm lv ct x g)
    (hok : g_ok (w_sl false (g_nl g + 1) (w_put (g_nl g + 1) (w_aln (wS nt f) b2 (w_sl false (g_nl g) (w_put (g_nl g) (w_go (g_nl g + 1) (w_aln (wS nt f) b1 (wV nt 40 a 3 (g_nl g) (w_lb (g_L g, []) (w_lb (g_L g, []) g)))))))))) ) :
    KS nt N P hp H O K (200 - f) (sb + 1) (g_nl g) (z_skl V) C ct g (kX0 d 76 [.ref 0, .int a, .int b1, .int b2] x) x lm lv (w_sl false (g_nl g + 1) (w_put (g_nl g + 1) (w_aln (wS nt f) b2 (w_sl false (g_nl g) (w_put (g_nl g) (w_go (g_nl g + 1) (w_aln (wS nt f) b1 (wV nt 40 a 3 (g_nl g) (w_lb (g_L g, []) (w_lb (g_L g, []) g)))))))))) := by
  obtain ⟨d, rfl⟩ : ∃ e, d = e + 1 := ⟨d - 1, by omega⟩
  obtain ⟨hcl, hclH⟩ := h.cl x0
  have n2 : g_nl (w_lb (g_L g, []) (w_lb (g_L g, []) g)) = g_nl g + 2 := rfl
  have n1 : g_nl (w_lb (g_L g, []) g) = g_nl g + 1 := rfl
  have cx2 : g_cx (w_lb (g_L g, []) (w_lb (g_L g, []) g)) = g_cx g := rfl
  have m1 : wM (w_lb (g_L g, []) g) (w_lb (g_L g, []) (w_lb (g_L g, []) g)) := (wM.rf _).lb _
  generalize hg1 : w_lb (g_L g, []) g = g1 at *
  generalize hg2 : w_lb (g_L g, []) g1 = g2 at *
  have m3 := wV_mono nt 40 a 3 (g_nl g) g2
  generalize hg3 : wV nt 40 a 3 (g_nl g) g2 = g3 at *
  have m4 : wM g3 (w_aln (wS nt f) b1 g3) := (wM.rf g3).aln (wS_mono nt f) _
  generalize hg4 : w_aln (wS nt f) b1 g3 = g4 at *
  have m5 : wM g4 (w_go (g_nl g + 1) g4) := (wM.rf _).go _
  generalize hg5 : w_go (g_nl g + 1) g4 = g5 at *
  have m7 : wM g5 (w_sl false (g_nl g) (w_put (g_nl g) g5)) := ((wM.rf _).put _).sl _ _
  have nl7 : g_nl (w_sl false (g_nl g) (w_put (g_nl g) g5)) = g_nl g5 := by rw [w_sl_nl, w_put_s.2.2.2.1]
  generalize hg7 : w_sl false (g_nl g) (w_put (g_nl g) g5) = g7 at *
  have m8 : wM g7 (w_aln (wS nt f) b2 g7) := (wM.rf g7).aln (wS_mono nt f) _
  generalize hg8 : w_aln (wS nt f) b2 g7 = g8 at *
  have m9 : wM g8 (w_sl false (g_nl g + 1) (w_put (g_nl g + 1) g8)) := ((wM.rf _).put _).sl _ _
  have ok8 := m9.1 hok
  have ok7 := m8.1 ok8
  have ok5 := m7.1 ok7
  have ok4 := m5.1 ok5
  have ok3 := m4.1 ok4
  have ok2 := m3.1 ok3
  have ok1 := m1.1 ok2
  have nn3 := m3.nl
  have nn4 := m4.nl
  have nn5 := m5.nl
  have nn8 := m8.nl
  have k3 : wK (g_cx g) (g_cx g3) := by rw [← cx2]; exact m3.2.2.2.2.2.1
  have k5 := (m4.tr m5).2.2.2.2.2.1
  have k7 := m7.2.2.2.2.2.1
  have k8 := m8.2.2.2.2.2.1
  have cl3 := w_cl.wK k3 hcl
  have cl5 := w_cl.wK k5 cl3
  have cl8 := w_cl.wK k8 (w_cl.wK k7 cl5)
  have up : ∀ {c : wC}, w_cl (g_nl g) c → w_cl (g_nl g + 1) c := fun q => ⟨fun z => by have := q.1 z; omega, fun z => by have := q.2 z; omega⟩
  rw [eX0_ifElse]
  refine KS.lb (F := (g_L g, [])) (by omega) h x0 (by rw [hg1]; exact ok1) (Nat.le_refl _) (fun lm1 lv1 ct1 x1 q1 w1 u1 a1 z1 f1 => ?_)
  rw [hg1] at q1 ⊢
  refine KS.lb (F := (g_L g, [])) (by omega) q1 z1 (by rw [hg2]; exact ok2) (by omega) (fun lm2 lv2 ct2 x2 q2 w2 u2 a2 z2 f2 => ?_)
  rw [hg2] at q2 ⊢
  rw [n1] at w2 u2 a2 ⊢
  have b0 := a2 (g_nl g) (by omega)
  have jc := KS.cnd (d := d) (by omega) hT ea ta false (l := g_nl g) (by omega) (by rw [b0.2.1]; exact w1) q2 (by show g_ok (wV nt 40 a 3 (g_nl g) g2); rw [hg3]; exact ok3)
  have jc : KS nt N P hp H O K (200 - f) sb (g_nl g2) (z_skl V) C ct2 g2 (kX0 d 65 [.ref 0, .int a, .int (0 : Int32), .int (nI (lm1 (g_nl g)))] x2) x2 lm2 lv2 g3 := by rw [← hg3, ← b0.1]; exact jc
  refine KS.b (by omega) (Nat.le_refl _) jc (fun V3 C3 lm3 lv3 ct3 x3 q3 v3 c3 l3 f3 mm3 => ?_)
  have jb := KS.alone (R _ sa) (d := d) (by omega) (by omega) (q3.sbm (Nat.le_succ _) hs) (w_cok.wK k3 hC) (by rw [hg4]; exact ok4)
  rw [hg4] at jb
  refine KS.b (by omega) (Nat.le_refl _) jb (fun V4 C4 lm4 lv4 ct4 x4 q4 v4 c4 l4 f4 mm4 => ?_)
  have p3 := l3 (g_nl g) (by omega)
  have p4 := l4 (g_nl g) (by omega)
  have r3 := l3 (g_nl g + 1) (by omega)
  have r4 := l4 (g_nl g + 1) (by omega)
  have jg := KS.go (d := d) (l := g_nl g + 1) (by omega) (by omega) (by rw [r4.2.1, r3.2.1]; exact w2) q4
  rw [hg5, r4.1, r3.1] at jg
  refine KS.b (by omega) (Nat.le_refl _) jg (fun V5 C5 lm5 lv5 ct5 x5 q5 v5 c5 l5 f5 mm5 => ?_)
  have p5 := l5 (g_nl g) (by omega)
  have r5 := l5 (g_nl g + 1) (by omega)
  have e5 : lm5 (g_nl g) = lm1 (g_nl g) := p5.1.trans (p4.1.trans (p3.1.trans b0.1))
  obtain ⟨lv6, ct6, x6, e6, q6, k6, f6, t6⟩ := Y2.pl (d := d) (l := g_nl g) (by omega) false (by omega) (by rw [p5.2.1, p4.2.1, p3.2.1, b0.2.1]; exact w1) (by rw [p5.2.2, p4.2.2, p3.2.2, b0.2.2]; exact u1) q5 cl5 hclH
  rw [hg7] at q6 t6
  rw [e5] at e6
  rw [e6, mj_rV_k]
  have jb2 := KS.alone (R _ sb') (d := d) (by omega) (by omega) q6 (w_cok.wK k7 (w_cok.wK k5 (w_cok.wK k3 hC))) (by rw [hg8]; exact ok8)
  rw [hg8] at jb2
  have inner : KS nt N P hp H O K (200 - f) (sb + 1) (g_nl g) (z_skl V5) C5 ct6 g7 (mj_rV (kX0 d 75 [.ref 0, .int b2] x6) fun x9 => mj_rV (kX0 d 70 [.ref 0, .int (nI (lm2 (g_nl g + 1)))] x9) fun x10 => some (none, x10)) x6 lm5 lv6 (w_sl false (g_nl g + 1) (w_put (g_nl g + 1) g8)) := by
    refine KS.b (by omega) (Nat.le_refl _) jb2 (fun V8 C8 lm8 lv8 ct8 x8 q8 v8 c8 l8 f8 mm8 => ?_)
    have r8 := l8 (g_nl g + 1) (by omega)
    have e8 : lm8 (g_nl g + 1) = lm2 (g_nl g + 1) := r8.1.trans (r5.1.trans (r4.1.trans r3.1))
    have s6 := k6 (g_nl g + 1) (by omega) (by omega)
    have jp := KS.pl (d := d) (n := g_nl g) (l := g_nl g + 1) (by omega) false (by omega) (by rw [r8.2.1, s6.1, r5.2.1, r4.2.1, r3.2.1]; exact w2) (by rw [r8.2.2, s6.2, r5.2.2, r4.2.2, r3.2.2]; exact u2) (by omega) q8 (fun c hc => up (cl8 c hc)) (fun s hs' => up (hclH s hs'))
    rw [e8] at jp
    rw [← v8]; exact jp.end_
  rw [← v3, ← v4, ← v5]
  exact inner.from f6.up t6 (fun l hl => ⟨rfl, (k6 l (by omega) (by omega)).1, (k6 l (by omega) (by omega)).2⟩)
theorem k_s65 {d : Nat} (hd : 6 * f + 262 ≤ d) (hT : wTb nt N M res par) (hA : wA nt N 40 n) (hk : nK nt n = 65) (hf : f + 1 ≤ 200) (x0 : x.1 0 29 = 0) (R : ∀ m, wA nt N 40 m → kS nt N f m) (hC : ∀ c, c ∈ g_cx g → w_cok nt N c) (hK : K ≤ 200 - (f + 1)) (hs : sb + 1 ≤ 2000000000) (h : Y2 nt N P hp H O K (200 - f) sb C none V lm lv ct x g) (hok : g_ok (w_bd nt (wV nt 40) (wS nt f) n g)) :
    KS nt N P hp H O K (200 - (f + 1)) (sb + 1) (g_nl g) (z_skl V) C ct g (rX0_act d (343, [some (.ref 0), some (.int n), some (.int (nA nt n)), some (.int (nB nt n)), none, none, none], [], x)) x lm lv (w_bd nt (wV nt 40) (wS nt f) n g) := by
  have e : w_bd nt (wV nt 40) (wS nt f) n g = w_sl false (g_nl g + 1) (w_put (g_nl g + 1) (w_aln (wS nt f) (nB nt (nB nt n)) (w_sl false (g_nl g) (w_put (g_nl g) (w_go (g_nl g + 1) (w_aln (wS nt f) (nA nt (nB nt n)) (wV nt 40 (nA nt n) 3 (g_nl g) (w_lb (g_L g, []) (w_lb (g_L g, []) g))))))))) := by unfold w_bd; simp only [hk]; rfl
  rw [e] at hok ⊢
  obtain ⟨ea, ta, b1, b2, b3⟩ := wE_ifelse hT hA.1 hA.2.2 hk
  have hf40 : ∃ q, (39 : Nat) = q + 1 := ⟨38, rfl⟩
  obtain ⟨sa, sb'⟩ := wE_branch (f := 38) hT b1 b2 b3
  have sa1 : wA nt N 40 (nA nt (nB nt n)) := ⟨sa.1, sa.2.1, by have := sa.2.2; omega⟩
  have sb1 : wA nt N 40 (nB nt (nB nt n)) := ⟨sb'.1, sb'.2.1, by have := sb'.2.2; omega⟩
  rw [bX0_act_343, h.nd b1, h.nd b1, h.T.2.1, h.T.2.2.1]
  exact KS.wrap rfl (k_either (d := d) hd (by omega) hT (ea.mono (by omega)) ta sa1 sb1 x0 R hC hs h hok) hs hK hf
theorem k_s74 {d : Nat} (hd : 254 ≤ d) (hT : wTb nt N M res par) (hA : wA nt N 40 n) (hk : nK nt n = 74) (hf : f + 1 ≤ 200) (hK : K ≤ 200 - (f + 1)) (hs : sb + 1 ≤ 2000000000) (h : Y2 nt N P hp H O K (200 - f) sb C none V lm lv ct x g) (hok : g_ok (w_bd nt (wV nt 40) (wS nt f) n g)) :
    KS nt N P hp H O K (200 - (f + 1)) (sb + 1) (g_nl g) (z_skl V) C ct g (rX0_act d (453, [some (.ref 0), some (.int n), some (.int (nA nt n)), some (.int (nB nt n)), none, none, none], [], x)) x lm lv (w_bd nt (wV nt 40) (wS nt f) n g) := by
  have e : w_bd nt (wV nt 40) (wS nt f) n g = s_al false (w_em (16, 191, 0, 0, []) 1 [] (w_pe 15 71 0 1 [10] (wV nt 40 (nA nt n) 0 0 g))) := by unfold w_bd; simp only [hk]; rfl
  rw [e] at hok ⊢
  obtain ⟨ea, ta⟩ := wE_throw hT hA.1 hA.2.2 hk
  have ea := ea.mono (show 39 ≤ 40 by omega)
  have m1 := wV_mono nt 40 (nA nt n) 0 0 g
  have m2 : wM (wV nt 40 (nA nt n) 0 0 g) (w_pe 15 71 0 1 [10] (wV nt 40 (nA nt n) 0 0 g)) := (wM.rf _).pe _ _ _ _ _
  have m3 : wM (w_pe 15 71 0 1 [10] (wV nt 40 (nA nt n) 0 0 g)) (w_em (16, 191, 0, 0, []) 1 [] (w_pe 15 71 0 1 [10] (wV nt 40 (nA nt n) 0 0 g))) := (wM.rf _).em _ _ _
  have hok : g_ok (w_em (16, 191, 0, 0, []) 1 [] (w_pe 15 71 0 1 [10] (wV nt 40 (nA nt n) 0 0 g))) := hok
  rw [bX0_act_453]
  refine KS.b (Nat.le_refl _) (Nat.le_refl _) (KS.val (d := d) (by omega) hT ea h (m2.1 (m3.1 hok))) (fun V1 C1 lm1 lv1 ct1 x1 q1 v1 c1 l1 f1 mm1 => ?_)
  refine KS.b m1.nl (Nat.le_refl _) (KS.inv (d := d) (s := 71) (off := 1) (v := 0) (on := [10]) (by omega) (by omega) q1 (m3.1 hok)) (fun V2 C2 lm2 lv2 ct2 x2 q2 v2 c2 l2 f2 mm2 => ?_)
  refine KS.b (Nat.le_trans m1.nl m2.nl) (Nat.le_refl _) (KS.e1 (d := d) (i := (16, 191, 0, 0, [])) (off := 1) (on := []) (cc := 191) (by omega) q2 ⟨fun _ => rfl, fun _ _ => rfl⟩) (fun V3 C3 lm3 lv3 ct3 x3 q3 v3 c3 l3 f3 mm3 => ?_)
  have q4 := q3.al false
  rw [← v1, ← v2, ← v3]
  exact (KS.t506 (x := mj_wI x3 0 30 0) q4 (Nat.le_succ _) hs hK hf).pre ((yfr.rf _ _ x3).w _ rfl) (fun w => ⟨w, yT.rf rfl rfl rfl⟩)
theorem k_s85 {d : Nat} (hd : 6 * f + 260 ≤ d) (hT : wTb nt N M res par) (hA : wA nt N 40 n) (hk : nK nt n = 85) (hf : f + 1 ≤ 200) (x0 : x.1 0 29 = 0) (R : ∀ m, wA nt N 40 m → kS nt N f m) (hC : ∀ c, c ∈ g_cx g → w_cok nt N c) (hK : K ≤ 200 - (f + 1)) (hs : sb + 1 ≤ 2000000000) (h : Y2 nt N P hp H O K (200 - f) sb C none V lm lv ct x g) (hok : g_ok (w_bd nt (wV nt 40) (wS nt f) n g)) :
    KS nt N P hp H O K (200 - (f + 1)) (sb + 1) (g_nl g) (z_skl V) C ct g (rX0_act d (271, [some (.ref 0), some (.int n), some (.int (nA nt n)), some (.int (nB nt n)), none, none, none], [], x)) x lm lv (w_bd nt (wV nt 40) (wS nt f) n g) := by
  have e : w_bd nt (wV nt 40) (wS nt f) n g = s_pn (bif Nat.blt (g_it g).length (g_it (wS nt f (nB nt n) (s_pn (nA nt n) g))).length then -1 else g_pn g) (wS nt f (nB nt n) (s_pn (nA nt n) g)) := by unfold w_bd; simp only [hk]; rfl
  rw [e] at hok ⊢
  obtain ⟨a0, a1, sa⟩ := wE_line hT hA.1 hA.2.2 hk
  have ha : ¬ nA nt n = -1 := fun z => by rw [z] at a0; exact absurd a0 (by decide)
  have hpn : x.1 0 47 = g_pn g := (h.ex x0).2.2.1.2.2.2.2.2.2.2.2.2.1
  rw [bX0_act_271]
  have q0 := (h.pn (v := nA nt n) (p := nA nt n) (fun _ => rfl)).sbm (Nat.le_succ _) hs
  have j := R _ ⟨sa.1, sa.2.1, by have := sa.2.2; omega⟩ P hp H O K sb C V lm lv ct (mj_wI x 0 47 (nA nt n)) (s_pn (nA nt n) g) d hd (by omega) q0 hC hok
  obtain ⟨V1, C1, lm1, lv1, ct1, x1, e1, q1, v1, c1, l1, f1, t1⟩ := j
  rw [e1, mj_rV_k]
  have ff : yfr (yw2 P K) (p_pf P) x x1 := ((yfr.rf _ _ x).w _ rfl).tr f1
  -- behind either way
  have fin : ∀ v p : Int32, (x1.1 0 29 = 0 → v = p ∧ yT x g (mj_wI x1 0 47 v) (s_pn p (wS nt f (nB nt n) (s_pn (nA nt n) g)))) → ∀ (o4 o5 o6 : Option Value), KS nt N P hp H O K (200 - (f + 1)) (sb + 1) (g_nl g) (z_skl V) C ct g (rX0_act d (506, [some (.ref 0), some (.int n), some (.int (nA nt n)), some (.int (nB nt n)), o4, o5, o6], [], mj_wI x1 0 47 v)) x lm lv (s_pn p (wS nt f (nB nt n) (s_pn (nA nt n) g))) := by
    intro v p hv o4 o5 o6
    have q2 := q1.pn (v := v) (p := p) (fun z => (hv z).1)
    have j := KS.t506 (d := d) (k := g_nl g) (a1 := n) (a2 := nA nt n) (a3 := nB nt n) (o4 := o4) (o5 := o5) (o6 := o6) q2 (Nat.le_refl _) hs hK hf
    rw [v1] at j
    obtain ⟨V2, C2, lm2, lv2, ct2, x2, e2, p2, v2, c2, l2, f2, t2⟩ := j
    refine ⟨V2, C2, lm2, lv2, ct2, x2, e2, p2, v2, fun k hk => c2 k (c1 k hk), fun l hl => ?_, (ff.w _ rfl).tr f2, fun w => ⟨x0, yT.tr (hv (t2 w).1).2 (t2 w).2⟩⟩
    have u1 := l1 l hl
    have u2 := l2 l hl
    exact ⟨u2.1.trans u1.1, u2.2.1.trans u1.2.1, u2.2.2.trans u1.2.2⟩
  by_cases z1 : x1.1 0 29 = 0
  · obtain ⟨-, tt⟩ := t1 z1
    rcases tt with ⟨s1, s2, s3⟩ | ⟨s1, s2, s3⟩
    · have s2 : x1.1 0 48 = x.1 0 48 := s2
      have s1 : g_it (wS nt f (nB nt n) (s_pn (nA nt n) g)) = g_it g := s1
      rw [if_pos s2, show Nat.blt (g_it g).length (g_it (wS nt f (nB nt n) (s_pn (nA nt n) g))).length = false by rw [s1, ← Bool.not_eq_true, Nat.blt_eq]; omega]
      exact fin (x.1 0 47) (g_pn g) (fun _ => ⟨hpn, Or.inl ⟨s1, s2, rfl⟩⟩) _ _ _
    · have s3 : x.1 0 48 < x1.1 0 48 := s3 ha
      have s1 : (g_it g).length < (g_it (wS nt f (nB nt n) (s_pn (nA nt n) g))).length := s1
      rw [if_neg (fun z => by rw [z] at s3; exact Int32.lt_irrefl s3), show Nat.blt (g_it g).length (g_it (wS nt f (nB nt n) (s_pn (nA nt n) g))).length = true by rw [Nat.blt_eq]; exact s1]
      exact fin (-1) (-1) (fun _ => ⟨rfl, Or.inr ⟨s1, Int32.le_of_lt s3, fun _ => s3⟩⟩) _ _ _
  · split
    · exact fin _ _ (fun z => absurd z z1) _ _ _
    · exact fin _ _ (fun z => absurd z z1) _ _ _
end
