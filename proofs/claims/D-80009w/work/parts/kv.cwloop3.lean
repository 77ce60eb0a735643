/-! CodeWriter: statements: loops that count -/
section
variable {nt : sp_NT} {N M : Nat} {P : yP} {hp : Nat} {H V : List wSl} {O : List (Int32 × List (Nat × Nat))} {K u sb : Nat} {C : Nat → Prop} {o : Option Int32} {lm lm' lm1 : Nat → Nat} {lv lv' lv1 ct ct' : Nat → Bool} {x y x1 : mj_X} {g G : wG} {res par : Nat → Int32} {f : Nat} {n : Int32}
theorem y59w {P : yP} {K : Nat} {x : mj_X} {v : Int32} : yfr (yw2 P K) (p_pf P) x (mj_wI x 0 59 v) := (yfr.rf _ _ x).w _ rfl
/-- what is run while the innermost context is put aside -/
theorem k_aside {d : Nat} {s : wSl} {m : Int32} (hd : 6 * f + 261 ≤ d) (hf : f ≤ 200) (R : kS nt N f m) (h : Y2 nt N P hp H O K (200 - f) (sb + 1) C none (s :: V) lm lv ct x g) (hps : c_ps s.2.2 = []) (hk1 : s.2.2.1 ≤ 1) (hC : ∀ c, c ∈ g_cx (w_shut g) → w_cok nt N c) (hok : g_ok (w_aln (wS nt f) m (w_shut g))) :
    KS nt N P hp H O K (200 - f) (sb + 1) (g_nl g) (z_skl (s :: V)) C ct g (mj_rV (kX0 d 75 [.ref 0, .int m] (mj_wI x 0 59 s.2.1)) fun x4 => some (none, mj_wI x4 0 59 (x.1 0 59))) x lm lv (s_cx (s.2.2 :: g_cx (w_aln (wS nt f) m (w_shut g))) (w_aln (wS nt f) m (w_shut g))) := by
  have hch : z_ch (x.1 0 59) K (s :: V) := h.ch
  have q := h.hide
  rw [hps] at q
  have q : Y2 nt N P hp (s :: H) O K (200 - f) (sb + 1) C (some s.2.1) V lm lv ct x (w_shut g) := q
  have q1 : Y2 nt N P hp (s :: H) O K (200 - f) (sb + 1) C none V lm lv ct (mj_wI x 0 59 s.2.1) (w_shut g) := q.set59 (v := s.2.1) rfl
  obtain ⟨V1, C1, lm2, lv2, ct2, x2, e2, q2, v2, c2, l2, f2, t2⟩ := KS.alone R (d := d) hd hf q1 hC hok
  have hch2 : z_ch s.2.1 s.1 V1 := hch.2.2.skl v2
  have q3 : Y2 nt N P (hp + (c_ps s.2.2).length) (s :: H) O K (200 - f) (sb + 1) C1 (some (x2.1 0 59)) V1 lm2 lv2 ct2 (mj_wI x2 0 59 (x.1 0 59)) (w_aln (wS nt f) m (w_shut g)) := by rw [hps]; exact q2.set59 rfl
  have q4 := q3.seen hch2 (fun _ z => by omega)
  have e59 : x.1 0 59 = nI s.1 := hch.1
  have q5 : Y2 nt N P hp H O K (200 - f) (sb + 1) C1 none (s :: V1) lm2 lv2 ct2 (mj_wI x2 0 59 (x.1 0 59)) (s_cx (s.2.2 :: g_cx (w_aln (wS nt f) m (w_shut g))) (w_aln (wS nt f) m (w_shut g))) := by
    have e : (mj_wI x2 0 59 (x.1 0 59)).1 0 59 = nI s.1 := e59
    have := q4
    rw [← e] at this
    exact this
  refine ⟨s :: V1, C1, lm2, lv2, ct2, _, by rw [e2, mj_rV_k], q5, by show _ :: z_skl V1 = _ :: z_skl V; rw [v2], c2, l2, (y59w.tr f2).tr y59w, fun w => ?_⟩
  obtain ⟨w1, w2⟩ := t2 w
  have a : yT x g (mj_wI x 0 59 s.2.1) (w_shut g) := yT.rf rfl rfl rfl
  have b : yT x2 (w_aln (wS nt f) m (w_shut g)) (mj_wI x2 0 59 (x.1 0 59)) (s_cx (s.2.2 :: g_cx (w_aln (wS nt f) m (w_shut g))) (w_aln (wS nt f) m (w_shut g))) := yT.rf rfl rfl rfl
  exact ⟨w1, a.tr (w2.tr b)⟩
set_option maxHeartbeats 4000000 in
theorem k_for {d : Nat} (hd : 6 * f + 263 ≤ d) (hf : f ≤ 200) {a b : Int32} (hn : sp_nd N n = true) (hkn : nK nt n = 69) (hT : wTb nt N M res par) (na : sp_nd N a = true) (ea : wE nt N 40 (nA nt a)) (ta : nT nt (nA nt a) = 1) (sn : wA nt N 40 (nB nt a)) (sB : wA nt N 40 b) (x0 : x.1 0 29 = 0) (R : ∀ m, wA nt N 40 m → kS nt N f m) (hC : ∀ c, c ∈ g_cx g → w_cok nt N c) (hKu : K + 1 ≤ 200 - f) (hs : sb + 1 ≤ 2000000000) (h : Y2 nt N P hp H O K (200 - f) sb C none V lm lv ct x g)
    (hok : g_ok (w_loop nt (wV nt 40) (wS nt f) 69 a b g)) :
    KS nt N P hp H O K (200 - f) (sb + 1) (g_nl g) (z_skl V) C ct g (kX0 d 77 [.ref 0, .int n, .int a, .int b] x) x lm lv (w_loop nt (wV nt 40) (wS nt f) 69 a b g) := by
  obtain ⟨d, rfl⟩ : ∃ e, d = e + 1 := ⟨d - 1, by omega⟩
  obtain ⟨hcl, hclH⟩ := h.cl x0
  have e : w_loop nt (wV nt 40) (wS nt f) 69 a b g = w_sl false (g_nl g) (w_put (g_nl g) (w_sl false (g_nl g + 1) (w_sl false (g_nl g + 2) (w_shut (w_go (g_nl g + 2) (match g_cx (w_put (g_nl g + 1) (w_aln (wS nt f) b (wV nt 40 (nA nt a) 3 (g_nl g) (w_put (g_nl g + 2) (w_ctx 0 0 (g_nl g) (g_nl g + 1) (w_lbl 69 (g_L g, []) g)))))) with
        | c :: _ => s_cx (c :: g_cx (w_aln (wS nt f) (nB nt a) (w_shut (w_put (g_nl g + 1) (w_aln (wS nt f) b (wV nt 40 (nA nt a) 3 (g_nl g) (w_put (g_nl g + 2) (w_ctx 0 0 (g_nl g) (g_nl g + 1) (w_lbl 69 (g_L g, []) g))))))))) (w_aln (wS nt f) (nB nt a) (w_shut (w_put (g_nl g + 1) (w_aln (wS nt f) b (wV nt 40 (nA nt a) 3 (g_nl g) (w_put (g_nl g + 2) (w_ctx 0 0 (g_nl g) (g_nl g + 1) (w_lbl 69 (g_L g, []) g))))))))
        | [] => (w_aln (wS nt f) (nB nt a) (w_shut (w_put (g_nl g + 1) (w_aln (wS nt f) b (wV nt 40 (nA nt a) 3 (g_nl g) (w_put (g_nl g + 2) (w_ctx 0 0 (g_nl g) (g_nl g + 1) (w_lbl 69 (g_L g, []) g)))))))))))))) := rfl
  rw [e] at hok ⊢
  clear e
  obtain ⟨nl, nx, it, cx⟩ := w_lbl_f 69 (g_L g, []) g
  have mL : wM g (w_lbl 69 (g_L g, []) g) := (wM.rf g).lbl 69 _
  have op := fun okL => k_lopen (n := n) (d := d) (cc := g_nl g + 1) (k := 69) (by omega) (by rw [if_neg (by decide)]) hKu hs h x0 okL
  generalize hG4 : w_lbl 69 (g_L g, []) g = G4 at *
  have okc : g_ok (w_ctx 0 0 (g_nl g) (g_nl g + 1) G4) → g_ok G4 := fun q => q
  have n5 : g_nl (w_ctx 0 0 (g_nl g) (g_nl g + 1) G4) = g_nl g + 3 := nl
  have mc : wM (w_ctx 0 0 (g_nl g) (g_nl g + 1) G4) (w_put (g_nl g + 2) (w_ctx 0 0 (g_nl g) (g_nl g + 1) G4)) := (wM.rf _).put _
  have ck : ∀ c, c ∈ g_cx (w_ctx 0 0 (g_nl g) (g_nl g + 1) G4) → w_cok nt N c := by
    intro c hc
    rcases List.mem_cons.mp hc with rfl | hc
    · exact ⟨fun q => absurd q (by show ¬ (0 : Nat) = 3; decide), fun q => absurd q (by show ¬ (0 : Nat) = 4; decide)⟩
    · rw [cx] at hc; exact hC c hc
  have hcl4 : ∀ c, c ∈ g_cx G4 → w_cl (g_nl g) c := by rw [cx]; exact hcl
  have nl6 : g_nl (w_put (g_nl g + 2) (w_ctx 0 0 (g_nl g) (g_nl g + 1) G4)) = g_nl g + 3 := w_put_s.2.2.2.1.trans nl
  have jp0 := fun {lm3 lv3 ct3 z sk} (hv) (q : Y2 nt N P hp H O (K + 1) (200 - f) (sb + 1) C none sk lm3 lv3 ct3 z (w_ctx 0 0 (g_nl g) (g_nl g + 1) G4)) => KS.put (d := d) (l := g_nl g + 2) (by omega) (by omega) hv q
  generalize hG6 : w_put (g_nl g + 2) (w_ctx 0 0 (g_nl g) (g_nl g + 1) G4) = G6 at *
  have m7 := wV_mono nt 40 (nA nt a) 3 (g_nl g) G6
  generalize hG7 : wV nt 40 (nA nt a) 3 (g_nl g) G6 = G7 at *
  have m8 : wM G7 (w_aln (wS nt f) b G7) := (wM.rf G7).aln (wS_mono nt f) _
  generalize hG8 : w_aln (wS nt f) b G7 = G8 at *
  have m9 : wM G8 (w_put (g_nl g + 1) G8) := (wM.rf G8).put _
  generalize hG9 : w_put (g_nl g + 1) G8 = G9 at *
  obtain ⟨-, dd, r, hcx, hwk, hwr⟩ := wM.in_ (g := G4) (c := (0, 0, g_nl g, g_nl g + 1, g_nx G4, (g_it G4).length, [])) (((mc.tr m7).tr m8).tr m9)
  have hps : c_ps dd = [] := hwk.2.1 (by show 0 < 2; decide)
  have hk1 : dd.1 ≤ 1 := by
    have e1 : dd.1 = 0 := by have := congrArg Prod.fst hwk.1; exact this
    omega
  have hsh : g_cx (w_shut G9) = r := by show (g_cx G9).tail = r; rw [hcx]; rfl
  have mS9 : wM (w_shut G9) (w_aln (wS nt f) (nB nt a) (w_shut G9)) := (wM.rf _).aln (wS_mono nt f) _
  have nlS : g_nl (w_shut G9) = g_nl G9 := rfl
  simp only [hcx] at hok ⊢
  generalize hGA : w_aln (wS nt f) (nB nt a) (w_shut G9) = GA at *
  have nlA : g_nl (s_cx (dd :: g_cx GA) GA) = g_nl GA := rfl
  have mB : wM (s_cx (dd :: g_cx GA) GA) (w_go (g_nl g + 2) (s_cx (dd :: g_cx GA) GA)) := (wM.rf _).go _
  have okA : g_ok (s_cx (dd :: g_cx GA) GA) → g_ok GA := fun q => q
  have cxB : g_cx (w_go (g_nl g + 2) (s_cx (dd :: g_cx GA) GA)) = dd :: g_cx GA := (wU_go _ _).2.2.2.2.1
  have clA : ∀ c, c ∈ g_cx GA → w_cl (g_nl g) c := w_cl.wK mS9.2.2.2.2.2.1 (by rw [hsh]; exact w_cl.wK hwr hcl4)
  have ckS : ∀ c, c ∈ g_cx (w_shut G9) → w_cok nt N c := by
    rw [hsh]
    exact w_cok.wK hwr (by rw [cx]; exact hC)
  generalize hGC : s_cx (dd :: g_cx GA) GA = GC at *
  generalize hGB : w_go (g_nl g + 2) GC = GB at *
  have mZ : wM (w_shut GB) (w_sl false (g_nl g) (w_put (g_nl g) (w_sl false (g_nl g + 1) (w_sl false (g_nl g + 2) (w_shut GB))))) := ((((wM.rf _).sl _ _).sl _ _).put _).sl _ _
  have okB : g_ok GB := mZ.1 hok
  have okA := okA (mB.1 okB)
  have ok9 : g_ok G9 := mS9.1 okA
  have ok8 := m9.1 ok9
  have ok7 := m8.1 ok8
  have ok6 := m7.1 ok7
  have ok4 : g_ok G4 := okc (mc.1 ok6)
  obtain ⟨i1, i2, i3, lm3, lv3, ct3, z, ez, qz, m3, -, m67, hall, old, fz, z0, tz⟩ := op ok4
  obtain ⟨mo, mt⟩ := m67 (by decide)
  have hK2 : K < 2000 := by omega
  have nn7 := m7.nl
  have nn8 := m8.nl
  have nn9 := m9.nl
  have nnA := mS9.nl
  have nnB := mB.nl
  rw [eX0_loop, ez]
  refine KS.from ?_ fz (fun _ => ⟨x0, tz⟩) old
  have jp := jp0 (hall _ (by omega) (by omega)).1 qz
  rw [mt] at jp
  refine KS.b (by omega) (Nat.le_succ K) jp (fun V6 C6 lm6 lv6 ct6 x6 q6 v6 c6 l6 f6 mm6 => ?_)
  have l6 : ∀ l, l < g_nl g + 3 → lm6 l = lm3 l ∧ lv6 l = lv3 l ∧ ct6 l = ct3 l := fun l hl => l6 l (by omega)
  have hk1' : x6.1 1 n.toNatClampNeg = 69 := by rw [q6.T.1]; exact hkn
  rw [q6.nd hn, hk1', if_neg (by decide), q6.nd hn, if_neg (by decide), bX0_loop_106, if_pos rfl, bX0_loop_122, if_pos rfl, q6.nd na, q6.T.2.1, bX0_loop_138]
  have jc := KS.cnd (d := d) (by omega) hT ea ta false (l := g_nl g) (by omega) (by rw [(l6 _ (by omega)).2.1]; exact (hall _ (by omega) (by omega)).1) q6 (by show g_ok (wV nt 40 (nA nt a) 3 (g_nl g) G6); rw [hG7]; exact ok7)
  have jc : KS nt N P hp H O (K + 1) (200 - f) (sb + 1) (g_nl G6) (z_skl V6) C6 ct6 G6 (kX0 d 65 [.ref 0, .int (nA nt a), .int (0 : Int32), .int (nI i3)] x6) x6 lm6 lv6 G7 := by rw [← hG7, ← m3, ← (l6 _ (show g_nl g < g_nl g + 3 by omega)).1]; exact jc
  refine KS.b (by omega) (Nat.le_succ K) jc (fun V7 C7 lm7 lv7 ct7 x7 q7 v7 c7 l7 f7 mm7 => ?_)
  have l7 : ∀ l, l < g_nl g + 3 → lm7 l = lm3 l ∧ lv7 l = lv3 l ∧ ct7 l = ct3 l := fun l hl => by
    have p := l7 l (by omega)
    have q := l6 l hl
    exact ⟨p.1.trans q.1, p.2.1.trans q.2.1, p.2.2.trans q.2.2⟩
  have jb := KS.alone (R _ sB) (d := d) (by omega) (by omega) q7 (w_cok.wK (mc.tr m7).2.2.2.2.2.1 ck) (by rw [hG8]; exact ok8)
  rw [hG8] at jb
  refine KS.b (by omega) (Nat.le_succ K) jb (fun V8 C8 lm8 lv8 ct8 x8 q8 v8 c8 l8 f8 mm8 => ?_)
  have l8 : ∀ l, l < g_nl g + 3 → lm8 l = lm3 l ∧ lv8 l = lv3 l ∧ ct8 l = ct3 l := fun l hl => by
    have p := l8 l (by omega)
    have q := l7 l hl
    exact ⟨p.1.trans q.1, p.2.1.trans q.2.1, p.2.2.trans q.2.2⟩
  rw [if_pos rfl]
  have jq := KS.put (d := d) (l := g_nl g + 1) (by omega) (by omega) (by rw [(l8 _ (by omega)).2.1]; exact (hall _ (by omega) (by omega)).1) q8
  rw [hG9, (l8 _ (by omega)).1, mo] at jq
  refine KS.b (by omega) (Nat.le_succ K) jq (fun V9 C9 lm9 lv9 ct9 x9 q9 v9 c9 l9 f9 mm9 => ?_)
  have l9 : ∀ l, l < g_nl g + 3 → lm9 l = lm3 l ∧ lv9 l = lv3 l ∧ ct9 l = ct3 l := fun l hl => by
    have p := l9 l (by omega)
    have q := l8 l hl
    exact ⟨p.1.trans q.1, p.2.1.trans q.2.1, p.2.2.trans q.2.2⟩
  have vs : z_skl V9 = (K, x.1 0 59) :: z_skl V := by rw [v9, v8, v7, v6]; rfl
  cases V9 with
  | nil => simp [z_skl] at vs
  | cons s V9 =>
    have w1 : (s.1, s.2.1) = (K, x.1 0 59) := by injection vs
    have w2 : z_skl V9 = z_skl V := by injection vs
    have w3 : s.1 = K := congrArg Prod.fst w1
    have hc := q9.2.1.1
    rw [hcx] at hc
    have hd0 : s.2.2 = dd := by injection hc
    have h51 : x9.1 51 K = s.2.1 := by have := (q9.sk (s := s) (by simp)).2.1; rw [w3] at this; exact this
    rw [n2 hK2, q9.nd na, nI_clamp (by omega), h51, q9.T.2.2.1]
    have ja := k_aside (d := d) (by omega) (by omega) (R _ sn) q9 (by rw [hd0]; exact hps) (by rw [hd0]; exact hk1) ckS (by rw [hGA]; exact okA)
    rw [hGA, hd0, hGC] at ja
    have jr : ∀ kk : mj_X → mj_R, (mj_rV (kX0 d 75 [.ref 0, .int (nB nt a)] (mj_wI x9 0 59 s.2.1)) fun x4 => kk (mj_wI x4 0 59 (x9.1 0 59))) = mj_rV (mj_rV (kX0 d 75 [.ref 0, .int (nB nt a)] (mj_wI x9 0 59 s.2.1)) fun x4 => some (none, mj_wI x4 0 59 (x9.1 0 59))) kk := by
      intro kk
      obtain ⟨VA, CA, lmA, lvA, ctA, xA, eA, -⟩ := ja
      cases hz : kX0 d 75 [.ref 0, .int (nB nt a)] (mj_wI x9 0 59 s.2.1) with
      | none => rw [hz] at eA; cases eA
      | some p =>
        obtain ⟨v, z⟩ := p
        cases v with
        | none => rfl
        | some w => rw [hz] at eA; cases eA
    have je := jr (fun x4 => mj_rV (kX0 d 66 [.ref 0, .int (nI i1)] x4) fun x5 => rX0_loop d (199, [some (.ref 0), some (.int n), some (.int a), some (.int b), some (.int (nI i1)), some (.int (nI i2)), some (.int (nI i3)), some (.int (nI K)), some (.int (0 : Int32)), some (.int (x9.1 0 59))], [], x5))
    refine (congrArg (fun r => KS nt N P hp H O K (200 - f) (sb + 1) (g_nl g) (z_skl V) C9 ct9 G9 r x9 lm9 lv9 (w_sl false (g_nl g) (w_put (g_nl g) (w_sl false (g_nl g + 1) (w_sl false (g_nl g + 2) (w_shut GB)))))) je).mpr ?_
    refine KS.b (by omega) (Nat.le_succ K) ja (fun VA CA lmA lvA ctA xA qA vA cA lA fA mmA => ?_)
    have lA : ∀ l, l < g_nl g + 3 → lmA l = lm3 l ∧ lvA l = lv3 l ∧ ctA l = ct3 l := fun l hl => by
      have p := lA l (by omega)
      have q := l9 l hl
      exact ⟨p.1.trans q.1, p.2.1.trans q.2.1, p.2.2.trans q.2.2⟩
    have jg := KS.go (d := d) (l := g_nl g + 2) (by omega) (by omega) (by rw [(lA _ (by omega)).2.1]; exact (hall _ (by omega) (by omega)).1) qA
    rw [hGB, (lA _ (by omega)).1, mt] at jg
    refine KS.b (by omega) (Nat.le_succ K) jg (fun VB CB lmB lvB ctB xB qB vB cB lB fB mmB => ?_)
    have lB : ∀ l, l < g_nl g + 3 → lmB l = lm3 l ∧ lvB l = lv3 l ∧ ctB l = ct3 l := fun l hl => by
      have p := lB l (by omega)
      have q := lA l hl
      exact ⟨p.1.trans q.1, p.2.1.trans q.2.1, p.2.2.trans q.2.2⟩
    have live : ∀ l, g_nl g ≤ l → l < g_nl g + 3 → lvB l = true ∧ ctB l = false := fun l h1 h2 => by
      have p := lB l h2
      have q := hall l h1 h2
      exact ⟨p.2.1.trans q.1, p.2.2.trans q.2⟩
    have nB' : g_nl g + 3 ≤ g_nl GB := by omega
    exact k_ltail (hr := x.1 0 59) (by omega) (l1 := g_nl g + 2) (l2 := g_nl g + 1) qB (by rw [vB, vA]; exact vs) ⟨dd, _, cxB, hps, clA⟩ hclH (by omega) (by omega) (by omega) (by omega) (by omega) (live _ (by omega) (by omega)) (live _ (by omega) (by omega)) (live _ (by omega) (by omega)) (by rw [(lB _ (by omega)).1, mt]) (by rw [(lB _ (by omega)).1, mo]) (by rw [(lB _ (by omega)).1, m3])
/-- the statement itself -/
theorem k_s67 {d : Nat} (hd : 6 * f + 263 ≤ d) (hT : wTb nt N M res par) (hA : wA nt N 40 n) (hk : nK nt n = 67 ∨ nK nt n = 68 ∨ nK nt n = 69) (hf : f + 1 ≤ 200) (x0 : x.1 0 29 = 0) (R : ∀ m, wA nt N 40 m → kS nt N f m) (hC : ∀ c, c ∈ g_cx g → w_cok nt N c) (hK : K ≤ 200 - (f + 1)) (hs : sb + 1 ≤ 2000000000) (h : Y2 nt N P hp H O K (200 - f) sb C none V lm lv ct x g) (hok : g_ok (w_bd nt (wV nt 40) (wS nt f) n g)) :
    KS nt N P hp H O K (200 - (f + 1)) (sb + 1) (g_nl g) (z_skl V) C ct g (rX0_act d (363, [some (.ref 0), some (.int n), some (.int (nA nt n)), some (.int (nB nt n)), none, none, none], [], x)) x lm lv (w_bd nt (wV nt 40) (wS nt f) n g) := by
  have up : ∀ {m : Int32} {a : Nat}, a ≤ 40 → wA nt N a m → wA nt N 40 m := fun hm q => ⟨q.1, q.2.1, by have := q.2.2; omega⟩
  refine KS.wrap (bX0_act_363 _ _ _ _ _) ?_ hs hK hf
  rcases hk with hk | hk | hk
  · have e : w_bd nt (wV nt 40) (wS nt f) n g = w_loop nt (wV nt 40) (wS nt f) 67 (nA nt n) (nB nt n) g := by unfold w_bd; simp only [hk]; rfl
    rw [e] at hok ⊢
    obtain ⟨e1, e2, e3⟩ := wE_while hT hA.1 hA.2.2 hk
    exact k_while hd (by omega) hA.1 hk hT (e1.mono (by omega)) e2 (up (by omega) e3) x0 R hC (by omega) hs h hok
  · have e : w_bd nt (wV nt 40) (wS nt f) n g = w_loop nt (wV nt 40) (wS nt f) 68 (nA nt n) (nB nt n) g := by unfold w_bd; simp only [hk]; rfl
    rw [e] at hok ⊢
    obtain ⟨e1, e2, e3⟩ := wE_until hT hA.1 hA.2.2 hk
    exact k_until hd (by omega) hA.1 hk hT (up (by omega) e1) (e2.mono (by omega)) e3 x0 R hC (by omega) hs h hok
  · have e : w_bd nt (wV nt 40) (wS nt f) n g = w_loop nt (wV nt 40) (wS nt f) 69 (nA nt n) (nB nt n) g := by unfold w_bd; simp only [hk]; rfl
    rw [e] at hok ⊢
    obtain ⟨e1, e2, e3, e4⟩ := wE_for hT hA.1 hA.2.2 hk
    obtain ⟨p1, p2, p3⟩ := wE_head (f := 38) hT e1 e2 e3
    exact k_for hd (by omega) hA.1 hk hT e1 (p1.mono (by omega)) p2 (up (by omega) p3) (up (by omega) e4) x0 R hC (by omega) hs h hok
end
