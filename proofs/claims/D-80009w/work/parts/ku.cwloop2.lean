/-! CodeWriter: statements: loops, their other kinds -/
theorem wV_q2 {nt : sp_NT} {n : Int32} {l : Nat} {g : wG} (hq : w_q g = true) : wV nt 40 n 2 l g = g := w_cd_q hq
section
variable {nt : sp_NT} {N M : Nat} {P : yP} {hp : Nat} {H V : List wSl} {O : List (Int32 × List (Nat × Nat))} {K u sb : Nat} {C : Nat → Prop} {o : Option Int32} {lm lm' lm1 : Nat → Nat} {lv lv' lv1 ct ct' : Nat → Bool} {x y x1 : mj_X} {g G : wG} {res par : Nat → Int32} {f : Nat} {n : Int32}
/-- a condition that is walked when something is written -/
theorem KS.cndq {d : Nat} (hd : 253 ≤ d) (hT : wTb nt N M res par) {n : Int32} (hE : wE nt N 40 n) (ht : nT nt n = 1) {l : Nat} (hl : l < g_nl g) (hv : lv l = true) (h : Y2 nt N P hp H O K u sb C none V lm lv ct x g) (hok : g_ok (wV nt 40 n 2 l g)) :
    KS nt N P hp H O K u sb (g_nl g) (z_skl V) C ct g (if x.1 0 30 = 0 then some (none, x) else kX0 d 65 [.ref 0, .int n, .int (1 : Int32), .int (nI (lm l))] x) x lm lv (wV nt 40 n 2 l g) := by
  by_cases a0 : x.1 0 30 = 0
  · rw [if_pos a0]
    by_cases h0 : x.1 0 29 = 0
    · have hq : w_q g = true := (h.dead (Or.inl a0) h0).2.2
      rw [wV_q2 hq]; exact KS.id_ h
    · exact KS.skip h h0 (wV_mono nt 40 n 2 l g) (Nat.le_refl _)
  · rw [if_neg a0]
    exact KS.cnd hd hT hE ht true hl hv h hok
set_option maxHeartbeats 4000000 in
theorem k_until {d : Nat} (hd : 6 * f + 263 ≤ d) (hf : f ≤ 200) {a b : Int32} (hn : sp_nd N n = true) (hkn : nK nt n = 68) (hT : wTb nt N M res par) (sA : wA nt N 40 a) (eb : wE nt N 40 b) (tb : nT nt b = 1) (x0 : x.1 0 29 = 0) (R : ∀ m, wA nt N 40 m → kS nt N f m) (hC : ∀ c, c ∈ g_cx g → w_cok nt N c) (hKu : K + 1 ≤ 200 - f) (hs : sb + 1 ≤ 2000000000) (h : Y2 nt N P hp H O K (200 - f) sb C none V lm lv ct x g)
    (hok : g_ok (w_loop nt (wV nt 40) (wS nt f) 68 a b g)) :
    KS nt N P hp H O K (200 - f) (sb + 1) (g_nl g) (z_skl V) C ct g (kX0 d 77 [.ref 0, .int n, .int a, .int b] x) x lm lv (w_loop nt (wV nt 40) (wS nt f) 68 a b g) := by
  obtain ⟨d, rfl⟩ : ∃ e, d = e + 1 := ⟨d - 1, by omega⟩
  obtain ⟨hcl, hclH⟩ := h.cl x0
  have e : w_loop nt (wV nt 40) (wS nt f) 68 a b g = w_sl false (g_nl g) (w_put (g_nl g) (w_sl false (g_nl g + 1) (w_sl false (g_nl g + 2) (w_shut (wV nt 40 b 2 (g_nl g + 2) (w_put (g_nl g + 1) (w_aln (wS nt f) a (w_put (g_nl g + 2) (w_ctx 0 0 (g_nl g) (g_nl g + 1) (w_lbl 68 (g_L g, []) g)))))))))) := rfl
  rw [e] at hok ⊢
  clear e
  obtain ⟨nl, nx, it, cx⟩ := w_lbl_f 68 (g_L g, []) g
  have mL : wM g (w_lbl 68 (g_L g, []) g) := (wM.rf g).lbl 68 _
  have op := fun okL => k_lopen (n := n) (d := d) (cc := g_nl g + 1) (k := 68) (by omega) (by rw [if_neg (by decide)]) hKu hs h x0 okL
  generalize hG4 : w_lbl 68 (g_L g, []) g = G4 at *
  have okc : g_ok (w_ctx 0 0 (g_nl g) (g_nl g + 1) G4) → g_ok G4 := fun q => q
  have n5 : g_nl (w_ctx 0 0 (g_nl g) (g_nl g + 1) G4) = g_nl g + 3 := nl
  have mc : wM (w_ctx 0 0 (g_nl g) (g_nl g + 1) G4) (w_put (g_nl g + 2) (w_ctx 0 0 (g_nl g) (g_nl g + 1) G4)) := (wM.rf _).put _
  have ck : ∀ c, c ∈ g_cx (w_ctx 0 0 (g_nl g) (g_nl g + 1) G4) → w_cok nt N c := by
    intro c hc
    rcases List.mem_cons.mp hc with rfl | hc
    · exact ⟨fun q => absurd q (by show ¬ (0 : Nat) = 3; decide), fun q => absurd q (by show ¬ (0 : Nat) = 4; decide)⟩
    · rw [cx] at hc; exact hC c hc
  have hcl4 : ∀ c, c ∈ g_cx G4 → w_cl (g_nl g) c := by rw [cx]; exact hcl
  have nl6 : g_nl (w_put (g_nl g + 2) (w_ctx 0 0 (g_nl g) (g_nl g + 1) G4)) = g_nl g + 3 := w_put_s.2.2.2.1.trans nl
  have jp0 := fun {lm3 lv3 ct3 z sk} (hv) (q : Y2 nt N P hp H O (K + 1) (200 - f) (sb + 1) C none sk lm3 lv3 ct3 z (w_ctx 0 0 (g_nl g) (g_nl g + 1) G4)) => KS.put (d := d) (l := g_nl g + 2) (by omega) (by omega) hv q
  generalize hG6 : w_put (g_nl g + 2) (w_ctx 0 0 (g_nl g) (g_nl g + 1) G4) = G6 at *
  have m7 : wM G6 (w_aln (wS nt f) a G6) := (wM.rf G6).aln (wS_mono nt f) _
  generalize hG7 : w_aln (wS nt f) a G6 = G7 at *
  have m8 : wM G7 (w_put (g_nl g + 1) G7) := (wM.rf G7).put _
  generalize hG8 : w_put (g_nl g + 1) G7 = G8 at *
  have m9 := wV_mono nt 40 b 2 (g_nl g + 2) G8
  generalize hG9 : wV nt 40 b 2 (g_nl g + 2) G8 = G9 at *
  have mZ : wM (w_shut G9) (w_sl false (g_nl g) (w_put (g_nl g) (w_sl false (g_nl g + 1) (w_sl false (g_nl g + 2) (w_shut G9))))) := ((((wM.rf _).sl _ _).sl _ _).put _).sl _ _
  have ok9 : g_ok G9 := mZ.1 hok
  have ok8 := m9.1 ok9
  have ok7 := m8.1 ok8
  have ok6 := m7.1 ok7
  have ok4 : g_ok G4 := okc (mc.1 ok6)
  obtain ⟨i1, i2, i3, lm3, lv3, ct3, z, ez, qz, m3, -, m67, hall, old, fz, z0, tz⟩ := op ok4
  obtain ⟨mo, mt⟩ := m67 (by decide)
  have hK2 : K < 2000 := by omega
  have nn7 := m7.nl
  have nn8 := m8.nl
  have nn9 := m9.nl
  rw [eX0_loop, ez]
  refine KS.from ?_ fz (fun _ => ⟨x0, tz⟩) old
  have jp := jp0 (hall _ (by omega) (by omega)).1 qz
  rw [mt] at jp
  refine KS.b (by omega) (Nat.le_succ K) jp (fun V6 C6 lm6 lv6 ct6 x6 q6 v6 c6 l6 f6 mm6 => ?_)
  have l6 : ∀ l, l < g_nl g + 3 → lm6 l = lm3 l ∧ lv6 l = lv3 l ∧ ct6 l = ct3 l := fun l hl => l6 l (by omega)
  have hk1 : x6.1 1 n.toNatClampNeg = 68 := by rw [q6.T.1]; exact hkn
  rw [q6.nd hn, hk1, if_pos rfl]
  have jb := KS.alone (R _ sA) (d := d) (by omega) (by omega) q6 (w_cok.wK mc.2.2.2.2.2.1 ck) (by rw [hG7]; exact ok7)
  rw [hG7] at jb
  refine KS.b (by omega) (Nat.le_succ K) jb (fun V7 C7 lm7 lv7 ct7 x7 q7 v7 c7 l7 f7 mm7 => ?_)
  have l7 : ∀ l, l < g_nl g + 3 → lm7 l = lm3 l ∧ lv7 l = lv3 l ∧ ct7 l = ct3 l := fun l hl => by
    have p := l7 l (by omega)
    have q := l6 l hl
    exact ⟨p.1.trans q.1, p.2.1.trans q.2.1, p.2.2.trans q.2.2⟩
  have jq := KS.put (d := d) (l := g_nl g + 1) (by omega) (by omega) (by rw [(l7 _ (by omega)).2.1]; exact (hall _ (by omega) (by omega)).1) q7
  rw [hG8, (l7 _ (by omega)).1, mo] at jq
  refine KS.b (by omega) (Nat.le_succ K) jq (fun V8 C8 lm8 lv8 ct8 x8 q8 v8 c8 l8 f8 mm8 => ?_)
  have l8 : ∀ l, l < g_nl g + 3 → lm8 l = lm3 l ∧ lv8 l = lv3 l ∧ ct8 l = ct3 l := fun l hl => by
    have p := l8 l (by omega)
    have q := l7 l hl
    exact ⟨p.1.trans q.1, p.2.1.trans q.2.1, p.2.2.trans q.2.2⟩
  have jc := KS.cndq (d := d) (by omega) hT eb tb (l := g_nl g + 2) (by omega) (by rw [(l8 _ (by omega)).2.1]; exact (hall _ (by omega) (by omega)).1) q8 (by rw [hG9]; exact ok9)
  rw [hG9, (l8 _ (by omega)).1, mt] at jc
  have tail : ∀ V9 C9 lm9 lv9 ct9 x9, Y2 nt N P hp H O (K + 1) (200 - f) (sb + 1) C9 none V9 lm9 lv9 ct9 x9 G9 → z_skl V9 = z_skl V8 → (∀ l, l < g_nl G8 → lm9 l = lm8 l ∧ lv9 l = lv8 l ∧ ct9 l = ct8 l) → ∀ o8 o9, KS nt N P hp H O K (200 - f) (sb + 1) (g_nl g) (z_skl V) C9 ct9 G9 (rX0_loop d (199, [some (.ref 0), some (.int n), some (.int a), some (.int b), some (.int (nI i1)), some (.int (nI i2)), some (.int (nI i3)), some (.int (nI K)), o8, o9], [], x9)) x9 lm9 lv9 (w_sl false (g_nl g) (w_put (g_nl g) (w_sl false (g_nl g + 1) (w_sl false (g_nl g + 2) (w_shut G9))))) := by
    intro V9 C9 lm9 lv9 ct9 x9 q9 v9 l9 o8 o9
    have l9 : ∀ l, l < g_nl g + 3 → lm9 l = lm3 l ∧ lv9 l = lv3 l ∧ ct9 l = ct3 l := fun l hl => by
      have p := l9 l (by omega)
      have q := l8 l hl
      exact ⟨p.1.trans q.1, p.2.1.trans q.2.1, p.2.2.trans q.2.2⟩
    have live : ∀ l, g_nl g ≤ l → l < g_nl g + 3 → lv9 l = true ∧ ct9 l = false := fun l h1 h2 => by
      have p := l9 l h2
      have q := hall l h1 h2
      exact ⟨p.2.1.trans q.1, p.2.2.trans q.2⟩
    have n9 : g_nl g + 3 ≤ g_nl G9 := by omega
    exact k_ltail (hr := x.1 0 59) (by omega) (l1 := g_nl g + 2) (l2 := g_nl g + 1) q9 (by rw [v9, v8, v7, v6]; rfl) (w_cl_ctx (((mc.tr m7).tr m8).tr m9) hcl4) hclH (by omega) (by omega) (by omega) (by omega) (by omega) (live _ (by omega) (by omega)) (live _ (by omega) (by omega)) (live _ (by omega) (by omega)) (by rw [(l9 _ (by omega)).1, mt]) (by rw [(l9 _ (by omega)).1, mo]) (by rw [(l9 _ (by omega)).1, m3])
  by_cases a0 : x8.1 0 30 = 0
  · rw [if_pos a0] at jc ⊢
    have := KS.b (n := g_nl g) (S := z_skl V) (k := fun x9 => rX0_loop d (199, [some (.ref 0), some (.int n), some (.int a), some (.int b), some (.int (nI i1)), some (.int (nI i2)), some (.int (nI i3)), some (.int (nI K)), none, none], [], x9)) (by omega) (Nat.le_succ K) jc (fun V9 C9 lm9 lv9 ct9 x9 q9 v9 c9 l9 f9 mm9 => tail V9 C9 lm9 lv9 ct9 x9 q9 v9 l9 none none)
    rw [mj_rV_k] at this
    exact this
  · rw [if_neg a0] at jc ⊢
    exact KS.b (by omega) (Nat.le_succ K) jc (fun V9 C9 lm9 lv9 ct9 x9 q9 v9 c9 l9 f9 mm9 => tail V9 C9 lm9 lv9 ct9 x9 q9 v9 l9 none none)
end
