/-! statements of CodeWriterModel: try, finally, locks -/
section
variable {nt : sp_NT} {N M : Nat} {w : Bool} {ba pf rf lf c hp : Nat} {H V : List wSl} {K u : Nat} {o : Option Int32} {lm lm' : Nat → Nat} {lv lv' : Nat → Bool} {x y : mj_X} {g G : wG} {res par : Nat → Int32} {f : Nat} {n : Int32}
/-- a guarded part: its context is opened, it is written, its last piece is cut, the context is put aside -/
theorem m_guard {d sort : Nat} (hd : 6 * f + 261 ≤ d) (hc1 : 83 ≤ c) (hc2 : c ≤ 3990) (hf : f ≤ 200) (h2 : 2 ≤ sort) (h4 : sort ≤ 4) {a node a3 : Int32} (sa : wA nt N 40 a) (hnode : w_cok nt N (sort, node, 0, 0, g_nx g, (g_it g).length, [])) (R : ∀ m, wA nt N 40 m → mS nt N M w ba pf rf lf c f m) (hC : ∀ c, c ∈ g_cx g → w_cok nt N c) (hKu : K < 200 - f) (h : Q2 nt N M w ba pf rf lf c hp H K (200 - f) none V lm lv x g)
    {e65 : Bool} (h65 : 3 ≤ sort → e65 = true) (ha3 : x.1 0 34 = 0 → e65 = true → a3 = node) (hok : g_ok (w_aln (wS nt f) a (w_ctx sort node 0 0 (w_lb (g_L g, []) g)))) {k : Int32 → mj_X → mj_R} {j : Nat} (hj : j ≤ g_nl g) {S : List (Nat × Int32)} {L : wG} {hp' K' u' : Nat} {H' : List wSl}
    (hk : ∀ V1 lm1 lv1 x1 s, Q2 nt N M w ba pf rf lf c (hp + (c_ps s.2.2).length) (s :: H) (K + 1) (200 - f) none V1 lm1 lv1 x1 (w_shut (w_aln (wS nt f) a (w_ctx sort node 0 0 (w_lb (g_L g, []) g)))) → s.1 = K → s.2.2.1 = sort → s.2.2.2.1 = node → s.2.2.2.2.2.2.1 = g_nx g → (∃ c0 r0, g_cx (w_aln (wS nt f) a (w_ctx sort node 0 0 (w_lb (g_L g, []) g))) = c0 :: r0 ∧ s.2.2 = w_pc (g_it (w_aln (wS nt f) a (w_ctx sort node 0 0 (w_lb (g_L g, []) g)))).length c0) → z_skl V1 = z_skl V → z_ch (x1.1 0 59) K V1 →
      (∀ l, l < g_nl g → lm1 l = lm l ∧ lv1 l = lv l) → lv1 (g_nl g) = true → J2 nt N M w ba pf rf lf c hp' H' K' u' j S (k (nI (lm1 (g_nl g))) x1) x1 lm1 lv1 L) :
    J2 nt N M w ba pf rf lf c hp' H' K' u' j S (mj_rI (kX1 d 81 [.ref 0, .int (nI sort)] x) fun v2 x1 => mj_g v2 4000 (mj_rI (kX1 d 45 [.ref 0] (bif e65 then mj_wI x1 65 v2.toNatClampNeg a3 else x1)) fun v4 x3 => mj_rV (kX1 d 37 [.ref 0, .int a] x3) fun x5 => mj_rV (kX1 d 86 [.ref 0, .int v2] x5) fun x6 => mj_rV (kX1 d 82 [.ref 0, .int v2] x6) fun x7 => k v4 x7)) x lm lv L := by
  have hK4 : K < 4000 := by have := h.2.2.1.2.2.2.1; omega
  obtain ⟨y, ho, qy, fy, y59, y61, y62, y66, y67, y68, y69⟩ := h.opn (t := nI sort) hKu
  rw [ho d (by omega), mj_rI_k, nI_nd hK4, nI_cl hK4]
  have n1 : g_nl (w_lb (g_L g, []) g) = g_nl g + 1 := rfl
  have nx1 : g_nx (w_lb (g_L g, []) g) = g_nx g := rfl
  have it1 : g_it (w_lb (g_L g, []) g) = g_it g := rfl
  have cx1 : g_cx (w_lb (g_L g, []) g) = g_cx g := rfl
  generalize hg1 : w_lb (g_L g, []) g = g1 at *
  have hctx : w_ctx sort node 0 0 g1 = s_cx ((sort, node, 0, 0, g_nx g1, (g_it g1).length, []) :: g_cx g1) g1 := rfl
  have m2 : wM (w_ctx sort node 0 0 g1) (w_aln (wS nt f) a (w_ctx sort node 0 0 g1)) := (wM.rf _).aln (wS_mono nt f) _
  have ok1 : g_ok g1 := m2.1 hok
  have ck : ∀ c, c ∈ g_cx (w_ctx sort node 0 0 g1) → w_cok nt N c := by
    intro c hc
    rcases List.mem_cons.mp hc with rfl | hc
    · unfold w_cok at *; exact hnode
    · rw [cx1] at hc; exact hC c hc
  refine J2.pre ?_ (zk_zw2 fy) (fun q => by rw [fy.2 0 34 rfl]; exact q)
  have by0 : y.1 0 34 = 0 → x.1 0 34 = 0 := fun q => by rw [fy.2 0 34 rfl] at q; exact q
  -- the end is kept
  have f65 : zfr (zk K) y (bif e65 then mj_wI y 65 K a3 else y) := by
    cases e65
    · exact zfr.rf _ y
    · exact (zfr.rf _ y).w _ (zkk K 65 rfl)
  have q65 : Q2 nt N M w ba pf rf lf c hp H (K + 1) (200 - f) (some (x.1 0 59)) V lm lv (bif e65 then mj_wI y 65 K a3 else y) g := by
    refine qy.ofzk (k := K) f65 (fun s hs => (h.lt hs).1) ?_ (Nat.le_succ _) qy.2.2.1.2.2.1 qy.2.2.1.2.2.2.2.2.1
    cases e65
    · exact qy.2.2.1.2.1
    · exact qy.2.2.1.2.1
  have e34 : (bif e65 then mj_wI y 65 K a3 else y).1 0 34 = y.1 0 34 := by cases e65 <;> rfl
  have E65 : ∀ b, [61, 62, 66, 67, 68, 69].elem b = true → (bif e65 then mj_wI y 65 K a3 else y).1 b K = y.1 b K := by
    intro b hb
    have : b = 61 ∨ b = 62 ∨ b = 66 ∨ b = 67 ∨ b = 68 ∨ b = 69 := by simpa using hb
    cases e65
    · rfl
    · rcases this with rfl | rfl | rfl | rfl | rfl | rfl <;> rfl
  have e59 : (bif e65 then mj_wI y 65 K a3 else y).1 0 59 = y.1 0 59 := by cases e65 <;> rfl
  have e65' : e65 = true → (bif e65 then mj_wI y 65 K a3 else y).1 65 K = a3 := fun q => by subst q; exact pk_us
  refine J2.pre ?_ (zk_zw2 f65) (fun q => by rw [e34]; exact q)
  generalize hy2 : (bif e65 then mj_wI y 65 K a3 else y) = y2 at *
  refine J2.lb (F := (g_L g, [])) (by omega) (by omega) (by omega) q65 (by rw [hg1]; exact ok1) hj (fun lm1 lv1 x1 q1 w1 a1 f1 mm1 => ?_)
  rw [hg1] at q1
  have back : x1.1 0 34 = 0 → x.1 0 34 = 0 := fun q => by0 (by rw [← e34]; exact Decidable.byContradiction fun p => mm1 p q)
  have q2 : Q2 nt N M w ba pf rf lf c hp H (K + 1) (200 - f) none ((K, x.1 0 59, (sort, node, 0, 0, g_nx g1, (g_it g1).length, [])) :: V) lm1 lv1 x1 (w_ctx sort node 0 0 g1) := by
    refine q1.ctx (k := K) (Nat.lt_succ_self _) (fun s hs => by have := (h.lt hs).1; omega) h.2.2.1.2.2.2.2.2.1 ?_ ?_ h4 ?_ ?_ ?_ (fun h0 => ⟨?_, ?_, fun q => by omega, fun q => by omega, fun q => ?_⟩)
    · rw [f1.2 0 59 rfl, e59]; exact y59
    · rw [f1.2 61 K rfl, E65 61 rfl]; exact y61
    · rw [f1.2 62 K rfl, E65 62 rfl]; exact y62
    · rw [f1.2 68 K rfl, E65 68 rfl]; exact y68
    · rw [f1.2 69 K rfl, E65 69 rfl]; exact y69
    · rw [f1.2 66 K rfl, E65 66 rfl, y66, nx1]; exact (h.ex (back h0)).2.1.1
    · rw [f1.2 67 K rfl, E65 67 rfl, y67, it1]
      exact ((h.ex (back h0)).1.2.2.resolve_right (fun p => absurd (back h0) (by rw [p.1.1]; decide))).2.2.1.2.2.1
    · rw [f1.2 65 K rfl, e65' (h65 q)]; exact ha3 (back h0) (h65 q)
  refine J2.b (n1 := g_nl g1) (by omega) (J2.block (g := w_ctx sort node 0 0 g1) (R _ sa) (d := d) (by omega) (by omega) q2 ck hok) (fun V3 lm3 lv3 x3 q3 v3 l3 f3 mm3 => ?_)
  have vs : z_skl V3 = (K, x.1 0 59) :: z_skl V := by rw [v3]; rfl
  obtain ⟨-, dd, r, hcx, hwk, hwr⟩ := wM.in_ (g := g1) (c := (sort, node, 0, 0, g_nx g1, (g_it g1).length, [])) m2
  generalize hG : w_aln (wS nt f) a (w_ctx sort node 0 0 g1) = G3 at *
  cases V3 with
  | nil => simp [z_skl] at vs
  | cons s V3 =>
    have e1 : (s.1, s.2.1) = (K, x.1 0 59) := by injection vs
    have e2 : z_skl V3 = z_skl V := by injection vs
    have e3 : s.1 = K := by have := congrArg Prod.fst e1; exact this
    have e4 : s.2.1 = x.1 0 59 := by have := congrArg Prod.snd e1; exact this
    have hcc := q3.2.2.1.1
    rw [hcx] at hcc
    have hd0 : s.2.2 = dd := by injection hcc
    have hw : wCs s.2.2 = (sort, node, 0, 0, g_nx g1) := by rw [hd0]; exact hwk.1
    have k1 : s.2.2.1 = sort := by have := congrArg Prod.fst hw; exact this
    have hch := q3.2.2.1.2.2.2.2.2.1
    obtain ⟨x4, e5, q4, f4, m4⟩ := m_piece (d := d) (by omega) (by rw [k1]; exact h2) q3
    rw [e3] at e5
    rw [e5, mj_rV_k]
    have h62 : x4.1 62 K = x.1 0 59 := by
      have := (q4.sk (s := (s.1, s.2.1, w_pc (g_it G3).length s.2.2)) (by simp)).2.1
      have this : x4.1 62 s.1 = s.2.1 := this
      rw [e3, e4] at this; exact this
    rw [e_close (by omega) hK4, mj_rV_k, h62]
    have q5 := q4.hide
    have q5 : Q2 nt N M w ba pf rf lf c (hp + (c_ps (w_pc (g_it G3).length s.2.2)).length) ((s.1, s.2.1, w_pc (g_it G3).length s.2.2) :: H) (K + 1) (200 - f) (some s.2.1) V3 lm3 lv3 x4 (w_shut G3) := q5
    have q6 := q5.o2
    rw [e4] at q6
    have c3 : ∀ l, l < g_nl g + 1 → lm3 l = lm1 l ∧ lv3 l = lv1 l := fun l hl => l3 l (by show l < g_nl g1; omega)
    refine J2.pre (y := mj_wI x4 0 59 (x.1 0 59)) ?_ ((zpc_zw2 f4).tr ((zfr.rf _ x4).w _ rfl)) (fun q => m4 q)
    rw [← (c3 _ (Nat.lt_succ_self _)).1]
    have q6 : Q2 nt N M w ba pf rf lf c (hp + (c_ps (s.1, x.1 0 59, w_pc (g_it G3).length s.2.2).2.2).length) ((s.1, x.1 0 59, w_pc (g_it G3).length s.2.2) :: H) (K + 1) (200 - f) none V3 lm3 lv3 (mj_wI x4 0 59 (x.1 0 59)) (w_shut G3) := by rw [← e4]; rw [← e4] at q6; exact q6
    have := hk V3 lm3 lv3 _ (s.1, x.1 0 59, w_pc (g_it G3).length s.2.2) q6 e3 (show (w_pc (g_it G3).length s.2.2).1 = sort from k1) (show s.2.2.2.1 = node from congrArg (fun q => q.2.1) hw) (by show s.2.2.2.2.2.2.1 = g_nx g; rw [show s.2.2.2.2.2.2.1 = g_nx g1 from congrArg (fun q => q.2.2.2.2) hw, nx1]) ⟨dd, r, hcx, by rw [← hd0]⟩ e2 (by show z_ch (x.1 0 59) K V3; rw [← e4, ← e3]; exact hch.2.2) (fun l hl => ⟨(c3 l (by omega)).1.trans (a1 l hl).1, (c3 l (by omega)).2.trans (a1 l hl).2⟩) (by rw [(c3 _ (Nat.lt_succ_self _)).2]; exact w1)
    obtain ⟨Vf, lmf, lvf, xf, ef, qf, vf, lf_, ff, mf⟩ := this
    exact ⟨Vf, lmf, lvf, xf, ef, qf, vf, lf_, ff, mf⟩
theorem m_caught {d : Nat} (hd : 6 * f + 263 ≤ d) (hc1 : 83 ≤ c) (hc2 : c ≤ 3990) (hf : f ≤ 200) {a b : Int32} (hT : wTb nt N M res par) (sa : wA nt N 40 a) (nb : sp_nd N b = true) (kb : nK nt b = 76) (R : ∀ m, wA nt N 40 m → mS nt N M w ba pf rf lf c f m) (hC : ∀ c, c ∈ g_cx g → w_cok nt N c) (hKu : K < 200 - f) (h : Q2 nt N M w ba pf rf lf c hp H K (200 - f) none V lm lv x g)
    (hok : g_ok (w_try nt (wS nt f) a b g)) :
    J2 nt N M w ba pf rf lf c hp H K (200 - f) (g_nl g) (z_skl V) (kX1 d 91 [.ref 0, .int a, .int b] x) x lm lv (w_try nt (wS nt f) a b g) := by
  obtain ⟨d, rfl⟩ : ∃ c, d = c + 1 := ⟨d - 1, by omega⟩
  obtain ⟨l, l1, l2⟩ := hT.chain (Or.inr (Or.inl rfl)) (Or.inr ⟨nb, kb⟩)
  have hch : wCh nt N 40 76 l := by rw [← l2]; exact hT.ch (Or.inr (Or.inl rfl)) 4001 (Or.inr ⟨nb, (hT.d nb).2, kb⟩)
  have hl0 : l ≠ [] := fun q => by rw [q] at l1; have : b = -1 := l1; exact nd_n1 nb this
  have E : ∀ c0 r0, g_cx (w_aln (wS nt f) a (w_ctx 2 0 0 0 (w_lb (g_L g, []) g))) = c0 :: r0 → w_try nt (wS nt f) a b g = w_sl false (g_nl g) (w_put (g_nl g) (w_ctc nt (wS nt f) (g_L g) (c_ps (w_pc (g_it (w_aln (wS nt f) a (w_ctx 2 0 0 0 (w_lb (g_L g, []) g)))).length c0)) (g_nl g) l (w_go (g_nl g) (w_shut (w_aln (wS nt f) a (w_ctx 2 0 0 0 (w_lb (g_L g, []) g))))))) := by
    intro c0 r0 hc
    unfold w_try
    simp only [hc, l2]
  have m2 : wM (w_ctx 2 0 0 0 (w_lb (g_L g, []) g)) (w_aln (wS nt f) a (w_ctx 2 0 0 0 (w_lb (g_L g, []) g))) := (wM.rf _).aln (wS_mono nt f) _
  obtain ⟨-, dd, r, hcx, hwk, hwr⟩ := wM.in_ (g := w_lb (g_L g, []) g) (c := (2, 0, 0, 0, g_nx (w_lb (g_L g, []) g), (g_it (w_lb (g_L g, []) g)).length, [])) m2
  rw [E dd r hcx] at hok ⊢
  have hok2 := ((wM.rf _).sl false (g_nl g)).1 hok
  refine J2.sl ?_ _
  clear hok E
  have cxl : g_cx (w_lb (g_L g, []) g) = g_cx g := rfl
  have n1 : g_nl g + 1 ≤ g_nl (w_aln (wS nt f) a (w_ctx 2 0 0 0 (w_lb (g_L g, []) g))) := m2.2.2.2.2.2.2.1
  have okg : g_ok (w_aln (wS nt f) a (w_ctx 2 0 0 0 (w_lb (g_L g, []) g))) := by
    have : wM (w_shut (w_aln (wS nt f) a (w_ctx 2 0 0 0 (w_lb (g_L g, []) g)))) (w_put (g_nl g) (w_ctc nt (wS nt f) (g_L g) (c_ps (w_pc (g_it (w_aln (wS nt f) a (w_ctx 2 0 0 0 (w_lb (g_L g, []) g)))).length dd)) (g_nl g) l (w_go (g_nl g) (w_shut (w_aln (wS nt f) a (w_ctx 2 0 0 0 (w_lb (g_L g, []) g))))))) := (wM.ctc (wS_mono nt f) _ _ _ l ((wM.rf _).go _)).put _
    exact this.1 hok2
  rw [eX1_caught]
  have key := m_guard (d := d) (sort := 2) (node := 0) (a3 := 0) (e65 := false) (j := g_nl g) (S := z_skl V) (by omega) hc1 hc2 hf (by decide) (by decide) sa ⟨fun q => absurd q (show ¬ (2 : Nat) = 3 by decide), fun q => absurd q (show ¬ (2 : Nat) = 4 by decide)⟩ R hC hKu h (fun q => absurd q (by decide)) (fun _ q => Bool.noConfusion q) okg (Nat.le_refl _)
    (k := fun v4 x7 => mj_rV (kX1 d 47 [.ref 0, .int v4] x7) fun x8 => rX1_caught d (36, [some (.ref 0), some (.int a), some (.int b), some (.int (nI K)), some (.int v4), some (.int b), none, none, none, none], [], x8))
    (L := w_put (g_nl g) (w_ctc nt (wS nt f) (g_L g) (c_ps (w_pc (g_it (w_aln (wS nt f) a (w_ctx 2 0 0 0 (w_lb (g_L g, []) g)))).length dd)) (g_nl g) l (w_go (g_nl g) (w_shut (w_aln (wS nt f) a (w_ctx 2 0 0 0 (w_lb (g_L g, []) g)))))))
    (hp' := hp) (H' := H) (K' := K) (u' := 200 - f) (by
      intro V1 lm1 lv1 x1 s q1 s1 s2 s3 s4 s5 v1 zc c1 w1
      obtain ⟨c0, r0, hc0, hs0⟩ := s5
      rw [hcx] at hc0
      have hdd : dd = c0 := by injection hc0
      rw [← hdd] at hs0
      rw [← hs0] at hok2 ⊢
      generalize hG : w_aln (wS nt f) a (w_ctx 2 0 0 0 (w_lb (g_L g, []) g)) = G1 at *
      have mS : wM (w_shut G1) (w_go (g_nl g) (w_shut G1)) := (wM.rf _).go _
      have m5 : wM (w_go (g_nl g) (w_shut G1)) (w_put (g_nl g) (w_ctc nt (wS nt f) (g_L g) (c_ps s.2.2) (g_nl g) l (w_go (g_nl g) (w_shut G1)))) := (wM.ctc (wS_mono nt f) _ _ _ l (wM.rf _)).put _
      have ok5 := m5.1 hok2
      have hsh : g_cx (w_shut G1) = r := by show (g_cx G1).tail = r; rw [hcx]; rfl
      refine J2.b (n1 := g_nl G1) (by omega) (J2.go (g := w_shut G1) (d := d) (l := g_nl g) (by omega) (show g_nl g < g_nl G1 by omega) w1 q1 ok5) (fun V2 lm2 lv2 x2 q2 v2 l2' f2 mm2 => ?_)
      have sk2 : z_skl V2 = z_skl V := v2.trans v1
      have h59 : x2.1 0 59 = x1.1 0 59 := by
        have t1 := q2.2.2.1.2.2.2.2.2.1.at0
        have t2 := zc.at0
        rw [z_at_skl v2] at t1
        exact t1.trans t2.symm
      rw [← sk2]
      have nn : g_nl G1 ≤ g_nl (w_go (g_nl g) (w_shut G1)) := mS.2.2.2.2.2.2.1
      refine (m_catches (d := d) (e := g_nl g) (by omega) hc1 hc2 hf hT R (s := s) (L := g_L g) s1 s2 l b _ V2 lm2 lv2 x2 _ none none none none l1 hch (Nat.le_refl _) (fun q => absurd q hl0) (by rw [h59]; exact zc.skl v2) (by omega) (by rw [(l2' _ (by omega)).2]; exact w1) (by rw [(l2' _ (by omega)).1]) (w_cok.wK mS.2.2.2.2.2.1 (by rw [hsh]; exact w_cok.wK hwr (by rw [cxl]; exact hC))) q2 hok2).le (by omega))
  have e2 : ∀ (r : mj_X → mj_R) (x1 : mj_X), mj_g (nI K) 4000 (r x1) = r x1 := fun r x1 => nI_nd (by have := h.2.2.1.2.2.2.1; omega) _
  obtain ⟨y, ho, -⟩ := h.opn (t := 2) hKu
  rw [show (nI 2 : Int32) = 2 from rfl, ho d (by omega), mj_rI_k, nI_nd (by have := h.2.2.1.2.2.2.1; omega)] at key
  rw [ho d (by omega), mj_rI_k]
  exact key
theorem m_s75 {d : Nat} (hd : 6 * f + 263 ≤ d) (hc1 : 83 ≤ c) (hc2 : c ≤ 3990) (hT : wTb nt N M res par) (hA : wA nt N 40 n) (hk : nK nt n = 75) (hf : f + 1 ≤ 200) (R : ∀ m, wA nt N 40 m → mS nt N M w ba pf rf lf c f m) (hC : ∀ c, c ∈ g_cx g → w_cok nt N c) (hK : K ≤ 200 - (f + 1)) (h : Q2 nt N M w ba pf rf lf c hp H K (200 - f) none V lm lv x g) (hok : g_ok (w_bd nt (wV nt 40) (wS nt f) n g)) :
    J2 nt N M w ba pf rf lf c hp H K (200 - (f + 1)) (g_nl g) (z_skl V) (rX1_statement d (361, [some (.ref 0), some (.int n), some (.int (nA nt n)), some (.int (nB nt n)), none], [], x)) x lm lv (w_bd nt (wV nt 40) (wS nt f) n g) := by
  have e : w_bd nt (wV nt 40) (wS nt f) n g = w_try nt (wS nt f) (nA nt n) (nB nt n) g := by unfold w_bd; simp only [hk]; rfl
  rw [e] at hok ⊢
  obtain ⟨sa, b1, b2, b3⟩ := wE_try hT hA.1 hA.2.2 hk
  exact J2.wrap (bX1_statement_361 ..) (m_caught (by omega) hc1 hc2 (by omega) hT ⟨sa.1, sa.2.1, by have := sa.2.2; omega⟩ b1 b3 R hC (by omega) h hok) hK hf
end
