/-! statements of CodeWriterModel: finally, locks -/
section
variable {nt : sp_NT} {N M : Nat} {w : Bool} {ba pf rf lf c hp : Nat} {H V : List wSl} {K u : Nat} {o : Option Int32} {lm lm' : Nat → Nat} {lv lv' : Nat → Bool} {x y : mj_X} {g G : wG} {res par : Nat → Int32} {f : Nat} {n : Int32}
theorem w_end_eq {rec : wT} {c c' : wC} (h1 : c.1 = c'.1) (h2 : c.2.1 = c'.2.1) : w_end rec c g = w_end rec c' g := by unfold w_end; rw [h1, h2]
/-- what a finally's handler is -/
def w_fh (rec : wT) (sort : Nat) (node : Int32) (L : List Nat) (nx : Nat) (ps : List (Nat × Nat)) (g4 : wG) : wG := bif ps.isEmpty || g_ov g4 then g4 else
    let at_ := (g_it g4).length
    let h1 := w_ts 5 [10] (w_hd L ps 0 g4)
    let b := (g_it h1).length
    let h2 := w_end rec (sort, node, 0, 0, nx, 0, []) h1
    let h3 := if sort = 4 then s_ok (w_cov (g_it h2) L (b, (g_it h2).length)) (s_rg ((b, (g_it h2).length, at_, 0) :: g_rg h2) h2) else h2
    bif g_al h3 then s_al false (w_em (16, 191, 0, 0, []) 1 [] (w_ld 5 nx [10] h3)) else h3
theorem w_fh_m {rec : wT} (R : ∀ n k, wM k (rec n k)) {sort : Nat} {node : Int32} {L : List Nat} {nx : Nat} {ps : List (Nat × Nat)} (hps : (ps.isEmpty || g_ov g) = false) : wM (w_hd L ps 0 g) (w_fh rec sort node L nx ps g) := by
  unfold w_fh
  rw [hps]
  simp only [cond_false]
  have c0 := (((wM.rf (w_hd L ps 0 g)).ts 5 [10]).end_ R (sort, node, 0, 0, nx, 0, []))
  refine wM.cond (wM.s_al (wM.em (wM.ld ?_ _ _ _) _ _ _) _) ?_
  · exact wM.ite (wM.s_ok (wM.s_rg c0 _ [_] rfl) _) c0
  · exact wM.ite (wM.s_ok (wM.s_rg c0 _ [_] rfl) _) c0
theorem w_fh_mono {rec : wT} (R : ∀ n k, wM k (rec n k)) {sort : Nat} {node : Int32} {L : List Nat} {nx : Nat} {ps : List (Nat × Nat)} : wM g (w_fh rec sort node L nx ps g) := by
  cases hps : (ps.isEmpty || g_ov g)
  · exact ((wM.rf g).hd L ps 0).tr (w_fh_m R hps)
  · unfold w_fh; rw [hps]; exact wM.rf g
theorem w_fh_over {rec : wT} (R : ∀ n k, wM k (rec n k)) {sort : Nat} {node : Int32} {L : List Nat} {nx : Nat} {ps : List (Nat × Nat)} (ho : w_over w (rf + (hp + ps.length)) lf g) : w_over w (rf + hp) lf (w_fh rec sort node L nx ps g) := by
  cases hps : (ps.isEmpty || g_ov g)
  · refine w_over.mono (g := w_hd L ps 0 g) ?_ (w_fh_m R hps)
    exact ho.of rfl rfl rfl (by rw [w_hd_ph]; omega)
  · have e : w_fh rec sort node L nx ps g = g := by unfold w_fh; rw [hps]; rfl
    rw [e]
    rcases Bool.or_eq_true_iff.mp hps with q | q
    · have : ps = [] := List.isEmpty_iff.mp q
      subst this
      exact ho
    · exact Or.inl q
theorem w_ended_eq {rec : wT} {sort : Nat} {s node : Int32} {dd : wC} {r : List wC} (hc : g_cx (w_aln rec s (w_ctx sort node 0 0 (w_lb (g_L g, []) g))) = dd :: r) :
    w_ended rec sort s node g = w_sl false (g_nl g) (w_put (g_nl g) (s_nx (g_nx g) (w_fh rec sort node (g_L g) (g_nx g) (c_ps (w_pc (g_it (w_aln rec s (w_ctx sort node 0 0 (w_lb (g_L g, []) g)))).length dd)) (s_nx (g_nx g) (bif g_al (w_shut (w_aln rec s (w_ctx sort node 0 0 (w_lb (g_L g, []) g)))) then w_go (g_nl g) (w_end rec (sort, node, 0, 0, g_nx g, 0, []) (s_nx (g_nx g) (w_shut (w_aln rec s (w_ctx sort node 0 0 (w_lb (g_L g, []) g)))))) else w_shut (w_aln rec s (w_ctx sort node 0 0 (w_lb (g_L g, []) g)))))))) := by
  unfold w_ended w_fh
  simp only [hc]
/-- when it was much: a load, a code, and nothing is alive -/
theorem Q2.tM {d : Nat} (hd : 4 ≤ d) (h : Q2 nt N M w ba pf rf lf c hp H K u none V lm lv x g) (h0 : ¬ x.1 0 34 = 0) (v : Int32) : ∃ x', kX1 d 57 [.ref 0, .int v, .int (5 : Int32)] x = some (none, x') ∧ kX1 d 42 [.ref 0, .int (191 : Int32), .int (1 : Int32), .int (0 : Int32)] x' = some (none, x') ∧ kX1 d 42 [.ref 0, .int (195 : Int32), .int (1 : Int32), .int (0 : Int32)] x' = some (none, x') ∧ zfr (zw ba pf lf) x x' ∧ Q2 nt N M w ba pf rf lf c hp H K u none V lm lv x' g ∧ ¬ x'.1 0 34 = 0 := by
  obtain ⟨d, rfl⟩ : ∃ e, d = e + 1 := ⟨d - 1, by omega⟩
  rw [eX1_load, sX1_placesOf (by omega), mj_rI_k]
  obtain ⟨x1, e1, f1, r1⟩ := m_locM (pf := pf) (d := d) (by omega) h.2.1.2.2.2.2.2.2.2.1 (h.mc h0).1 v 21 26 5 0 (sp_pl 5)
  have h1 : ¬ x1.1 0 34 = 0 := by rw [r1.1]; decide
  exact ⟨x1, by rw [e1, mj_rV_k], m_codeM (by omega) h1 _ _ _, m_codeM (by omega) h1 _ _ _, f1, h.mz h0 f1 r1, h1⟩
/-- when it was much: an end does nothing that matters -/
theorem m_endM {d : Nat} (hd : 6 ≤ d) {k : Nat} (hk : k < 4000) (h : Q2 nt N M w ba pf rf lf c hp H K u none V lm lv x g) (h0 : ¬ x.1 0 34 = 0) : ∃ x', kX1 d 87 [.ref 0, .int (nI k)] x = some (none, x') ∧ zfr (zw2 ba pf rf lf) x x' ∧ Q2 nt N M w ba pf rf lf c hp H K u none V lm lv x' g ∧ ¬ x'.1 0 34 = 0 := by
  obtain ⟨d, rfl⟩ : ∃ c, d = c + 1 := ⟨d - 1, by omega⟩
  rw [eX1_end, nI_nd hk, nI_cl hk]
  by_cases q : x.1 61 k = (4 : Int32)
  · rw [if_pos q, nI_nd hk]
    obtain ⟨x1, e1, -, e3, f1, q1, h1⟩ := Q2.tM (d := d) (by omega) h h0 (x.1 65 k)
    exact ⟨x1, by rw [e1, mj_rV_k, e3, mj_rV_k], f1.up, q1, h1⟩
  · obtain ⟨d, rfl⟩ : ∃ e, d = e + 1 := ⟨d - 1, by omega⟩
    rw [if_neg q, nI_nd hk, eX1_block, m_stM (by omega) h0, mj_rV_k, mj_rV_k]
    have q2 := h.nx (v := x.1 0 38) (n := g_nx g) (fun q => absurd q h0)
    exact ⟨_, rfl, (zfr.rf _ x).w _ rfl, q2, h0⟩
theorem m_ended {d sort : Nat} (hd : 6 * f + 263 ≤ d) (hc1 : 83 ≤ c) (hc2 : c ≤ 3990) (hf : f ≤ 200) (hs3 : 3 ≤ sort) (hs4 : sort ≤ 4) {a node a3 : Int32} (hT : wTb nt N M res par) (sa : wA nt N 40 a) (hnode : w_cok nt N (sort, node, 0, 0, g_nx g, (g_it g).length, [])) (ha3 : x.1 0 34 = 0 → a3 = node) (R : ∀ m, wA nt N 40 m → mS nt N M w ba pf rf lf c f m) (hC : ∀ c, c ∈ g_cx g → w_cok nt N c) (hKu : K < 200 - f) (h : Q2 nt N M w ba pf rf lf c hp H K (200 - f) none V lm lv x g)
    (hok : g_ok (w_ended (wS nt f) sort a node g)) :
    J2 nt N M w ba pf rf lf c hp H K (200 - f) (g_nl g) (z_skl V) (kX1 d 94 [.ref 0, .int (nI sort), .int a, .int a3] x) x lm lv (w_ended (wS nt f) sort a node g) := by
  obtain ⟨d, rfl⟩ : ∃ c, d = c + 1 := ⟨d - 1, by omega⟩
  have hK4 : K < 4000 := by have := h.2.2.1.2.2.2.1; omega
  have m2 : wM (w_ctx sort node 0 0 (w_lb (g_L g, []) g)) (w_aln (wS nt f) a (w_ctx sort node 0 0 (w_lb (g_L g, []) g))) := (wM.rf _).aln (wS_mono nt f) _
  obtain ⟨-, dd, r, hcx, hwk, hwr⟩ := wM.in_ (g := w_lb (g_L g, []) g) (c := (sort, node, 0, 0, g_nx (w_lb (g_L g, []) g), (g_it (w_lb (g_L g, []) g)).length, [])) m2
  rw [w_ended_eq hcx] at hok ⊢
  have hok2 := ((wM.rf _).sl false (g_nl g)).1 hok
  refine J2.sl ?_ _
  clear hok
  have cxl : g_cx (w_lb (g_L g, []) g) = g_cx g := rfl
  have n1 : g_nl g + 1 ≤ g_nl (w_aln (wS nt f) a (w_ctx sort node 0 0 (w_lb (g_L g, []) g))) := m2.2.2.2.2.2.2.1
  have mEnd : ∀ X : wG, wM X (w_end (wS nt f) (sort, node, 0, 0, g_nx g, 0, []) (s_nx (g_nx g) X)) := fun X => ((wM.rf X).s_nx _).end_ (wS_mono nt f) _
  have mB : wM (w_shut (w_aln (wS nt f) a (w_ctx sort node 0 0 (w_lb (g_L g, []) g)))) (bif g_al (w_shut (w_aln (wS nt f) a (w_ctx sort node 0 0 (w_lb (g_L g, []) g)))) then w_go (g_nl g) (w_end (wS nt f) (sort, node, 0, 0, g_nx g, 0, []) (s_nx (g_nx g) (w_shut (w_aln (wS nt f) a (w_ctx sort node 0 0 (w_lb (g_L g, []) g)))))) else w_shut (w_aln (wS nt f) a (w_ctx sort node 0 0 (w_lb (g_L g, []) g)))) := wM.cond ((mEnd _).go _) (wM.rf _)
  have mD : ∀ ps X, wM X (w_put (g_nl g) (s_nx (g_nx g) (w_fh (wS nt f) sort node (g_L g) (g_nx g) ps (s_nx (g_nx g) X)))) := fun ps X => ((((wM.rf X).s_nx _).tr (w_fh_mono (wS_mono nt f))).s_nx _).put _
  have okg : g_ok (w_aln (wS nt f) a (w_ctx sort node 0 0 (w_lb (g_L g, []) g))) := mB.1 ((mD _ _).1 hok2)
  rw [eX1_ended]
  have key := m_guard (d := d) (sort := sort) (node := node) (a3 := a3) (e65 := true) (j := g_nl g) (S := z_skl V) (by omega) hc1 hc2 hf (by omega) hs4 sa hnode R hC hKu h (fun _ => rfl) (fun z _ => ha3 z) okg (Nat.le_refl _)
    (k := fun v4 x7 => if (x7.1 0 35) = 0 then rX1_ended d (68, [some (.ref 0), some (.int (nI sort)), some (.int a), some (.int a3), some (.int (nI K)), some (.int v4), none, none, none], [], x7) else mj_g (nI K) 4000 (mj_rV (kX1 d 87 [.ref 0, .int (nI K)] (mj_wI x7 0 38 (x7.1 66 (nI K).toNatClampNeg))) fun x8 => mj_rV (kX1 d 47 [.ref 0, .int v4] x8) fun x9 => rX1_ended d (68, [some (.ref 0), some (.int (nI sort)), some (.int a), some (.int a3), some (.int (nI K)), some (.int v4), none, none, none], [], x9)))
    (L := w_put (g_nl g) (s_nx (g_nx g) (w_fh (wS nt f) sort node (g_L g) (g_nx g) (c_ps (w_pc (g_it (w_aln (wS nt f) a (w_ctx sort node 0 0 (w_lb (g_L g, []) g)))).length dd)) (s_nx (g_nx g) (bif g_al (w_shut (w_aln (wS nt f) a (w_ctx sort node 0 0 (w_lb (g_L g, []) g)))) then w_go (g_nl g) (w_end (wS nt f) (sort, node, 0, 0, g_nx g, 0, []) (s_nx (g_nx g) (w_shut (w_aln (wS nt f) a (w_ctx sort node 0 0 (w_lb (g_L g, []) g)))))) else w_shut (w_aln (wS nt f) a (w_ctx sort node 0 0 (w_lb (g_L g, []) g))))))))
    (hp' := hp) (H' := H) (K' := K) (u' := 200 - f) (by
      intro V1 lm1 lv1 x1 s q1 s1 s2 s3 s4 s5 v1 zc c1 w1
      obtain ⟨c0, r0, hc0, hs0⟩ := s5
      rw [hcx] at hc0
      have hdd : dd = c0 := by injection hc0
      rw [← hdd] at hs0
      rw [← hs0] at hok2 ⊢
      have hsh : g_cx (w_shut (w_aln (wS nt f) a (w_ctx sort node 0 0 (w_lb (g_L g, []) g)))) = r := by show (g_cx (w_aln (wS nt f) a (w_ctx sort node 0 0 (w_lb (g_L g, []) g)))).tail = r; rw [hcx]; rfl
      have hC1 : ∀ c, c ∈ g_cx (w_shut (w_aln (wS nt f) a (w_ctx sort node 0 0 (w_lb (g_L g, []) g)))) → w_cok nt N c := by rw [hsh]; exact w_cok.wK hwr (by rw [cxl]; exact hC)
      have n1' : g_nl g + 1 ≤ g_nl (w_shut (w_aln (wS nt f) a (w_ctx sort node 0 0 (w_lb (g_L g, []) g)))) := n1
      generalize hG2 : w_shut (w_aln (wS nt f) a (w_ctx sort node 0 0 (w_lb (g_L g, []) g))) = g2 at *
      have hcoks : w_cok nt N s.2.2 := by unfold w_cok at *; rw [s2, s3]; exact hnode
      have wend : ∀ X, w_end (wS nt f) (sort, node, 0, 0, g_nx g, 0, []) X = w_end (wS nt f) s.2.2 X := fun X => w_end_eq s2.symm s3.symm
      have h66 : ∀ {hq : Nat} {V2 : List wSl} {lm2 : Nat → Nat} {lv2 : Nat → Bool} {x2 : mj_X} {G : wG}, Q2 nt N M w ba pf rf lf c hq (s :: H) (K + 1) (200 - f) none V2 lm2 lv2 x2 G → x2.1 0 34 = 0 → x2.1 66 K = nI (g_nx g) ∧ g_nx g ≤ 8000 := by
        intro hq V2 lm2 lv2 x2 G q z
        have := (q.ex z).2.2.2.2.1 s (by simp)
        rw [← s1, ← s4]
        exact ⟨this.2.2.1, this.2.2.2.1⟩
      have zch : ∀ {hq : Nat} {V2 : List wSl} {lm2 : Nat → Nat} {lv2 : Nat → Bool} {x2 : mj_X} {G : wG}, Q2 nt N M w ba pf rf lf c hq (s :: H) (K + 1) (200 - f) none V2 lm2 lv2 x2 G → z_skl V2 = z_skl V → z_ch (x2.1 0 59) K V2 := by
        intro hq V2 lm2 lv2 x2 G q sk
        have t1 := q.2.2.1.2.2.2.2.2.1.at0
        have t2 := zc.at0
        have sk1 : z_skl V2 = z_skl V1 := sk.trans v1.symm
        rw [z_at_skl sk1] at t1
        have t3 : x2.1 0 59 = x1.1 0 59 := t1.trans t2.symm
        rw [t3]; exact zc.skl sk1
      -- the end of all
      have D181 : ∀ (V2 : List wSl) (lm2 : Nat → Nat) (lv2 : Nat → Bool) (x2 : mj_X) (G : wG) (v : Int32) (j : Nat) (o6 o7 o8 : Option Value), Q2 nt N M w ba pf rf lf c hp (s :: H) (K + 1) (200 - f) none V2 lm2 lv2 x2 G → z_skl V2 = z_skl V → g_nl g < g_nl G → lv2 (g_nl g) = true → v = nI (lm2 (g_nl g)) → j ≤ g_nl G → g_ok (w_put (g_nl g) (s_nx (g_nx g) G)) →
          J2 nt N M w ba pf rf lf c hp H K (200 - f) j (z_skl V) (rX1_ended d (181, [some (.ref 0), some (.int (nI sort)), some (.int a), some (.int a3), some (.int (nI K)), some (.int v), o6, o7, o8], [], x2)) x2 lm2 lv2 (w_put (g_nl g) (s_nx (g_nx g) G)) := by
        intro V2 lm2 lv2 x2 G v j o6 o7 o8 q sk he hv hvv hj hok3
        have pw := q.2.2.1.2.2.2.2.2.2.1
        have qa := q.nx (v := x2.1 66 K) (n := g_nx g) (fun z => h66 q z)
        have qb : Q2 nt N M w ba pf rf lf c hp H K (200 - f) none V2 lm2 lv2 (mj_wI (mj_wI x2 0 38 (x2.1 66 K)) 0 58 (nI K)) (s_nx (g_nx g) G) := by
          refine Q2.ofzk (k := K) qa.drop ((zfr.rf _ _).w _ rfl) (fun t ht => ?_) rfl (Nat.le_refl _) (by omega) (show z_ch (x2.1 0 59) K V2 from zch q sk)
          have h1 := (qa.drop.lt ht).1
          have := (List.pairwise_cons.mp pw).1 t ht
          omega
        rw [bX1_ended_181, nI_nd hK4, nI_cl hK4, hvv, ← sk]
        exact J2.pre (y := mj_wI (mj_wI x2 0 38 (x2.1 66 K)) 0 58 (nI K)) (J2.end_ ((J2.put (g := s_nx (g_nx g) G) (lm := lm2) (lv := lv2) (d := d) (l := g_nl g) (by omega) he hv qb hok3).le hj)) (((zfr.rf _ x2).w _ rfl).w _ rfl) (fun q => q)
      -- the handler
      have C68 : ∀ (V2 : List wSl) (lm2 : Nat → Nat) (lv2 : Nat → Bool) (x2 : mj_X) (G : wG) (v : Int32), Q2 nt N M w ba pf rf lf c (hp + (c_ps s.2.2).length) (s :: H) (K + 1) (200 - f) none V2 lm2 lv2 x2 G → z_skl V2 = z_skl V → g_nl g < g_nl G → lv2 (g_nl g) = true → v = nI (lm2 (g_nl g)) → (∀ c, c ∈ g_cx G → w_cok nt N c) → g_ok (w_put (g_nl g) (s_nx (g_nx g) (w_fh (wS nt f) sort node (g_L g) (g_nx g) (c_ps s.2.2) (s_nx (g_nx g) G)))) →
          J2 nt N M w ba pf rf lf c hp H K (200 - f) (g_nl g) (z_skl V) (rX1_ended d (68, [some (.ref 0), some (.int (nI sort)), some (.int a), some (.int a3), some (.int (nI K)), some (.int v), none, none, none], [], x2)) x2 lm2 lv2 (w_put (g_nl g) (s_nx (g_nx g) (w_fh (wS nt f) sort node (g_L g) (g_nx g) (c_ps s.2.2) (s_nx (g_nx g) G)))) := by
        intro V2 lm2 lv2 x2 G v q sk he hv hvv hCG hok3
        have qa := q.nx (v := x2.1 66 K) (n := g_nx g) (fun z => h66 q z)
        have nG : g_nl (s_nx (g_nx g) G) = g_nl G := rfl
        have cG : g_cx (s_nx (g_nx g) G) = g_cx G := rfl
        have xG : g_nx (s_nx (g_nx g) G) = g_nx g := rfl
        generalize hG4 : s_nx (g_nx g) G = G4 at *
        have hfm : wM G4 (w_fh (wS nt f) sort node (g_L g) (g_nx g) (c_ps s.2.2) G4) := w_fh_mono (wS_mono nt f)
        have fw : zfr (zw2 ba pf rf lf) x2 (mj_wI x2 0 38 (x2.1 66 K)) := (zfr.rf _ x2).w _ rfl
        rw [bX1_ended_68, nI_nd hK4, nI_nd hK4, nI_cl hK4]
        by_cases h0' : ¬ x2.1 0 34 = 0
        · have go : J2 nt N M w ba pf rf lf c hp H K (200 - f) (g_nl g) (z_skl V) (rX1_ended d (181, [some (.ref 0), some (.int (nI sort)), some (.int a), some (.int a3), some (.int (nI K)), some (.int v), none, none, none], [], (mj_wI x2 0 38 (x2.1 66 K)))) x2 lm2 lv2 (w_put (g_nl g) (s_nx (g_nx g) (w_fh (wS nt f) sort node (g_L g) (g_nx g) (c_ps s.2.2) G4))) := by
            obtain ⟨V3, lm3, q3, v3, l3⟩ := qa.skp h0' hfm (w_fh_over (wS_mono nt f) (qa.mc h0').2)
            have := D181 V3 lm3 lv2 _ _ v (g_nl g) none none none q3 (v3.trans sk) (Nat.lt_of_lt_of_le (by omega) hfm.2.2.2.2.2.2.1) hv (by rw [hvv, l3 _ (by omega)]) (Nat.le_trans (by omega) hfm.2.2.2.2.2.2.1) hok3
            obtain ⟨Vf, lmf, lvf, xf, ef, qf, vf, lf_, ff, mf⟩ := this
            exact ⟨Vf, lmf, lvf, xf, ef, qf, vf, fun k hk => ⟨(lf_ k hk).1.trans (l3 k (by omega)), (lf_ k hk).2⟩, fw.tr ff, fun z => mf z⟩
          rw [if_neg h0']
          split
          · exact go
          · exact go
        have h0 : x2.1 0 34 = 0 := Decidable.not_not.mp h0'
        obtain ⟨-, -, -, -, -, np, ps, b1, b2, b3, b4⟩ := q.ex h0
        obtain ⟨⟨z1, z2, z3, z4, z5, z6, z7⟩, z8⟩ := b3 s (by simp)
        have hplen := z6.len
        rw [s1] at z3
        have hov : g_ov G4 = false := ((qa.ex h0).1.2.2.resolve_right (fun p => absurd h0 (by rw [show x2.1 0 34 = 1 from p.1.1]; decide))).1
        by_cases hps : ps s.1 = []
        · rw [s1] at hps
          have hcp : c_ps s.2.2 = [] := by rw [s1, hps] at hplen; exact List.length_eq_zero_iff.mp hplen.symm
          have E : w_fh (wS nt f) sort node (g_L g) (g_nx g) (c_ps s.2.2) G4 = G4 := by unfold w_fh; rw [hcp]; rfl
          rw [E] at hok3 ⊢
          rw [z3, hps, if_pos (by decide)]
          have qb := qa
          rw [hcp] at qb
          exact (D181 V2 lm2 lv2 _ G4 v (g_nl g) none none none qb sk (by omega) hv hvv (by omega) hok3).pre fw (fun q => q)
        · obtain ⟨p0, p1, p2⟩ := z_fst_mem (ps s.1) hps
          rw [s1] at p1 p2
          have p3 := z8 p0 (by rw [s1]; exact p1)
          have p4 := b1.2
          rw [z3, p2, if_neg (nI_pos (by omega)), if_pos h0]
          have hcp : (c_ps s.2.2).isEmpty = false := by
            cases hcc : c_ps s.2.2 with
            | nil => rw [hcc] at hplen; exact absurd (List.length_eq_zero_iff.mp hplen) hps
            | cons _ _ => rfl
          have hfh : w_fh (wS nt f) sort node (g_L g) (g_nx g) (c_ps s.2.2) G4 = (let h1 := w_ts 5 [10] (w_hd (g_L g) (c_ps s.2.2) 0 G4)
              let h2 := w_end (wS nt f) s.2.2 h1
              let h3 := if sort = 4 then s_ok (w_cov (g_it h2) (g_L g) ((g_it h1).length, (g_it h2).length)) (s_rg (((g_it h1).length, (g_it h2).length, (g_it G4).length, 0) :: g_rg h2) h2) else h2
              bif g_al h3 then s_al false (w_em (16, 191, 0, 0, []) 1 [] (w_ld 5 (g_nx g) [10] h3)) else h3) := by
            unfold w_fh
            rw [hcp, hov]
            simp only [Bool.or_self, cond_false, wend]
          rw [hfh] at hok3 ⊢
          simp only at hok3 ⊢
          have mh : wM G4 (w_hd (g_L g) (c_ps s.2.2) 0 G4) := (wM.rf G4).hd _ _ _
          have hqh : w_q (w_hd (g_L g) (c_ps s.2.2) 0 G4) = false := (w_q_iff _).mpr ⟨rfl, hov⟩
          have nxh : g_nx (w_hd (g_L g) (c_ps s.2.2) 0 G4) = g_nx g := xG
          have ith : g_it (w_hd (g_L g) (c_ps s.2.2) 0 G4) = g_it G4 := rfl
          obtain ⟨x3, e3, q3, f3⟩ := m_handler (d := d) (hp2 := hp) (s := s) (L := g_L g) (k := 0) (by omega) (show s ∈ (s :: H) ++ V2 by simp) (x := mj_wI x2 0 38 (x2.1 66 K)) h0 qa (Nat.le_refl _)
          rw [s1] at e3
          generalize hgh : w_hd (g_L g) (c_ps s.2.2) 0 G4 = gh at *
          have mt : wM gh (w_ts 5 [10] gh) := (wM.rf gh).ts _ _
          generalize hh1 : w_ts 5 [10] gh = h1 at *
          have me : wM h1 (w_end (wS nt f) s.2.2 h1) := (wM.rf h1).end_ (wS_mono nt f) _
          generalize hh2 : w_end (wS nt f) s.2.2 h1 = h2 at *
          have m3 : wM h2 (if sort = 4 then s_ok (w_cov (g_it h2) (g_L g) ((g_it h1).length, (g_it h2).length)) (s_rg (((g_it h1).length, (g_it h2).length, (g_it G4).length, 0) :: g_rg h2) h2) else h2) := wM.ite (((wM.rf h2).s_rg _ [_] rfl).s_ok _) (wM.rf h2)
          generalize hh3 : (if sort = 4 then s_ok (w_cov (g_it h2) (g_L g) ((g_it h1).length, (g_it h2).length)) (s_rg (((g_it h1).length, (g_it h2).length, (g_it G4).length, 0) :: g_rg h2) h2) else h2) = h3 at *
          have ml : wM h3 (w_ld 5 (g_nx g) [10] h3) := (wM.rf h3).ld _ _ _
          have mr : wM (w_ld 5 (g_nx g) [10] h3) (w_em (16, 191, 0, 0, []) 1 [] (w_ld 5 (g_nx g) [10] h3)) := (wM.rf _).em _ _ _
          have m5 : wM h3 (bif g_al h3 then s_al false (w_em (16, 191, 0, 0, []) 1 [] (w_ld 5 (g_nx g) [10] h3)) else h3) := wM.cond ((ml.tr mr).s_al _) (wM.rf h3)
          have mZ : ∀ X, wM X (w_put (g_nl g) (s_nx (g_nx g) X)) := fun X => ((wM.rf X).s_nx _).put _
          have ok5 := (mZ _).1 hok3
          have ok3 := m5.1 ok5
          have ok2 := m3.1 ok3
          have ok1 := me.1 ok2
          have okT : g_ok (w_ts 5 [10] gh) := by rw [hh1]; exact ok1
          obtain ⟨r5, r6⟩ := okT.2 hqh
          have okS : g_ok (w_es (3, 5, g_nx gh, 0, []) (g_L gh ++ [10], (g_st gh).drop (w_tl 5).length) (s_tk (w_tl 5).length gh)) := okT.1
          have nnh : g_nl g < g_nl gh := Nat.lt_of_lt_of_le (by omega) mh.2.2.2.2.2.2.1
          have nn1 : g_nl gh ≤ g_nl h1 := mt.2.2.2.2.2.2.1
          have nn2 : g_nl h1 ≤ g_nl h2 := me.2.2.2.2.2.2.1
          have nn3 : g_nl h2 ≤ g_nl h3 := m3.2.2.2.2.2.2.1
          have hCh : ∀ c, c ∈ g_cx h1 → w_cok nt N c := w_cok.wK (mh.tr mt).2.2.2.2.2.1 (by rw [cG]; exact hCG)
          rw [e3, mj_rV_k, e_anew (by omega), mj_rI_k]
          have hx38 : x3.1 0 34 = 0 → x3.1 0 38 = nI (g_nx gh) := fun z => (q3.ex z).2.1.1
          have q4 := q3.tk (t := 5) (by decide) (fun _ => r6)
          have js := J2.stn (d := d) (t := 5) (p := x3.1 0 38) (q := g_nx gh) (F := (g_L gh ++ [10], (g_st gh).drop (w_tl 5).length)) (by omega) (by decide) (by decide) q4 (fun z => ⟨hx38 z, by omega⟩) (fun _ => ⟨r5, rfl⟩) okS
          have js : J2 nt N M w ba pf rf lf c hp (s :: H) (K + 1) (200 - f) (g_nl gh) (z_skl V2) (kX1 d 71 [.ref 0, .int (x3.1 0 38), .int (5 : Int32)] (mj_wI (mj_wI x3 0 38 (x3.1 0 38 + sp_pl (nI 5))) 0 39 (mj_max (x3.1 0 39) (x3.1 0 38 + sp_pl (nI 5))))) (mj_wI (mj_wI x3 0 38 (x3.1 0 38 + sp_pl (nI 5))) 0 39 (mj_max (x3.1 0 39) (x3.1 0 38 + sp_pl (nI 5)))) lm2 lv2 h1 := by rw [← hh1]; exact js
          refine J2.pre (y := mj_wI (mj_wI x3 0 38 (x3.1 0 38 + sp_pl (nI 5))) 0 39 (mj_max (x3.1 0 39) (x3.1 0 38 + sp_pl (nI 5)))) ?_ ((fw.tr (zhd_zw2 f3)).tr (((zfr.rf _ x3).w _ rfl).w _ rfl)) (fun z => absurd h0 z)
          refine J2.b (n1 := g_nl gh) (by omega) js (fun V4 lm4 lv4 x4 q5 v4 l4 f4 mm4 => ?_)
          have back4 : x4.1 0 34 = 0 → x3.1 0 34 = 0 := fun z => Decidable.byContradiction fun p => mm4 p z
          have je := m_end (d := d) (s := s) (by omega) hf (by simp) (by rw [s2]; exact hs3) hcoks hT R hCh q5 (by rw [hh2]; exact ok2)
          rw [hh2, s1] at je
          refine J2.b (n1 := g_nl h1) (by omega) je (fun V5 lm5 lv5 x5 q6 v5 l5 f5 mm5 => ?_)
          have back5 : x5.1 0 34 = 0 → x4.1 0 34 = 0 := fun z => Decidable.byContradiction fun p => mm5 p z
          have sk5 : z_skl V5 = z_skl V := (v5.trans v4).trans sk
          have c5 : ∀ l, l < g_nl g + 1 → lm5 l = lm2 l ∧ lv5 l = lv2 l := fun l hl => ⟨(l5 l (by omega)).1.trans (l4 l (by omega)).1, (l5 l (by omega)).2.trans (l4 l (by omega)).2⟩
          -- the rest, from 153 on
          have E153 : ∀ (V6 : List wSl) (lm6 : Nat → Nat) (lv6 : Nat → Bool) (x6 : mj_X) (a7 a8 : Int32), Q2 nt N M w ba pf rf lf c hp (s :: H) (K + 1) (200 - f) none V6 lm6 lv6 x6 h3 → z_skl V6 = z_skl V → (x6.1 0 34 = 0 → x3.1 0 34 = 0) → lv6 (g_nl g) = true → v = nI (lm6 (g_nl g)) →
              J2 nt N M w ba pf rf lf c hp H K (200 - f) (g_nl g) (z_skl V) (rX1_ended d (153, [some (.ref 0), some (.int (nI sort)), some (.int a), some (.int a3), some (.int (nI K)), some (.int v), some (.int (x3.1 0 38)), some (.int a7), some (.int a8)], [], x6)) x6 lm6 lv6 (w_put (g_nl g) (s_nx (g_nx g) (bif g_al h3 then s_al false (w_em (16, 191, 0, 0, []) 1 [] (w_ld 5 (g_nx g) [10] h3)) else h3))) := by
            intro V6 lm6 lv6 x6 a7 a8 q7 v6 b6 w6 e6
            rw [bX1_ended_153]
            by_cases z' : ¬ x6.1 0 34 = 0
            · -- much
              have fin : ∀ x7, Q2 nt N M w ba pf rf lf c hp (s :: H) (K + 1) (200 - f) none V6 lm6 lv6 x7 h3 → ¬ x7.1 0 34 = 0 → zfr (zw2 ba pf rf lf) x6 x7 → J2 nt N M w ba pf rf lf c hp H K (200 - f) (g_nl g) (z_skl V) (rX1_ended d (181, [some (.ref 0), some (.int (nI sort)), some (.int a), some (.int a3), some (.int (nI K)), some (.int v), some (.int (x3.1 0 38)), some (.int a7), some (.int a8)], [], x7)) x6 lm6 lv6 (w_put (g_nl g) (s_nx (g_nx g) (bif g_al h3 then s_al false (w_em (16, 191, 0, 0, []) 1 [] (w_ld 5 (g_nx g) [10] h3)) else h3))) := by
                intro x7 q8 h7 f7
                obtain ⟨V8, lm8, q9, v8, l8⟩ := q8.skip h7 m5
                have := D181 V8 lm8 lv6 x7 _ v (g_nl g) (some (.int (x3.1 0 38))) (some (.int a7)) (some (.int a8)) q9 (v8.trans v6) (Nat.lt_of_lt_of_le (by omega) m5.2.2.2.2.2.2.1) w6 (by rw [e6, l8 _ (by omega)]) (Nat.le_trans (by omega) m5.2.2.2.2.2.2.1) hok3
                obtain ⟨Vf, lmf, lvf, xf, ef, qf, vf, lf_, ff, mf⟩ := this
                exact ⟨Vf, lmf, lvf, xf, ef, qf, vf, fun k hk => ⟨(lf_ k hk).1.trans (l8 k (by omega)), (lf_ k hk).2⟩, f7.tr ff, fun _ => mf h7⟩
              by_cases h35 : x6.1 0 35 = 0
              · rw [if_pos h35]; exact fin x6 q7 z' (zfr.rf _ x6)
              · rw [if_neg h35]
                obtain ⟨x7, t1, t2, -, t4, t5, t6⟩ := Q2.tM (d := d) (by omega) q7 z' (x3.1 0 38)
                rw [t1, mj_rV_k, t2, mj_rV_k]
                have q8 : Q2 nt N M w ba pf rf lf c hp (s :: H) (K + 1) (200 - f) none V6 lm6 lv6 (mj_wI x7 0 35 0) h3 := by
                  obtain ⟨u1, u2, u3, u4, u5, u6⟩ := (t5.mc t6).1
                  exact t5.mz t6 ((zfr.rf _ x7).w _ rfl) ⟨u1, u2, u3, u4, ⟨false, rfl⟩, u6⟩
                exact fin _ q8 t6 ((t4.up).tr ((zfr.rf _ x7).w _ rfl))
            have z : x6.1 0 34 = 0 := Decidable.not_not.mp z'
            have q7x := (q7.ex z).1.2.2.resolve_right (fun p => absurd z (by rw [p.1.1]; decide))
            have h35 : x6.1 0 35 = sp_b (g_al h3) := q7x.2.2.2.2.2.2.2.1
            cases hal : g_al h3
            · rw [hal] at h35 hok3
              rw [if_pos (by rw [h35]; rfl)]
              exact D181 V6 lm6 lv6 x6 h3 v (g_nl g) _ _ _ q7 v6 (by omega) w6 e6 (by omega) hok3
            · rw [hal] at h35 hok3 ok5
              rw [if_neg (by rw [h35]; decide)]
              have ok5 : g_ok (w_em (16, 191, 0, 0, []) 1 [] (w_ld 5 (g_nx g) [10] h3)) := ok5
              refine J2.b (n1 := g_nl h3) (by omega) (J2.ldn (d := d) (t := 5) (p := x3.1 0 38) (q := g_nx g) (on := [10]) (by omega) (by decide) (by decide) rfl q7 (fun _ => ⟨by rw [hx38 (b6 z), nxh], by rw [← nxh]; omega⟩) (mr.1 ok5)) (fun V8 lm8 lv8 x8 q8 v8 l8 f8 mm8 => ?_)
              refine J2.b (n1 := g_nl (w_ld 5 (g_nx g) [10] h3)) (Nat.le_trans (by omega) ml.2.2.2.2.2.2.1) (J2.e1 (d := d) (i := (16, 191, 0, 0, [])) (off := 1) (on := []) (cc := 191) (by omega) q8 ok5 rfl rfl ⟨fun _ => rfl, fun _ _ => rfl⟩) (fun V9 lm9 lv9 x9 q9 v9 l9 f9 mm9 => ?_)
              have qA := q9.al0
              have lmr : g_nl h3 ≤ g_nl (w_em (16, 191, 0, 0, []) 1 [] (w_ld 5 (g_nx g) [10] h3)) := (ml.tr mr).2.2.2.2.2.2.1
              have lml : g_nl h3 ≤ g_nl (w_ld 5 (g_nx g) [10] h3) := ml.2.2.2.2.2.2.1
              exact (D181 V9 lm9 lv9 _ _ v (g_nl g) _ _ _ qA ((v9.trans v8).trans v6) (by show g_nl g < g_nl (w_em (16, 191, 0, 0, []) 1 [] (w_ld 5 (g_nx g) [10] h3)); omega) (by rw [(l9 _ (by omega)).2, (l8 _ (by omega)).2]; exact w6) (by rw [(l9 _ (by omega)).1, (l8 _ (by omega)).1]; exact e6) (by show g_nl g ≤ g_nl (w_em (16, 191, 0, 0, []) 1 [] (w_ld 5 (g_nx g) [10] h3)); omega) hok3).pre ((zfr.rf _ x9).w _ rfl) (fun q => q)
          by_cases hs : sort = 4
          · rw [if_pos (by rw [hs]; rfl)]
            have e4 : h3 = s_ok (w_cov (g_it h2) (g_L g) ((g_it h1).length, (g_it h2).length)) (s_rg (((g_it h1).length, (g_it h2).length, (g_it G4).length, 0) :: g_rg h2) h2) := by rw [← hh3, if_pos hs]
            have ex32 : ∀ {hq : Nat} {V2 : List wSl} {lm2 : Nat → Nat} {lv2 : Nat → Bool} {x2 : mj_X} {G : wG}, Q2 nt N M w ba pf rf lf c hq (s :: H) (K + 1) (200 - f) none V2 lm2 lv2 x2 G → x2.1 0 34 = 0 → x2.1 0 32 = nI (w_by_ w w_z (g_it G)).length := fun q z => ((q.ex z).1.2.2.resolve_right (fun p => absurd z (by rw [p.1.1]; decide))).2.2.1.2.2.1
            obtain ⟨i1, hi1⟩ := mt.2.1
            obtain ⟨i2, hi2⟩ := me.2.1
            have at1 : w_at w (g_it h2) (g_it h1).length = (w_by_ w w_z (g_it h1)).length := by rw [hi2, w_at_app _ _ _ (Nat.le_refl _), w_at_len]
            have at0 : w_at w (g_it h2) (g_it G4).length = (w_by_ w w_z (g_it G4)).length := by rw [hi2, hi1, ← List.append_assoc, ith, w_at_app _ _ _ (Nat.le_refl _), w_at_len]
            obtain ⟨x6, e6, q7, f6, m6⟩ := m_range (d := d) (hp := hp) (hp2 := hp) (k := 0) (a := (g_it h1).length) (b := (g_it h2).length) (e := (g_it G4).length) (va := x4.1 0 32) (vb := x5.1 0 32) (ve := x3.1 0 32) (by omega) (Nat.le_succ _) q6 (fun z => ⟨⟨by rw [ex32 q5 (back5 z), at1], by rw [ex32 q6 z, w_at_len], by rw [ex32 q3 (back4 (back5 z)), ith, at0]⟩, by rw [hi2, List.length_append]; omega, Nat.le_refl _, by rw [hi2, hi1, ith, List.length_append, List.length_append]; omega⟩)
            rw [show (mj_wI (mj_wI x3 0 38 (x3.1 0 38 + sp_pl 5)) 0 39 (mj_max (x3.1 0 39) (x3.1 0 38 + sp_pl 5))).1 0 32 = x3.1 0 32 from rfl, e6, mj_rV_k]
            have q7 : Q2 nt N M w ba pf rf lf c hp (s :: H) (K + 1) (200 - f) none V5 lm5 lv5 x6 h3 := by rw [e4]; exact q7
            have := E153 V5 lm5 lv5 x6 (x3.1 0 32) (x4.1 0 32) q7 sk5 (fun z => back4 (back5 (Decidable.byContradiction fun p => m6 p z))) (by rw [(c5 _ (by omega)).2]; exact hv) (by rw [(c5 _ (by omega)).1]; exact hvv)
            exact (this.pre (zrg_zw2 f6) m6)
          · rw [if_neg (show ¬ nI sort = (4 : Int32) from fun e => hs ((nI_eq (b := 4) (by omega) (by omega)).mp e))]
            have e4 : h3 = h2 := by rw [← hh3, if_neg hs]
            exact E153 V5 lm5 lv5 x5 _ _ (by rw [e4]; exact q6) sk5 (fun z => back4 (back5 z)) (by rw [(c5 _ (by omega)).2]; exact hv) (by rw [(c5 _ (by omega)).1]; exact hvv)
      -- behind the guarded part
      by_cases z' : ¬ x1.1 0 34 = 0
      · have fin : ∀ x7, Q2 nt N M w ba pf rf lf c (hp + (c_ps s.2.2).length) (s :: H) (K + 1) (200 - f) none V1 lm1 lv1 x7 g2 → ¬ x7.1 0 34 = 0 → zfr (zw2 ba pf rf lf) x1 x7 → J2 nt N M w ba pf rf lf c hp H K (200 - f) (g_nl g) (z_skl V) (rX1_ended d (68, [some (.ref 0), some (.int (nI sort)), some (.int a), some (.int a3), some (.int (nI K)), some (.int (nI (lm1 (g_nl g)))), none, none, none], [], x7)) x1 lm1 lv1 (w_put (g_nl g) (s_nx (g_nx g) (w_fh (wS nt f) sort node (g_L g) (g_nx g) (c_ps s.2.2) (s_nx (g_nx g) (bif g_al g2 then w_go (g_nl g) (w_end (wS nt f) (sort, node, 0, 0, g_nx g, 0, []) (s_nx (g_nx g) g2)) else g2))))) := by
          intro x7 q8 h7 f7
          obtain ⟨V8, lm8, q9, v8, l8⟩ := q8.skip h7 mB
          have := C68 V8 lm8 lv1 x7 _ (nI (lm1 (g_nl g))) q9 (v8.trans v1) (Nat.lt_of_lt_of_le (by omega) mB.2.2.2.2.2.2.1) w1 (by rw [l8 _ (by omega)]) (w_cok.wK mB.2.2.2.2.2.1 hC1) hok2
          obtain ⟨Vf, lmf, lvf, xf, ef, qf, vf, lf_, ff, mf⟩ := this
          exact ⟨Vf, lmf, lvf, xf, ef, qf, vf, fun k hk => ⟨(lf_ k hk).1.trans (l8 k (by omega)), (lf_ k hk).2⟩, f7.tr ff, fun _ => mf h7⟩
        show J2 nt N M w ba pf rf lf c hp H K (200 - f) (g_nl g) (z_skl V) (if (x1.1 0 35) = 0 then _ else _) x1 lm1 lv1 _
        by_cases h35 : x1.1 0 35 = 0
        · rw [if_pos h35]; exact fin x1 q1 z' (zfr.rf _ x1)
        · rw [if_neg h35, nI_nd hK4, nI_cl hK4]
          have qa := q1.nx (v := x1.1 66 K) (n := g_nx g) (fun z => absurd z z')
          obtain ⟨x7, t1, t2, t3, t4⟩ := m_endM (d := d) (by omega) hK4 qa z'
          rw [t1, mj_rV_k, m_goM (by omega) t4, mj_rV_k]
          have t3' : Q2 nt N M w ba pf rf lf c (hp + (c_ps s.2.2).length) (s :: H) (K + 1) (200 - f) none V1 lm1 lv1 x7 g2 := by
            have t5 := (t3.mc t4).1
            obtain ⟨a1, a2, a3', a4⟩ := t3
            exact ⟨a1, a2, a3', Or.inr ⟨t4, t5, (q1.mc z').2⟩⟩
          exact fin x7 t3' t4 (((zfr.rf _ x1).w _ rfl).tr t2)
      · have z : x1.1 0 34 = 0 := Decidable.not_not.mp z'
        have q1x := (q1.ex z).1.2.2.resolve_right (fun p => absurd z (by rw [p.1.1]; decide))
        have h35 : x1.1 0 35 = sp_b (g_al g2) := q1x.2.2.2.2.2.2.2.1
        show J2 nt N M w ba pf rf lf c hp H K (200 - f) (g_nl g) (z_skl V) (if (x1.1 0 35) = 0 then _ else _) x1 lm1 lv1 _
        cases hal : g_al g2
        · rw [hal] at h35 hok2
          rw [if_pos (by rw [h35]; rfl)]
          exact C68 V1 lm1 lv1 x1 g2 _ q1 v1 (by omega) w1 rfl hC1 hok2
        · rw [hal] at h35 hok2
          simp only [cond_true] at hok2 ⊢
          rw [if_neg (by rw [h35]; decide), nI_nd hK4, nI_cl hK4]
          have qa := q1.nx (v := x1.1 66 K) (n := g_nx g) (fun z => h66 q1 z)
          have mE1 : wM (s_nx (g_nx g) g2) (w_end (wS nt f) s.2.2 (s_nx (g_nx g) g2)) := (wM.rf _).end_ (wS_mono nt f) _
          rw [wend] at hok2 ⊢
          have mG1 : wM (w_end (wS nt f) s.2.2 (s_nx (g_nx g) g2)) (w_go (g_nl g) (w_end (wS nt f) s.2.2 (s_nx (g_nx g) g2))) := (wM.rf _).go _
          have okG := (mD _ _).1 hok2
          have je := m_end (d := d) (s := s) (by omega) hf (by simp) (by rw [s2]; exact hs3) hcoks hT R (g := s_nx (g_nx g) g2) hC1 qa (mG1.1 okG)
          rw [s1] at je
          refine J2.pre (y := mj_wI x1 0 38 (x1.1 66 K)) ?_ ((zfr.rf _ x1).w _ rfl) (fun q => q)
          have ne1 : g_nl g2 ≤ g_nl (w_end (wS nt f) s.2.2 (s_nx (g_nx g) g2)) := mE1.2.2.2.2.2.2.1
          have ne2 := mG1.2.2.2.2.2.2.1
          refine J2.b (n1 := g_nl g2) (by omega) je (fun V2 lm2 lv2 x2 q2 v2 l2 f2 mm2 => ?_)
          have jg := J2.go (d := d) (l := g_nl g) (by omega) (by omega) (by rw [(l2 _ (by omega)).2]; exact w1) q2 okG
          rw [(l2 _ (show g_nl g < g_nl g2 by omega)).1] at jg
          refine J2.b (n1 := g_nl (w_end (wS nt f) s.2.2 (s_nx (g_nx g) g2))) (by omega) jg (fun V3 lm3 lv3 x3 q3 v3 l3 f3 mm3 => ?_)
          exact C68 V3 lm3 lv3 x3 _ _ q3 ((v3.trans v2).trans v1) (by omega) (by rw [(l3 _ (by omega)).2, (l2 _ (by omega)).2]; exact w1) (by rw [(l3 _ (by omega)).1, (l2 _ (by omega)).1]) (w_cok.wK (mE1.tr mG1).2.2.2.2.2.1 hC1) hok2)
  obtain ⟨y, ho, -⟩ := h.opn (t := nI sort) hKu
  rw [ho d (by omega), mj_rI_k] at key ⊢
  exact key
end
