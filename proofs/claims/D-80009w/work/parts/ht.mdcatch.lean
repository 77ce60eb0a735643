/-! statements of CodeWriterModel: handlers -/
theorem w_pe_pl {g : wG} {tag s off v q : Nat} {b : Int64} {on : List Nat} : w_pe tag s b off on (s_pl v q g) = s_pl v q (w_pe tag s b off on g) := by
  unfold w_pe w_em w_es
  have : w_q (s_pl v q g) = w_q g := rfl
  rw [this]
  cases hq : w_q g
  · simp only [cond_false]
    have h2 : w_q (s_ok ((w_pn s b (g_po (s_pl v q g))).length ≤ 100) (s_po (w_pn s b (g_po (s_pl v q g))) (s_pl v q g))) = false := hq
    have h3 : w_q (s_ok ((w_pn s b (g_po g)).length ≤ 100) (s_po (w_pn s b (g_po g)) g)) = false := hq
    rw [h2, h3]; rfl
  · rfl
/-- another word on whether all is well -/
def s_P (P : Prop) (g : wG) : wG := (g.1, g.2.1, g.2.2.1, g.2.2.2.1, g.2.2.2.2.1, g.2.2.2.2.2.1, g.2.2.2.2.2.2.1, g.2.2.2.2.2.2.2.1, g.2.2.2.2.2.2.2.2.1, g.2.2.2.2.2.2.2.2.2.1, g_pl g, P)
theorem w_pe_tk {g : wG} {tag s off k : Nat} {b : Int64} {on : List Nat} (hok : g_ok (w_pe tag s b off on g)) : ∃ P, P ∧ w_pe tag s b off on (s_tk k g) = s_P P (s_tk k (w_pe tag s b off on g)) := by
  cases hq : w_q g
  · have h0 : w_q (s_tk k g) = false := hq
    have h2 : w_q (s_ok ((w_pn s b (g_po (s_tk k g))).length ≤ 100) (s_po (w_pn s b (g_po (s_tk k g))) (s_tk k g))) = false := hq
    have h3 : w_q (s_ok ((w_pn s b (g_po g)).length ≤ 100) (s_po (w_pn s b (g_po g)) g)) = false := hq
    unfold w_pe w_em w_es at hok ⊢
    rw [hq] at hok
    simp only [cond_false] at hok
    rw [h3] at hok
    simp only [cond_false] at hok
    rw [h0, hq]
    simp only [cond_false]
    rw [h2, h3]
    refine ⟨_, ?_, rfl⟩
    obtain ⟨⟨o1, o2, o3, o4⟩, o5⟩ := hok
    exact ⟨⟨o1, o2, Nat.le_trans o3 (Nat.le_max_left _ _), o4⟩, o5⟩
  · have h0 : w_q (s_tk k g) = true := hq
    have e1 : w_pe tag s b off on (s_tk k g) = s_tk k g := by unfold w_pe; rw [h0]; rfl
    have e2 : w_pe tag s b off on g = g := by unfold w_pe; rw [hq]; rfl
    rw [e2] at hok
    rw [e1, e2]
    exact ⟨g_ok g, hok, rfl⟩
section
variable {nt : sp_NT} {N M : Nat} {w : Bool} {ba pf rf lf c hp : Nat} {H V : List wSl} {K u : Nat} {o : Option Int32} {lm lm' : Nat → Nat} {lv lv' : Nat → Bool} {x y : mj_X} {g G : wG} {res par : Nat → Int32} {f : Nat} {n : Int32}
theorem Q2.skp {hp2 : Nat} (h : Q2 nt N M w ba pf rf lf c hp H K u o V lm lv x g) (h0 : ¬ x.1 0 34 = 0) (hm : wM g G) (ho : w_over w (rf + hp2) lf G) : ∃ V' lm', Q2 nt N M w ba pf rf lf c hp2 H K u o V' lm' lv x G ∧ z_skl V' = z_skl V ∧ ∀ l, l < g_nl g → lm' l = lm l := by
  obtain ⟨V', lm', ⟨a1, a2, a3, a4⟩, v, l⟩ := h.skip h0 hm
  have := a4.resolve_left (fun q => h0 q.1)
  exact ⟨V', lm', ⟨a1, a2, a3, Or.inr ⟨h0, this.2.1, ho⟩⟩, v, l⟩
/-- when it was much: a step that keeps what then holds -/
theorem Q2.mz (h : Q2 nt N M w ba pf rf lf c hp H K u o V lm lv x g) (h0 : ¬ x.1 0 34 = 0) (f : zfr (zw ba pf lf) x y) (hm : m1 ba lf c y) : Q2 nt N M w ba pf rf lf c hp H K u o V lm lv y g := ⟨h.1, h.2.1.fr f, h.2.2.1.eq (eS.of_zw f), Or.inr ⟨by rw [hm.1]; decide, hm, (h.mc h0).2⟩⟩
theorem m_putM {d m : Nat} (hd : 1 ≤ d) (hm : m < 300000) (h : m1 ba lf c x) : ∃ x', kX1 d 51 [.ref 0, .int (nI m)] x = some (none, x') ∧ zfr (zw ba pf lf) x x' ∧ m1 ba lf c x' := by
  obtain ⟨d, rfl⟩ : ∃ c, d = c + 1 := ⟨d - 1, by omega⟩
  rw [eX1_put, nI_clamp (by omega), mj_g_k (mj_in_nI (by omega) (by omega)), mj_g_k (mj_in_nI (by omega) (by omega))]
  by_cases q0 : x.1 0 35 = 0
  · rw [if_pos q0]
    by_cases q1 : x.1 50 m < 0
    · rw [if_pos q1]
      exact ⟨_, rfl, (zfr.rf _ x).w _ rfl, h⟩
    · rw [if_neg q1, mj_g_k (mj_in_nI (by omega) (by omega))]
      obtain ⟨a1, a2, a3, a4, a5, a6⟩ := h
      exact ⟨_, rfl, (((zfr.rf _ x).w _ rfl).w _ rfl).w _ rfl, ⟨a1, a2, a3, a4, ⟨true, rfl⟩, a6⟩⟩
  · rw [if_neg q0]
    exact ⟨_, rfl, (zfr.rf _ x).w _ rfl, h⟩
/-- ranges that a handler adds -/
theorem w_hd_ph {L : List Nat} {ps : List (Nat × Nat)} {k : Int32} : w_ph (w_hd L ps k g) = w_ph g + ps.length := by
  obtain ⟨e, he, hl⟩ := w_reg_app (g_it g).length k ps (g_rg g)
  show (w_reg (g_it g).length k ps (g_rg g)).length + w_np (g_cx g) = (g_rg g).length + w_np (g_cx g) + ps.length
  rw [he, List.length_append, hl]; omega
theorem w_ctc_over {rec : wT} (R : ∀ n k, wM k (rec n k)) {L : List Nat} {ps : List (Nat × Nat)} {e : Nat} {q : Int32} {r : List Int32} (ho : w_over w (rf + (hp + ps.length)) lf g) : w_over w (rf + hp) lf (w_ctc nt rec L ps e (q :: r) g) := by
  have hm : wM g (w_ctc nt rec L ps e (q :: r) g) := wM.ctc R L ps e (q :: r) (wM.rf g)
  cases hov : g_ov g
  · by_cases hps : ps = []
    · subst hps
      exact w_over.mono (by rw [show rf + (hp + ([] : List (Nat × Nat)).length) = rf + hp from rfl] at ho; exact ho) hm
    · have h2 : ps.isEmpty = false := by cases ps with
        | nil => exact absurd rfl hps
        | cons _ _ => rfl
      have key : ∃ k, wM (w_hd L ps k g) (w_ctc nt rec L ps e (q :: r) g) := by
        unfold w_ctc
        rw [hov, h2]
        simp only [Bool.or_false, cond_false]
        refine ⟨nA nt (bif decide (nK nt (nA nt q) = 78) then nB nt (nA nt q) else nA nt q), wM.ctc R L ps e r (wM.go (wM.s_nx (wM.aln R (wM.cond ?_ ?_) _) _) _)⟩
        · exact (((wM.rf _).pe _ _ _ _ _).ts _ _).s_pl _ _
        · exact (wM.rf _).em _ _ _
      obtain ⟨k, hk⟩ := key
      have h3 := w_hd_ph (g := g) (L := L) (ps := ps) (k := k)
      refine w_over.mono (g := w_hd L ps k g) ?_ hk
      exact ho.of rfl rfl rfl (by rw [h3]; omega)
  · exact Or.inl (hm.2.2.1 hov)
/-- the catches of a hidden context's pieces -/
theorem m_catches {d e : Nat} (hd : 6 * f + 262 ≤ d) (hc1 : 83 ≤ c) (hc2 : c ≤ 3990) (hf : f ≤ 200) (hT : wTb nt N M res par) (R : ∀ m, wA nt N 40 m → mS nt N M w ba pf rf lf c f m) {s : wSl} {L : List Nat} (hsK : s.1 = K) (h2 : s.2.2.1 = 2) {a1 a2 v : Int32} :
    ∀ (l : List Int32) (q : Int32) (hpj : Nat) (V : List wSl) (lm : Nat → Nat) (lv : Nat → Bool) (x : mj_X) (g : wG) (o6 o7 o8 o9 : Option Value), sp_Ch nt N 76 l q → wCh nt N 40 76 l → hpj ≤ hp + (c_ps s.2.2).length → (l = [] → hpj ≤ hp) → z_ch (x.1 0 59) K V → e < g_nl g → lv e = true → v = nI (lm e) → (∀ c, c ∈ g_cx g → w_cok nt N c) → Q2 nt N M w ba pf rf lf c hpj (s :: H) (K + 1) (200 - f) none V lm lv x g → g_ok (w_put e (w_ctc nt (wS nt f) L (c_ps s.2.2) e l g)) →
      J2 nt N M w ba pf rf lf c hp H K (200 - f) (g_nl g) (z_skl V) (rX1_caught d (36, [some (.ref 0), some (.int a1), some (.int a2), some (.int (nI K)), some (.int v), some (.int q), o6, o7, o8, o9], [], x)) x lm lv (w_put e (w_ctc nt (wS nt f) L (c_ps s.2.2) e l g)) := by
  -- the end: contexts as before, the label is put
  have exit_ : ∀ (V : List wSl) (lm : Nat → Nat) (lv : Nat → Bool) (x : mj_X) (g G : wG), wM g G → z_ch (x.1 0 59) K V → e < g_nl g → lv e = true → v = nI (lm e) → Q2 nt N M w ba pf rf lf c hp (s :: H) (K + 1) (200 - f) none V lm lv x G → g_ok (w_put e G) →
      J2 nt N M w ba pf rf lf c hp H K (200 - f) (g_nl g) (z_skl V) (mj_rV (kX1 d 51 [.ref 0, .int v] (mj_wI x 0 58 (nI K))) fun x1 => some (none, x1)) x lm lv (w_put e G) := by
    intro V lm lv x g G hm hch he hv hvv q hok
    have pw := q.2.2.1.2.2.2.2.2.2.1
    have q2 : Q2 nt N M w ba pf rf lf c hp H K (200 - f) none V lm lv (mj_wI x 0 58 (nI K)) G := by
      refine Q2.ofzk (k := K) q.drop ((zfr.rf _ x).w _ rfl) (fun t ht => ?_) rfl (Nat.le_refl _) (by have := q.2.2.1.2.2.1; omega) hch
      have h1 := (q.drop.lt ht).1
      have := (List.pairwise_cons.mp pw).1 t ht
      omega
    have nn := hm.2.2.2.2.2.2.1
    rw [hvv]
    exact (J2.end_ ((J2.put (d := d) (l := e) (by omega) (by omega) hv q2 hok).le nn)).pre ((zfr.rf _ x).w _ rfl) (fun q => q)
  intro l
  induction l with
  | nil =>
    intro q hpj V lm lv x g o6 o7 o8 o9 hl hch hhp hl0 hzc he hv hvv hC h hok
    have hq : q = -1 := hl
    rw [bX1_caught_36, if_pos hq]
    exact exit_ V lm lv x g g (wM.rf g) hzc he hv hvv (h.hpm (hl0 rfl)) hok
  | cons p r ih =>
    intro q hpj V lm lv x g o6 o7 o8 o9 hl hch hhp hl0 hzc he hv hvv hC h hok
    obtain ⟨e1, e2, e3, e4, e5⟩ := hl
    subst e1
    have hK4 : K < 4000 := by have := h.2.2.1.2.2.1; have := h.2.2.1.2.2.2.1; omega
    have hmc : wM g (w_ctc nt (wS nt f) L (c_ps s.2.2) e (q :: r) g) := wM.ctc (wS_mono nt f) L (c_ps s.2.2) e (q :: r) (wM.rf g)
    rw [bX1_caught_36, if_neg (nd_n1 e2), nI_nd hK4, nI_cl hK4]
    -- it was much
    have much : ¬ x.1 0 34 = 0 → J2 nt N M w ba pf rf lf c hp H K (200 - f) (g_nl g) (z_skl V) (mj_rV (kX1 d 51 [.ref 0, .int v] (mj_wI x 0 58 (nI K))) fun x1 => some (none, x1)) x lm lv (w_put e (w_ctc nt (wS nt f) L (c_ps s.2.2) e (q :: r) g)) := by
      intro h0
      have ho : w_over w (rf + hp) lf (w_ctc nt (wS nt f) L (c_ps s.2.2) e (q :: r) g) := by
        refine w_ctc_over (wS_mono nt f) ?_
        exact (h.mc h0).2.of rfl rfl rfl (by omega)
      obtain ⟨V', lm', q', v', l'⟩ := h.skp h0 hmc ho
      rw [← v']
      have := exit_ V' lm' lv x g _ hmc (hzc.skl v') he hv (by rw [hvv, l' e he]) q' hok
      obtain ⟨Vf, lmf, lvf, xf, ef, qf, vf, lf_, ff, mf⟩ := this
      exact ⟨Vf, lmf, lvf, xf, ef, qf, vf, fun k hk => ⟨(lf_ k hk).1.trans (l' k hk), (lf_ k hk).2⟩, ff, mf⟩
    by_cases h0 : ¬ x.1 0 34 = 0
    · rw [if_neg h0]
      split
      · exact much h0
      · exact much h0
    have h0 : x.1 0 34 = 0 := Decidable.not_not.mp h0
    obtain ⟨-, -, -, -, -, np, ps, b1, b2, b3, b4⟩ := h.ex h0
    obtain ⟨⟨z1, z2, z3, z4, z5, z6, z7⟩, z8⟩ := b3 s (by simp)
    have hplen := z6.len
    rw [hsK] at z3
    by_cases hps : ps s.1 = []
    · -- no piece
      rw [hsK] at hps
      rw [z3, hps, if_pos (by decide)]
      have hcp : c_ps s.2.2 = [] := by rw [hsK, hps] at hplen; exact List.length_eq_zero_iff.mp hplen.symm
      have E : w_ctc nt (wS nt f) L (c_ps s.2.2) e (q :: r) g = g := by unfold w_ctc; rw [hcp]; simp
      rw [E] at hok ⊢
      rw [hcp] at hhp
      exact exit_ V lm lv x g g (wM.rf g) hzc he hv hvv (h.hpm (by simpa using hhp)) hok
    · obtain ⟨p0, p1, p2⟩ := z_fst_mem (ps s.1) hps
      rw [hsK] at p1 p2
      have p3 := z8 p0 (by rw [hsK]; exact p1)
      have p4 := b1.2
      rw [z3, p2, if_neg (nI_pos (by omega)), if_pos h0]
      have hcp : (c_ps s.2.2).isEmpty = false := by
        cases hcc : c_ps s.2.2 with
        | nil => rw [hcc] at hplen; exact absurd (List.length_eq_zero_iff.mp hplen) hps
        | cons _ _ => rfl
      have hov : g_ov g = false := ((h.ex h0).1.2.2.resolve_right (fun p => absurd h0 (by rw [p.1.1]; decide))).1
      -- the clause
      obtain ⟨-, hdq, -⟩ := hch q (List.mem_cons_self ..)
      obtain ⟨⟨n1, n2, n3⟩, -⟩ := wE_catches hT e2 (show nD nt q ≤ 39 + 1 by omega) e3
      rw [h.nd e2, h.T.2.1, h.nd n1, h.T.1]
      have a7e : x.1 0 38 = nI (g_nx g) ∧ g_nx g ≤ 8000 := ⟨(h.ex h0).2.1.1, (h.ex h0).2.1.2.1⟩
      have hK5 : K + 1 ≤ 200 - f := h.2.2.1.2.2.1
      -- from the clause's statement on
      have tail : ∀ (kk a8 : Int32) (V2 : List wSl) (lm2 : Nat → Nat) (lv2 : Nat → Bool) (x2 : mj_X) (g2 : wG), sp_nd N kk = true → nK nt kk = 77 → wM g g2 → z_skl V2 = z_skl V → (∀ l, l < g_nl g → lm2 l = lm l ∧ lv2 l = lv l) → Q2 nt N M w ba pf rf lf c hp (s :: H) (K + 1) (200 - f) none V2 lm2 lv2 x2 g2 → g_ok (w_put e (w_ctc nt (wS nt f) L (c_ps s.2.2) e r (w_go e (s_nx (g_nx g) (w_aln (wS nt f) (nB nt kk) g2))))) →
          J2 nt N M w ba pf rf lf c hp H K (200 - f) (g_nl g) (z_skl V) (rX1_caught d (176, [some (.ref 0), some (.int a1), some (.int a2), some (.int (nI K)), some (.int v), some (.int q), some (.int (nA nt q)), some (.int (x.1 0 38)), some (.int a8), some (.int kk)], [], x2)) x2 lm2 lv2 (w_put e (w_ctc nt (wS nt f) L (c_ps s.2.2) e r (w_go e (s_nx (g_nx g) (w_aln (wS nt f) (nB nt kk) g2))))) := by
        intro kk a8 V2 lm2 lv2 x2 g2 nk kk77 mg v2 l2 q2 hok2
        have hdk := (hT.d nk).2
        obtain ⟨-, -, sb⟩ := wE_catch hT nk (show nD nt kk ≤ 39 + 1 by omega) kk77
        have sb : wA nt N 40 (nB nt kk) := ⟨sb.1, sb.2.1, by have := sb.2.2; omega⟩
        have m3 : wM g2 (w_aln (wS nt f) (nB nt kk) g2) := (wM.rf g2).aln (wS_mono nt f) _
        have m3' : wM g2 (s_nx (g_nx g) (w_aln (wS nt f) (nB nt kk) g2)) := m3.s_nx _
        have m4 : wM (s_nx (g_nx g) (w_aln (wS nt f) (nB nt kk) g2)) (w_go e (s_nx (g_nx g) (w_aln (wS nt f) (nB nt kk) g2))) := (wM.rf _).go _
        have m5 : wM (w_go e (s_nx (g_nx g) (w_aln (wS nt f) (nB nt kk) g2))) (w_put e (w_ctc nt (wS nt f) L (c_ps s.2.2) e r (w_go e (s_nx (g_nx g) (w_aln (wS nt f) (nB nt kk) g2))))) := (wM.ctc (wS_mono nt f) L (c_ps s.2.2) e r (wM.rf _)).put _
        have ok4 := m5.1 hok2
        have ok3 : g_ok (w_aln (wS nt f) (nB nt kk) g2) := m4.1 ok4
        have nng := mg.2.2.2.2.2.2.1
        have nn3 := m3.2.2.2.2.2.2.1
        have nn4 : g_nl (w_aln (wS nt f) (nB nt kk) g2) ≤ _ := m4.2.2.2.2.2.2.1
        have hC2 := w_cok.wK mg.2.2.2.2.2.1 hC
        rw [bX1_caught_176, q2.nd nk, q2.T.2.2.1]
        refine J2.b nng (J2.block (R _ sb) (d := d) (by omega) (by omega) q2 hC2 ok3) (fun V3 lm3 lv3 x3 q3 v3 l3 f3 mm3 => ?_)
        have q4 := q3.nx (v := x.1 0 38) (n := g_nx g) (fun _ => a7e)
        have c3 : ∀ l, l < g_nl g → lm3 l = lm l ∧ lv3 l = lv l := fun l hl => ⟨(l3 l (by omega)).1.trans (l2 l hl).1, (l3 l (by omega)).2.trans (l2 l hl).2⟩
        have jg := J2.go (d := d) (l := e) (lv := lv3) (lm := lm3) (g := s_nx (g_nx g) (w_aln (wS nt f) (nB nt kk) g2)) (by omega) (show e < g_nl (w_aln (wS nt f) (nB nt kk) g2) by omega) (by rw [(c3 e he).2]; exact hv) q4 ok4
        rw [(c3 e he).1, ← hvv] at jg
        refine J2.pre (y := mj_wI x3 0 38 (x.1 0 38)) ?_ ((zfr.rf _ x3).w _ rfl) (fun q => q)
        refine J2.b (n1 := g_nl (w_aln (wS nt f) (nB nt kk) g2)) (by omega) jg (fun V5 lm5 lv5 x5 q5 v5 l5 f5 mm5 => ?_)
        have c5 : ∀ l, l < g_nl g → lm5 l = lm l ∧ lv5 l = lv l := fun l hl => ⟨(l5 l (by omega)).1.trans (c3 l hl).1, (l5 l (by omega)).2.trans (c3 l hl).2⟩
        have sk5 : z_skl V5 = z_skl V := (v5.trans v3).trans v2
        have h59 : x5.1 0 59 = x.1 0 59 := by
          have t1 := q5.2.2.1.2.2.2.2.2.1.at0
          have t2 := hzc.at0
          rw [z_at_skl sk5] at t1
          exact t1.trans t2.symm
        rw [q5.nd e2, q5.T.2.2.1, ← sk5]
        refine (ih (nB nt q) hp V5 lm5 lv5 x5 _ _ _ _ _ e5 (fun k hk => hch k (List.mem_cons_of_mem _ hk)) (by omega) (fun _ => Nat.le_refl _) (by rw [h59]; exact hzc.skl sk5) (by omega) (by rw [(c5 e he).2]; exact hv) (by rw [(c5 e he).1]; exact hvv) (w_cok.wK ((m3'.tr m4).2.2.2.2.2.1) hC2) q5 hok2).le (by omega)
      by_cases hnm : nK nt (nA nt q) = 78
      · -- it has a name
        rw [if_pos hnm]
        obtain ⟨w1, w2, w3, w4, w5, w6⟩ := wE_with hT n1 (show nD nt (nA nt q) ≤ 38 + 1 by omega) hnm
        have E : w_ctc nt (wS nt f) L (c_ps s.2.2) e (q :: r) g = w_ctc nt (wS nt f) L (c_ps s.2.2) e r (w_go e (s_nx (g_nx g) (w_aln (wS nt f) (nB nt (nB nt (nA nt q))) (s_pl (nA nt (nA nt q)).toNatClampNeg (g_nx (w_hd L (c_ps s.2.2) (nA nt (nB nt (nA nt q))) g)) (w_ts 1 [1] (w_pe 15 72 0 1 [1] (w_hd L (c_ps s.2.2) (nA nt (nB nt (nA nt q))) g))))))) := by
          show (bif g_ov g || (c_ps s.2.2).isEmpty then g else _) = _
          rw [hov, hcp]
          simp only [Bool.or_false, cond_false, decide_eq_true hnm, cond_true]
        rw [E] at hok ⊢
        have hmg : wM g (w_hd L (c_ps s.2.2) (nA nt (nB nt (nA nt q))) g) := (wM.rf g).hd _ _ _
        have hqh : w_q (w_hd L (c_ps s.2.2) (nA nt (nB nt (nA nt q))) g) = false := (w_q_iff _).mpr ⟨rfl, hov⟩
        generalize hgh : w_hd L (c_ps s.2.2) (nA nt (nB nt (nA nt q))) g = gh at *
        have mp : wM gh (w_pe 15 72 0 1 [1] gh) := (wM.rf gh).pe _ _ _ _ _
        have mt : wM (w_pe 15 72 0 1 [1] gh) (w_ts 1 [1] (w_pe 15 72 0 1 [1] gh)) := (wM.rf _).ts _ _
        have m2 : wM gh (s_pl (nA nt (nA nt q)).toNatClampNeg (g_nx gh) (w_ts 1 [1] (w_pe 15 72 0 1 [1] gh))) := (mp.tr mt).s_pl _ _
        have mAll : wM (s_pl (nA nt (nA nt q)).toNatClampNeg (g_nx gh) (w_ts 1 [1] (w_pe 15 72 0 1 [1] gh))) (w_put e (w_ctc nt (wS nt f) L (c_ps s.2.2) e r (w_go e (s_nx (g_nx g) (w_aln (wS nt f) (nB nt (nB nt (nA nt q))) (s_pl (nA nt (nA nt q)).toNatClampNeg (g_nx gh) (w_ts 1 [1] (w_pe 15 72 0 1 [1] gh)))))))) := (wM.ctc (wS_mono nt f) L (c_ps s.2.2) e r ((((wM.rf _).aln (wS_mono nt f) _).s_nx _).go _)).put _
        have okT : g_ok (w_ts 1 [1] (w_pe 15 72 0 1 [1] gh)) := mAll.1 hok
        have okP : g_ok (w_pe 15 72 0 1 [1] gh) := mt.1 okT
        have hqp : w_q (w_pe 15 72 0 1 [1] gh) = false := (wP_pe (n := 0) hqh).2.1
        have nxp : g_nx (w_pe 15 72 0 1 [1] gh) = g_nx gh := (wP_pe (n := 0) hqh).1.1.2.1
        obtain ⟨p5, p6⟩ := okT.2 hqp
        have okS : g_ok (w_es (3, 1, g_nx (w_pe 15 72 0 1 [1] gh), 0, []) (g_L (w_pe 15 72 0 1 [1] gh) ++ [1], (g_st (w_pe 15 72 0 1 [1] gh)).drop (w_tl 1).length) (s_tk (w_tl 1).length (w_pe 15 72 0 1 [1] gh))) := okT.1
        rw [bX1_caught_90, if_neg (by decide), h.nd n1, h.T.2.2.1, bX1_caught_109, h.nd w4, h.T.2.1]
        obtain ⟨x1, e1', q1, f1⟩ := m_handler (d := d) (hp2 := hp) (s := s) (L := L) (k := nA nt (nB nt (nA nt q))) (by omega) (by simp) h0 h hhp
        rw [hsK] at e1'
        rw [hgh] at q1
        rw [e1', mj_rV_k, if_neg (by decide), q1.nd n1, q1.T.2.1, e_take (by omega) q1.T.2.2.2.2 w1, mj_rV_k, q1.T.2.2.2.1, hT.ty w1, w3]
        have hx38 : x1.1 0 34 = 0 → x1.1 0 38 = nI (g_nx gh) := fun z => (q1.ex z).2.1.1
        have q2 := (q1.tk (t := 1) (by decide) (fun _ => by rw [← nxp]; exact p6)).plw (v := nA nt (nA nt q)) (p := x1.1 0 38) (q := g_nx gh) (Nat.lt_of_lt_of_le (sp_nd_lt q1.T.2.2.2.2 w1) q1.T.2.2.2.2) (fun z => ⟨hx38 z, by rw [← nxp]; omega⟩)
        obtain ⟨P, hP, hPe⟩ := w_pe_tk (k := (w_tl 1).length) okP
        have ji := J2.inv (d := d) (s := 72) (off := 1) (v := 0) (on := [1]) (by omega) (Or.inr (Or.inr rfl)) q2 (by rw [w_pe_pl, hPe]; exact hP) rfl
        rw [w_pe_pl, hPe] at ji
        have ji : J2 nt N M w ba pf rf lf c hp (s :: H) (K + 1) (200 - f) (g_nl gh) (z_skl V) (kX1 d 78 [.ref 0, .int (72 : Int32), .int (0 : Int32), .int (1 : Int32), .int (1 : Int32)] (mj_wI (mj_wI (mj_wI x1 0 38 (x1.1 0 38 + sp_pl (nI 1))) 0 39 (mj_max (x1.1 0 39) (x1.1 0 38 + sp_pl (nI 1)))) 48 (nA nt (nA nt q)).toNatClampNeg (x1.1 0 38))) (mj_wI (mj_wI (mj_wI x1 0 38 (x1.1 0 38 + sp_pl (nI 1))) 0 39 (mj_max (x1.1 0 39) (x1.1 0 38 + sp_pl (nI 1)))) 48 (nA nt (nA nt q)).toNatClampNeg (x1.1 0 38)) lm lv (s_pl (nA nt (nA nt q)).toNatClampNeg (g_nx gh) (s_tk (w_tl 1).length (w_pe 15 72 0 1 [1] gh))) := ji
        refine J2.pre (y := mj_wI (mj_wI (mj_wI x1 0 38 (x1.1 0 38 + sp_pl (nI 1))) 0 39 (mj_max (x1.1 0 39) (x1.1 0 38 + sp_pl (nI 1)))) 48 (nA nt (nA nt q)).toNatClampNeg (x1.1 0 38)) ?_ ((zhd_zw2 f1).tr ((((zfr.rf _ x1).w _ rfl).w _ rfl).w _ (by unfold zw2; exact Bool.or_true _))) (fun z => absurd h0 z)
        refine J2.b (n1 := g_nl gh) hmg.2.2.2.2.2.2.1 ji (fun V4 lm4 lv4 x4 q4 v4 l4 f4 mm4 => ?_)
        have back4 : x4.1 0 34 = 0 → x1.1 0 34 = 0 := fun z => Decidable.byContradiction fun p => mm4 p z
        rw [q4.nd n1, q4.T.2.1, q4.nd w1]
        have hpl4 : x4.1 0 34 = 0 → x4.1 48 (nA nt (nA nt q)).toNatClampNeg = nI (g_nx gh) := fun z => by
          have := (q4.ex z).1.1.2.2.2.2.2.2.2.2 (nA nt (nA nt q)).toNatClampNeg (g_nx gh) (Nat.lt_of_lt_of_le (sp_nd_lt q1.T.2.2.2.2 w1) q1.T.2.2.2.2) (by show (if (nA nt (nA nt q)).toNatClampNeg = (nA nt (nA nt q)).toNatClampNeg then some (g_nx gh) else _) = _; rw [if_pos rfl])
          exact this.1
        have js := J2.stn (d := d) (t := 1) (p := x4.1 48 (nA nt (nA nt q)).toNatClampNeg) (q := g_nx (w_pe 15 72 0 1 [1] gh)) (F := (g_L (w_pe 15 72 0 1 [1] gh) ++ [1], (g_st (w_pe 15 72 0 1 [1] gh)).drop (w_tl 1).length)) (by omega) (by decide) (by decide) q4 (fun z => ⟨by rw [nxp]; exact hpl4 z, by omega⟩) (fun _ => ⟨p5, rfl⟩) (by rw [w_es_pl]; exact okS)
        rw [w_es_pl] at js
        refine J2.b (n1 := g_nl (w_pe 15 72 0 1 [1] gh)) (Nat.le_trans hmg.2.2.2.2.2.2.1 mp.2.2.2.2.2.2.1) js (fun V5 lm5 lv5 x5 q5 v5 l5 f5 mm5 => ?_)
        have c5 : ∀ l, l < g_nl g → lm5 l = lm l ∧ lv5 l = lv l := fun l hl => by
          have a := l5 l (Nat.lt_of_lt_of_le hl (Nat.le_trans hmg.2.2.2.2.2.2.1 mp.2.2.2.2.2.2.1))
          have b := l4 l (Nat.lt_of_lt_of_le hl hmg.2.2.2.2.2.2.1)
          exact ⟨a.1.trans b.1, a.2.trans b.2⟩
        have jt := tail (nB nt (nA nt q)) 1 V5 lm5 lv5 x5 (s_pl (nA nt (nA nt q)).toNatClampNeg (g_nx gh) (w_ts 1 [1] (w_pe 15 72 0 1 [1] gh))) w4 w6 (hmg.tr m2) (v5.trans v4) c5 q5 hok
        exact jt
      · -- it has none
        rw [if_neg hnm]
        have k77 : nK nt (nA nt q) = 77 := n3.resolve_right hnm
        have E : w_ctc nt (wS nt f) L (c_ps s.2.2) e (q :: r) g = w_ctc nt (wS nt f) L (c_ps s.2.2) e r (w_go e (s_nx (g_nx g) (w_aln (wS nt f) (nB nt (nA nt q)) (w_em (7, 87, 0, 0, []) 1 [] (w_hd L (c_ps s.2.2) (nA nt (nA nt q)) g))))) := by
          show (bif g_ov g || (c_ps s.2.2).isEmpty then g else _) = _
          rw [hov, hcp]
          simp only [Bool.or_false, cond_false, decide_eq_false hnm]
        rw [E] at hok ⊢
        have hmg : wM g (w_hd L (c_ps s.2.2) (nA nt (nA nt q)) g) := (wM.rf g).hd _ _ _
        generalize hgh : w_hd L (c_ps s.2.2) (nA nt (nA nt q)) g = gh at *
        have mp : wM gh (w_em (7, 87, 0, 0, []) 1 [] gh) := (wM.rf gh).em _ _ _
        have mAll : wM (w_em (7, 87, 0, 0, []) 1 [] gh) (w_put e (w_ctc nt (wS nt f) L (c_ps s.2.2) e r (w_go e (s_nx (g_nx g) (w_aln (wS nt f) (nB nt (nA nt q)) (w_em (7, 87, 0, 0, []) 1 [] gh)))))) := (wM.ctc (wS_mono nt f) L (c_ps s.2.2) e r ((((wM.rf _).aln (wS_mono nt f) _).s_nx _).go _)).put _
        have okP := mAll.1 hok
        rw [bX1_caught_90, if_pos rfl, bX1_caught_109, h.nd n1, h.T.2.1]
        obtain ⟨x1, e1', q1, f1⟩ := m_handler (d := d) (hp2 := hp) (s := s) (L := L) (k := nA nt (nA nt q)) (by omega) (by simp) h0 h hhp
        rw [hsK] at e1'
        rw [hgh] at q1
        rw [e1', mj_rV_k, if_pos rfl]
        refine J2.pre ?_ (zhd_zw2 f1) (fun z => absurd h0 z)
        refine J2.b (n1 := g_nl gh) hmg.2.2.2.2.2.2.1 (J2.e1 (d := d) (i := (7, 87, 0, 0, [])) (off := 1) (on := []) (cc := 87) (by omega) q1 okP rfl rfl ⟨fun _ => rfl, fun _ _ => rfl⟩) (fun V4 lm4 lv4 x4 q4 v4 l4 f4 mm4 => ?_)
        exact tail (nA nt q) 0 V4 lm4 lv4 x4 _ n1 k77 (hmg.tr mp) v4 (fun l hl => l4 l (Nat.lt_of_lt_of_le hl hmg.2.2.2.2.2.2.1)) q4 hok
end
