/-! statements of CodeWriterModel: returns -/
section
variable {nt : sp_NT} {N M : Nat} {w : Bool} {ba pf rf lf c hp : Nat} {H V : List wSl} {K u : Nat} {o : Option Int32} {lm lm' : Nat → Nat} {lv lv' : Nat → Bool} {x y : mj_X} {g G : wG} {res par : Nat → Int32} {f : Nat} {n : Int32}
theorem w_em_nx {i : wI} {off : Nat} {on : List Nat} {k : Nat} : w_em i off on (s_nx k g) = s_nx k (w_em i off on g) := by
  unfold w_em w_es
  have : w_q (s_nx k g) = w_q g := rfl
  rw [this]
  cases w_q g <;> rfl
theorem z_at_len (V : List wSl) : z_at V V.length = -1 := by unfold z_at; rw [List.drop_length]
/-- from the return's own code on -/
theorem m_ret103 {d j k : Nat} (hd : 6 ≤ d) {a1 a2 a3 a4 a5 a6 : Int32} {t nx0 : Nat} (hT : wTb nt N M res par) (ht : (a1 = -1 ∧ t = 0) ∨ (sp_nd N a1 = true ∧ t = nT nt a1 ∧ 1 ≤ t ∧ t ≤ 8)) (h5 : x.1 0 34 = 0 → a5 = nI nx0 ∧ nx0 ≤ 8000) (h : Q2 nt N M w ba pf rf lf c hp H K u none V lm lv x g) (hk : k ≤ V.length) (hv : x.1 0 34 = 0 → a6 = z_at V k) (hj : ∃ j, j ≤ V.length ∧ a6 = z_at V j) (hn : j ≤ g_nl g)
    (hok : g_ok (w_em (16, (if t = 0 then 177 else 172 + w_ltr t), 0, 0, []) (w_tl t).length [] g)) :
    J2 nt N M w ba pf rf lf c hp H K u j (z_skl V) (rX1_returns d (103, [some (.ref 0), some (.int a1), some (.int a2), some (.int a3), some (.int a4), some (.int a5), some (.int a6)], [], x)) x lm lv (w_gon k (s_nx nx0 (s_al false (w_em (16, (if t = 0 then 177 else 172 + w_ltr t), 0, 0, []) (w_tl t).length [] g)))) := by
  have m1 : wM g (w_em (16, (if t = 0 then 177 else 172 + w_ltr t), 0, 0, []) (w_tl t).length [] g) := (wM.rf g).em _ _ _
  have fin : ∀ (s1 s2 : Int32), s1 = nI (if t = 0 then 177 else 172 + w_ltr t) → s2 = nI (w_tl t).length → J2 nt N M w ba pf rf lf c hp H K u j (z_skl V) (rX1_returns d (146, [some (.ref 0), some (.int a1), some (.int a2), some (.int a3), some (.int a4), some (.int a5), some (.int a6)], [.int s2, .int s1, .ref 0], x)) x lm lv (w_gon k (s_nx nx0 (s_al false (w_em (16, (if t = 0 then 177 else 172 + w_ltr t), 0, 0, []) (w_tl t).length [] g)))) := by
    intro s1 s2 h1 h2
    rw [bX1_returns_146]
    refine J2.b hn (J2.e1 (d := d) (i := (16, (if t = 0 then 177 else 172 + w_ltr t), 0, 0, [])) (off := (w_tl t).length) (on := []) (cc := s1) (a2 := s2) (a3 := 0) (by omega) h hok h2 rfl ⟨fun _ => by rw [h1]; rfl, fun _ _ => rfl⟩) (fun V1 lm1 lv1 x1 q1 v1 l1 f1 mm1 => ?_)
    have len1 : V1.length = V.length := by have := congrArg List.length v1; simpa [z_skl] using this
    have back : x1.1 0 34 = 0 → x.1 0 34 = 0 := fun z => Decidable.byContradiction fun q => mm1 q z
    have q2 := q1.al0.nx (v := a5) (n := nx0) (fun z => h5 (back z))
    rw [← v1]
    refine J2.pre (J2.end_ ((J2.gon (d := d) (k := k) (v := a6) (by omega) q2 (by omega) (fun z => ?_) ?_).le ?_)) (((zfr.rf _ x1).w _ rfl).w _ rfl) (fun q => q)
    · rw [hv (back z)]; exact (z_at_skl v1 k).symm
    · obtain ⟨i, i1, i2⟩ := hj
      exact ⟨i, by rw [len1]; exact i1, by rw [i2]; exact (z_at_skl v1 i).symm⟩
    · exact Nat.le_trans hn m1.2.2.2.2.2.2.1
  rw [bX1_returns_103]
  rcases ht with ⟨e, e0⟩ | ⟨e1, e2, e3, e4⟩
  · rw [if_pos e, bX1_returns_128, if_pos e]
    exact fin _ _ (by rw [e0]; rfl) (by rw [e0]; rfl)
  · have hty : x.1 5 a1.toNatClampNeg = nI t := by rw [h.T.2.2.2.1, hT.ty e1, e2]
    rw [if_neg (nd_n1 e1), h.nd e1, hty, sX1_letterOf (by omega) e3 e4, mj_rI_k, bX1_returns_128, if_neg (nd_n1 e1), h.nd e1, hty, sX1_placesOf (by omega), mj_rI_k, sp_pl_n e4]
    exact fin _ _ (by rw [if_neg (by omega)]; exact nI_add 172 _) rfl
theorem m_returns {d : Nat} (hd : 6 * f + 264 ≤ d) (hc1 : 83 ≤ c) (hc2 : c ≤ 3990) (hf : f ≤ 200) {a : Int32} (hT : wTb nt N M res par) (ha : a = -1 ∨ (wE nt N 40 a ∧ 1 ≤ nT nt a ∧ nT nt a ≤ 8)) (R : ∀ m, wA nt N 40 m → mS nt N M w ba pf rf lf c f m) (hq : w_q g = false) (hC : ∀ c, c ∈ g_cx g → w_cok nt N c) (h : Q2 nt N M w ba pf rf lf c hp H K (200 - f) none V lm lv x g) (hok : g_ok (w_ret nt (wV nt 40) (wS nt f) a g)) :
    J2 nt N M w ba pf rf lf c hp H K (200 - f) (g_nl g) (z_skl V) (kX1 d 89 [.ref 0, .int a] x) x lm lv (w_ret nt (wV nt 40) (wS nt f) a g) := by
  obtain ⟨d, rfl⟩ : ∃ c, d = c + 1 := ⟨d - 1, by omega⟩
  rw [eX1_returns]
  -- from the ends on
  have from72 : ∀ (V1 : List wSl) (lm1 : Nat → Nat) (lv1 : Nat → Bool) (x1 : mj_X) (g1 : wG) (keep : Bool) (t p ab nx0 j : Nat) (a2 a3 a5 : Int32), Q2 nt N M w ba pf rf lf c hp H K (200 - f) none V1 lm1 lv1 x1 g1 → (∀ c, c ∈ g_cx g1 → w_cok nt N c) → ((a = -1 ∧ t = 0 ∧ keep = false) ∨ (sp_nd N a = true ∧ t = nT nt a ∧ 1 ≤ t ∧ t ≤ 8)) → ab ≤ 8000 → (x1.1 0 34 = 0 → a2 = nI ab ∧ (a5 = nI nx0 ∧ nx0 ≤ 8000) ∧ (keep = true → a3 = nI p ∧ p < 256)) → j ≤ g_nl g1 →
      g_ok (w_gon (w_ends (wS nt f) ab (g_cx g1).length g1).2 (s_nx nx0 (s_al false (w_em (16, (if t = 0 then 177 else 172 + w_ltr t), 0, 0, []) (w_tl t).length [] (bif keep then w_ld t p (w_tl t) (w_ends (wS nt f) ab (g_cx g1).length g1).1 else (w_ends (wS nt f) ab (g_cx g1).length g1).1))))) →
      J2 nt N M w ba pf rf lf c hp H K (200 - f) j (z_skl V1) (rX1_returns d (72, [some (.ref 0), some (.int a), some (.int a2), some (.int a3), some (.int (sp_b keep)), some (.int a5), none], [], x1)) x1 lm1 lv1 (w_gon (w_ends (wS nt f) ab (g_cx g1).length g1).2 (s_nx nx0 (s_al false (w_em (16, (if t = 0 then 177 else 172 + w_ltr t), 0, 0, []) (w_tl t).length [] (bif keep then w_ld t p (w_tl t) (w_ends (wS nt f) ab (g_cx g1).length g1).1 else (w_ends (wS nt f) ab (g_cx g1).length g1).1))))) := by
    intro V1 lm1 lv1 x1 g1 keep t p ab nx0 j a2 a3 a5 q1 hC1 ht hab hx hj hok1
    have hlen : (g_cx g1).length = V1.length := by rw [← q1.2.2.1.1, List.length_map]
    rw [hlen] at hok1 ⊢
    have mE := wM_ends (wS_mono nt f) ab V1.length g1
    have hle := w_ends_le (rec := wS nt f) (ab := ab) V1.length g1
    have mL : wM (w_ends (wS nt f) ab V1.length g1).1 (bif keep then w_ld t p (w_tl t) (w_ends (wS nt f) ab V1.length g1).1 else (w_ends (wS nt f) ab V1.length g1).1) := wM.cond ((wM.rf _).ld _ _ _) (wM.rf _)
    have mR : wM (bif keep then w_ld t p (w_tl t) (w_ends (wS nt f) ab V1.length g1).1 else (w_ends (wS nt f) ab V1.length g1).1) (w_em (16, (if t = 0 then 177 else 172 + w_ltr t), 0, 0, []) (w_tl t).length [] (bif keep then w_ld t p (w_tl t) (w_ends (wS nt f) ab V1.length g1).1 else (w_ends (wS nt f) ab V1.length g1).1)) := (wM.rf _).em _ _ _
    have okR : g_ok (w_em (16, (if t = 0 then 177 else 172 + w_ltr t), 0, 0, []) (w_tl t).length [] (bif keep then w_ld t p (w_tl t) (w_ends (wS nt f) ab V1.length g1).1 else (w_ends (wS nt f) ab V1.length g1).1)) := hok1
    have okL := mR.1 okR
    have okE := mL.1 okL
    obtain ⟨V2, lm2, lv2, x2, v, e2, q2, v2, l2, f2, m2, r1, r2⟩ := m_ends (d := d) (k := V1.length) (ab := ab) (above := a2) (by omega) hf hT R hab (fun z => (hx z).1) (Nat.le_refl _) hC1 q1 okE
    rw [z_at_len] at e2
    rw [bX1_returns_72, e2, mj_rI_k]
    generalize hE : (w_ends (wS nt f) ab V1.length g1).1 = gE at *
    generalize hE2 : (w_ends (wS nt f) ab V1.length g1).2 = kE at *
    have back : x2.1 0 34 = 0 → x1.1 0 34 = 0 := fun z => Decidable.byContradiction fun q => m2 q z
    have len2 : V2.length = V1.length := by have := congrArg List.length v2; simpa [z_skl] using this
    have ht' : (a = -1 ∧ t = 0) ∨ (sp_nd N a = true ∧ t = nT nt a ∧ 1 ≤ t ∧ t ≤ 8) := by
      rcases ht with q | q
      · exact Or.inl ⟨q.1, q.2.1⟩
      · exact Or.inr q
    -- behind the load
    have cont : ∀ (V3 : List wSl) (lm3 : Nat → Nat) (lv3 : Nat → Bool) (x3 : mj_X), Q2 nt N M w ba pf rf lf c hp H K (200 - f) none V3 lm3 lv3 x3 (s_nx (g_nx g1) (bif keep then w_ld t p (w_tl t) gE else gE)) → z_skl V3 = z_skl V1 → (x3.1 0 34 = 0 → x2.1 0 34 = 0) →
        J2 nt N M w ba pf rf lf c hp H K (200 - f) j (z_skl V1) (rX1_returns d (103, [some (.ref 0), some (.int a), some (.int a2), some (.int a3), some (.int (sp_b keep)), some (.int a5), some (.int v)], [], x3)) x3 lm3 lv3 (w_gon kE (s_nx nx0 (s_al false (w_em (16, (if t = 0 then 177 else 172 + w_ltr t), 0, 0, []) (w_tl t).length [] (bif keep then w_ld t p (w_tl t) gE else gE))))) := by
      intro V3 lm3 lv3 x3 q3 v3 b3
      have len3 : V3.length = V1.length := by have := congrArg List.length v3; simpa [z_skl] using this
      rw [← v3]
      have key := m_ret103 (d := d) (j := j) (k := kE) (a1 := a) (a2 := a2) (a3 := a3) (a4 := sp_b keep) (a5 := a5) (a6 := v) (t := t) (nx0 := nx0) (by omega) hT ht' (fun z => (hx (back (b3 z))).2.1) q3 (by omega) (fun z => by rw [r1 (b3 z)]; exact (z_at_skl v3 kE).symm) (by
        obtain ⟨i, i1, i2⟩ := r2
        exact ⟨i, by rw [len3]; exact i1, by rw [i2]; exact (z_at_skl v3 i).symm⟩) (Nat.le_trans hj (Nat.le_trans mE.2.2.2.2.2.2.1 mL.2.2.2.2.2.2.1)) (by rw [w_em_nx]; exact okR)
      rw [w_em_nx] at key
      exact key
    -- all together
    have fin : ∀ r, J2 nt N M w ba pf rf lf c hp H K (200 - f) j (z_skl V1) r x2 lm2 lv2 (w_gon kE (s_nx nx0 (s_al false (w_em (16, (if t = 0 then 177 else 172 + w_ltr t), 0, 0, []) (w_tl t).length [] (bif keep then w_ld t p (w_tl t) gE else gE))))) → J2 nt N M w ba pf rf lf c hp H K (200 - f) j (z_skl V1) r x1 lm1 lv1 (w_gon kE (s_nx nx0 (s_al false (w_em (16, (if t = 0 then 177 else 172 + w_ltr t), 0, 0, []) (w_tl t).length [] (bif keep then w_ld t p (w_tl t) gE else gE))))) := by
      intro r jr
      obtain ⟨Vf, lmf, lvf, xf, ef, qf, vf, lf_, ff, mf⟩ := jr
      exact ⟨Vf, lmf, lvf, xf, ef, qf, vf, fun l hl => ⟨(lf_ l hl).1.trans (l2 l (by omega)).1, (lf_ l hl).2.trans (l2 l (by omega)).2⟩, f2.tr ff, fun z => mf (m2 z)⟩
    refine fin _ ?_
    cases keep
    · rw [if_pos (by rfl)]
      exact cont V2 lm2 lv2 x2 q2 v2 (fun z => z)
    · rw [if_neg (by decide)]
      obtain ⟨na, et, t1, t8⟩ : sp_nd N a = true ∧ t = nT nt a ∧ 1 ≤ t ∧ t ≤ 8 := by
        rcases ht with q | q
        · exact absurd q.2.2 (by decide)
        · exact q
      have hld : w_ld t p (w_tl t) (s_nx (g_nx g1) gE) = s_nx (g_nx g1) (w_ld t p (w_tl t) gE) := w_em_nx
      by_cases h35 : x2.1 0 35 = 0
      · rw [if_pos h35]
        by_cases h0 : x2.1 0 34 = 0
        · have hqd := (q2.ex h0).1.dead h35 h0
          have e : w_ld t p (w_tl t) (s_nx (g_nx g1) gE) = s_nx (g_nx g1) gE := w_em_q' hqd
          rw [hld] at e
          refine cont V2 lm2 lv2 x2 ?_ v2 (fun z => z)
          show Q2 nt N M w ba pf rf lf c hp H K (200 - f) none V2 lm2 lv2 x2 (s_nx (g_nx g1) (w_ld t p (w_tl t) gE))
          rw [e]; exact q2
        · obtain ⟨V3, lm3, q3, v3, l3⟩ := q2.skip h0 ((wM.rf _).ld t p (w_tl t))
          rw [hld] at q3
          have := cont V3 lm3 lv2 x2 q3 (v3.trans v2) (fun z => absurd z h0)
          obtain ⟨Vf, lmf, lvf, xf, ef, qf, vf, lf_, ff, mf⟩ := this
          have nE : j ≤ g_nl gE := Nat.le_trans hj mE.2.2.2.2.2.2.1
          exact ⟨Vf, lmf, lvf, xf, ef, qf, vf, fun l hl => ⟨(lf_ l hl).1.trans (l3 l (show l < g_nl gE by omega)), (lf_ l hl).2⟩, ff, mf⟩
      · rw [if_neg h35, q2.nd na, q2.T.2.2.2.1, hT.ty na, ← et]
        have jl := J2.ldn (d := d) (t := t) (p := a3) (q := p) (on := w_tl t) (by omega) t1 t8 rfl q2 (fun z => (hx (back z)).2.2 rfl) (by rw [hld]; exact okL)
        rw [hld] at jl
        have nE : j ≤ g_nl gE := Nat.le_trans hj mE.2.2.2.2.2.2.1
        refine J2.b (n1 := g_nl gE) nE jl (fun V3 lm3 lv3 x3 q3 v3 l3 f3 mm3 => ?_)
        exact cont V3 lm3 lv3 x3 q3 (v3.trans v2) (fun z => Decidable.byContradiction fun q => mm3 q z)
  rcases ha with ha | ⟨ea, t1, t8⟩
  · -- nothing is given
    subst ha
    rw [if_pos rfl, bX1_returns_14, if_pos rfl, bX1_returns_32, if_pos rfl]
    have e : w_ret nt (wV nt 40) (wS nt f) (-1) g = w_gon (w_ends (wS nt f) 0 (g_cx g).length g).2 (s_nx (g_nx g) (s_al false (w_em (16, 177, 0, 0, []) 0 [] (w_ends (wS nt f) 0 (g_cx g).length g).1))) := rfl
    rw [e] at hok ⊢
    exact from72 V lm lv x g false 0 0 0 (g_nx g) (g_nl g) 0 0 (x.1 0 38) h hC (Or.inl ⟨rfl, rfl, rfl⟩) (by omega) (fun z => ⟨rfl, ⟨(h.ex z).2.1.1, (h.ex z).2.1.2.1⟩, fun q => Bool.noConfusion q⟩) (Nat.le_refl _) hok
  · have na : ¬ a = -1 := nd_n1 ea.1
    have mV1 := wV_mono nt 40 a 0 0 g
    have sh := ((wV_sh hT 40 a ea).2 g 0 hq (Nat.zero_le _)).1
    have e : w_ret nt (wV nt 40) (wS nt f) a g = (let g0 := wV nt 40 a 0 0 g
      let keep := (g_cx g0).any (fun c => Nat.ble 3 c.1)
      let g1 := bif keep then w_ts (nT nt a) (w_tl (nT nt a)).reverse g0 else g0
      w_gon (w_ends (wS nt f) (bif keep then g_nx g1 else 0) (g_cx g1).length g1).2 (s_nx (g_nx g0) (s_al false (w_em (16, 172 + w_ltr (nT nt a), 0, 0, []) (w_tl (nT nt a)).length [] (bif keep then w_ld (nT nt a) (g_nx g0) (w_tl (nT nt a)) (w_ends (wS nt f) (bif keep then g_nx g1 else 0) (g_cx g1).length g1).1 else (w_ends (wS nt f) (bif keep then g_nx g1 else 0) (g_cx g1).length g1).1))))) := by
      unfold w_ret
      simp only [if_neg na, decide_eq_false na, Bool.not_false, Bool.true_and]
    rw [e] at hok ⊢
    clear e
    simp only at hok ⊢
    have e172 : (172 + w_ltr (nT nt a)) = (if nT nt a = 0 then 177 else 172 + w_ltr (nT nt a)) := by rw [if_neg (by omega)]
    rw [e172] at hok ⊢
    generalize hg0 : wV nt 40 a 0 0 g = g0 at *
    have hC0 : ∀ c, c ∈ g_cx g0 → w_cok nt N c := w_cok.wK mV1.2.2.2.2.2.1 hC
    have okAll : ∀ (g1 : wG) (k1 k2 : Nat) (kp : Bool), g_ok (w_gon k1 (s_nx k2 (s_al false (w_em (16, (if nT nt a = 0 then 177 else 172 + w_ltr (nT nt a)), 0, 0, []) (w_tl (nT nt a)).length [] (bif kp then w_ld (nT nt a) (g_nx g0) (w_tl (nT nt a)) g1 else g1))))) → g_ok g1 := by
      intro g1 k1 k2 kp q
      have mL : wM g1 (bif kp then w_ld (nT nt a) (g_nx g0) (w_tl (nT nt a)) g1 else g1) := wM.cond ((wM.rf _).ld _ _ _) (wM.rf _)
      have mR : wM (bif kp then w_ld (nT nt a) (g_nx g0) (w_tl (nT nt a)) g1 else g1) (w_em (16, (if nT nt a = 0 then 177 else 172 + w_ltr (nT nt a)), 0, 0, []) (w_tl (nT nt a)).length [] (bif kp then w_ld (nT nt a) (g_nx g0) (w_tl (nT nt a)) g1 else g1)) := (wM.rf _).em _ _ _
      exact mL.1 (mR.1 q)
    rw [if_neg na]
    cases hkp : (g_cx g0).any (fun c => Nat.ble 3 c.1)
    · rw [hkp] at hok
      simp only [cond_false] at hok ⊢
      have ok0 : g_ok g0 := (wM_ends (wS_mono nt f) 0 (g_cx g0).length g0).1 (okAll _ _ _ false hok)
      have jv := J2.val (d := d) (by omega) hc1 hc2 hT ea h (by rw [hg0]; exact ok0)
      rw [hg0] at jv
      refine J2.b (Nat.le_refl _) jv (fun V1 lm1 lv1 x1 q1 v1 l1 f1 m1 => ?_)
      rw [bX1_returns_14, if_neg na, m_leavesEnds (by omega) q1, mj_rI_k, hkp, if_pos (by rfl), bX1_returns_32, if_pos rfl, ← v1]
      exact from72 V1 lm1 lv1 x1 g0 false (nT nt a) (g_nx g0) 0 (g_nx g0) (g_nl g) 0 0 (x1.1 0 38) q1 hC0 (Or.inr ⟨ea.1, rfl, t1, t8⟩) (by omega) (fun z => ⟨rfl, ⟨(q1.ex z).2.1.1, (q1.ex z).2.1.2.1⟩, fun q => Bool.noConfusion q⟩) mV1.2.2.2.2.2.2.1 hok
    · rw [hkp] at hok
      simp only [cond_true] at hok ⊢
      have mt : wM g0 (w_ts (nT nt a) (w_tl (nT nt a)).reverse g0) := (wM.rf g0).ts _ _
      have okT : g_ok (w_ts (nT nt a) (w_tl (nT nt a)).reverse g0) := (wM_ends (wS_mono nt f) _ _ _).1 (okAll _ _ _ true hok)
      have ok0 : g_ok g0 := mt.1 okT
      obtain ⟨p1, p2⟩ := okT.2 sh.2.1
      have hok1 : g_ok (w_es (3, nT nt a, g_nx g0, 0, []) (g_L g0 ++ (w_tl (nT nt a)).reverse, (g_st g0).drop (w_tl (nT nt a)).length) (s_tk (w_tl (nT nt a)).length g0)) := okT.1
      have jv := J2.val (d := d) (by omega) hc1 hc2 hT ea h (by rw [hg0]; exact ok0)
      rw [hg0] at jv
      refine J2.b (Nat.le_refl _) jv (fun V1 lm1 lv1 x1 q1 v1 l1 f1 m1 => ?_)
      rw [bX1_returns_14, if_neg na, m_leavesEnds (by omega) q1, mj_rI_k, hkp, if_neg (by decide), bX1_returns_32, if_neg (by decide), q1.nd ea.1, q1.T.2.2.2.1, hT.ty ea.1, e_anew (by omega), mj_rI_k]
      have q2 := q1.tk (t := nT nt a) t8 (fun _ => p2)
      rw [q2.nd ea.1, q2.T.2.2.2.1, hT.ty ea.1]
      have hx38 : x1.1 0 34 = 0 → x1.1 0 38 = nI (g_nx g0) := fun q => (q1.ex q).2.1.1
      have js := J2.stn (d := d) (t := nT nt a) (p := x1.1 0 38) (q := g_nx g0) (F := (g_L g0 ++ (w_tl (nT nt a)).reverse, (g_st g0).drop (w_tl (nT nt a)).length)) (by omega) t1 t8 q2 (fun q => ⟨hx38 q, by omega⟩) (fun _ => ⟨p1, rfl⟩) hok1
      have js : J2 nt N M w ba pf rf lf c hp H K (200 - f) (g_nl g0) (z_skl V1) (kX1 d 71 [.ref 0, .int (x1.1 0 38), .int (nI (nT nt a))] (mj_wI (mj_wI x1 0 38 (x1.1 0 38 + sp_pl (nI (nT nt a)))) 0 39 (mj_max (x1.1 0 39) (x1.1 0 38 + sp_pl (nI (nT nt a)))))) (mj_wI (mj_wI x1 0 38 (x1.1 0 38 + sp_pl (nI (nT nt a)))) 0 39 (mj_max (x1.1 0 39) (x1.1 0 38 + sp_pl (nI (nT nt a))))) lm1 lv1 (w_ts (nT nt a) (w_tl (nT nt a)).reverse g0) := js
      refine J2.pre (y := mj_wI (mj_wI x1 0 38 (x1.1 0 38 + sp_pl (nI (nT nt a)))) 0 39 (mj_max (x1.1 0 39) (x1.1 0 38 + sp_pl (nI (nT nt a))))) ?_ (((zfr.rf _ x1).w _ rfl).w _ rfl) (fun q => q)
      refine J2.b (n1 := g_nl g0) mV1.2.2.2.2.2.2.1 js (fun V2 lm2 lv2 x2 q2' v2 l2 f2 m2 => ?_)
      have back : x2.1 0 34 = 0 → x1.1 0 34 = 0 := fun z => Decidable.byContradiction fun q => m2 q z
      have nxt : g_nx (w_ts (nT nt a) (w_tl (nT nt a)).reverse g0) = g_nx g0 + (w_tl (nT nt a)).length := (wU_es (g := s_tk (w_tl (nT nt a)).length g0) _ _).1
      have hl2 : (w_tl (nT nt a)).length ≤ 2 := by rcases w_tl_d (nT nt a) with r | r | r <;> rw [r] <;> simp
      rw [← v1, ← v2]
      refine from72 V2 lm2 lv2 x2 _ true (nT nt a) (g_nx g0) _ (g_nx g0) (g_nl g) (x2.1 0 38) (x1.1 0 38) (x1.1 0 38) q2' (w_cok.wK mt.2.2.2.2.2.1 hC0) (Or.inr ⟨ea.1, rfl, t1, t8⟩) (by rw [nxt]; omega) (fun z => ⟨(q2'.ex z).2.1.1, ⟨hx38 (back z), by omega⟩, fun _ => ⟨hx38 (back z), by omega⟩⟩) (Nat.le_trans mV1.2.2.2.2.2.2.1 mt.2.2.2.2.2.2.1) hok
theorem m_s73 {d : Nat} (hd : 6 * f + 264 ≤ d) (hc1 : 83 ≤ c) (hc2 : c ≤ 3990) (hT : wTb nt N M res par) (hA : wA nt N 40 n) (hk : nK nt n = 73) (hf : f + 1 ≤ 200) (hq : w_q g = false) (R : ∀ m, wA nt N 40 m → mS nt N M w ba pf rf lf c f m) (hC : ∀ c, c ∈ g_cx g → w_cok nt N c) (hK : K ≤ 200 - (f + 1)) (h : Q2 nt N M w ba pf rf lf c hp H K (200 - f) none V lm lv x g) (hok : g_ok (w_bd nt (wV nt 40) (wS nt f) n g)) :
    J2 nt N M w ba pf rf lf c hp H K (200 - (f + 1)) (g_nl g) (z_skl V) (rX1_statement d (322, [some (.ref 0), some (.int n), some (.int (nA nt n)), some (.int (nB nt n)), none], [], x)) x lm lv (w_bd nt (wV nt 40) (wS nt f) n g) := by
  have e : w_bd nt (wV nt 40) (wS nt f) n g = w_ret nt (wV nt 40) (wS nt f) (nA nt n) g := by unfold w_bd; simp only [hk]; rfl
  rw [e] at hok ⊢
  have ha : nA nt n = -1 ∨ (wE nt N 40 (nA nt n) ∧ 1 ≤ nT nt (nA nt n) ∧ nT nt (nA nt n) ≤ 8) := by
    rcases wE_ret hT hA.1 hA.2.2 hk with q | q
    · exact Or.inl q
    · exact Or.inr ⟨q.1.mono (show 39 ≤ 40 by omega), q.2⟩
  exact J2.wrap (bX1_statement_322 ..) (m_returns (by omega) hc1 hc2 (by omega) hT ha R hq hC h hok) hK hf
end
