/-! CodeWriter: a switch: its context, its cases, its end -/
theorem w_come_cx (l : Nat) (cs : List wC) (g : wG) : w_come l (s_cx cs g) = s_cx cs (w_come l g) := rfl
theorem w_comes_cx (cs : List wC) : ∀ (L : List (Int32 × Nat)) (g : wG), w_comes L (s_cx cs g) = s_cx cs (w_comes L g) := by
  intro L
  induction L with
  | nil => intro g; rfl
  | cons q r ih => intro g; show w_comes r (w_come q.2 (s_cx cs g)) = s_cx cs (w_comes r (w_come q.2 g)); rw [w_come_cx, ih]
theorem w_em_cx {i : wI} {off : Nat} {on : List Nat} {cs : List wC} {g : wG} : w_em i off on (s_cx cs g) = s_cx cs (w_em i off on g) := by
  unfold w_em w_es
  have : w_q (s_cx cs g) = w_q g := rfl
  rw [this]
  cases w_q g <;> rfl
section
variable {nt : sp_NT} {N M : Nat} {P : yP} {X : List (Nat × Bool)} {b hp : Nat} {H V : List wSl} {O : List (Int32 × List (Nat × Nat))} {K u sb : Nat} {C : Nat → Prop} {o : Option Int32} {lm lm' lm1 : Nat → Nat} {lv lv' lv1 ct ct' : Nat → Bool} {x y x1 : mj_X} {g G : wG} {res par : Nat → Int32} {f : Nat} {n : Int32}
/-- from where code of a context without pieces goes on is not read -/
theorem Y2.vfrom {s : wSl} {m : Nat} (h : Y2 nt N P hp H O K u sb C o (s :: V) lm lv ct x g) (hs : s.2.2.1 ≤ 1) : Y2 nt N P hp H O K u sb C o (y_fr m s :: V) lm lv ct x (s_cx (w_from m s.2.2 :: (g_cx g).tail) g) := by
  obtain ⟨he, ⟨s1, s2, s3, s4, s5, s6, s7, s8, s9⟩, hC, hX⟩ := h
  have ms : s ∈ H ++ s :: V := by simp
  have mem : ∀ t : wSl, t ∈ H ++ y_fr m s :: V → t = y_fr m s ∨ t ∈ H ++ s :: V := by
    intro t ht
    rcases List.mem_append.mp ht with q | q
    · exact Or.inr (List.mem_append.mpr (Or.inl q))
    · rcases List.mem_cons.mp q with q | q
      · exact Or.inl q
      · exact Or.inr (List.mem_append.mpr (Or.inr (List.mem_cons_of_mem _ q)))
  have hnp0 : w_np (w_from m s.2.2 :: (g_cx g).tail) = w_np (g_cx g) := by rw [← s1]; rfl
  have hnp : w_np (g_cx (s_cx (w_from m s.2.2 :: (g_cx g).tail) g)) = w_np (g_cx g) := hnp0
  refine ⟨he, ⟨?_, s2, s3, s4, s5, s6, ?_, fun t ht => ?_, s9⟩, hC, ?_⟩
  · show _ :: V.map (fun s => s.2.2) = _ :: (g_cx g).tail; rw [← s1]; rfl
  · refine pw_ne ?_ s7
    rw [List.map_append, List.map_append]; rfl
  · rcases mem t ht with rfl | q
    · exact s8 s ms
    · exact s8 t q
  · rcases hX with ⟨h0, h5, h6, h7, r1, r2, r3, r4, L, t', q1, q2, q3, q4, q5, q6, q7, q8, q9, q10, q11⟩ | ⟨h0, m1, m2, m3⟩
    · refine Or.inl ⟨h0, h5, h6, h7.same ⟨rfl, rfl, rfl, rfl, rfl, rfl, rfl, rfl, rfl, rfl⟩, r1, r2, r3, fun t ht => ?_, L, t', q1, q2, q3, q4, by unfold w_ph; rw [hnp]; exact q5, q6, q7, fun t ht => ?_, q9, ?_, fun t ht h2 => ?_⟩
      · rcases mem t ht with rfl | q
        · exact r4 s ms
        · exact r4 t q
      · rcases mem t ht with rfl | q
        · exact q8 s ms
        · exact q8 t q
      · have e : (H ++ y_fr m s :: V).map (fun s => x.1 52 s.1) = (H ++ s :: V).map (fun s => x.1 52 s.1) := by rw [List.map_append, List.map_append]; rfl
        rw [e]; exact q10
      · rcases List.mem_cons.mp ht with rfl | q
        · have : s.2.2.1 = (y_fr m s).2.2.1 := rfl
          omega
        · exact q11 t (List.mem_cons_of_mem _ q) h2
    · exact Or.inr ⟨h0, m1, m2, m3.of rfl rfl rfl (by unfold w_ph; rw [hnp]; exact Nat.le_refl _) rfl rfl rfl⟩
/-- the end of a switch -/
theorem k_stail {d e : Nat} {vl hr : Int32} {V5 : List wSl} (hd : 2 ≤ d) (q : Y2 nt N P hp H O (K + 1) u sb C none V5 lm lv ct x G) (hs : z_skl V5 = (K, hr) :: z_skl V) (hcx : ∃ dd r, g_cx G = dd :: r ∧ c_ps dd = [] ∧ ∀ c, c ∈ r → w_cl e c) (hH : ∀ s, s ∈ H → w_cl e s.2.2) (he : e < g_nl G) (hv : lv e = true) (hct : ct e = false) (hvl : vl = nI (lm e)) :
    KS nt N P hp H O K u sb e (z_skl V) C ct G (mj_rV (kX0 d 79 [.ref 0, .int (nI K)] x) fun x1 => mj_rV (kX0 d 70 [.ref 0, .int vl] x1) fun x2 => some (none, x2)) x lm lv (w_sl false e (w_put e (w_shut G))) := by
  cases V5 with
  | nil => simp [z_skl] at hs
  | cons s V6 =>
    have e4 : (s.1, s.2.1) = (K, hr) := by injection hs
    have e5 : z_skl V6 = z_skl V := by injection hs
    have e6 : s.1 = K := by have := congrArg (fun q : Nat × Int32 => q.1) e4; exact this
    obtain ⟨dd, r, hg, hps, hcl⟩ := hcx
    have hc := q.2.1.1
    rw [hg] at hc
    have hd0 : s.2.2 = dd := by injection hc
    have hlo := q.low (s := s) (by simp)
    have q2 := q.shut0 e6 (by rw [hd0]; exact hps)
    have hcl2 : ∀ c, c ∈ g_cx (w_shut G) → w_cl e c := by
      show ∀ c, c ∈ (g_cx G).tail → w_cl e c
      rw [hg]; exact hcl
    rw [e_shutX (by omega) (by omega), mj_rV_k, hvl, ← e5]
    have fsh : yfr (yw2 P K) (p_pf P) x (mj_wI (mj_wI x 0 59 (x.1 51 K)) 0 58 (nI K)) := ((yfr.rf _ _ x).w _ rfl).w _ rfl
    exact ((KS.pl (d := d) (n := e) (g := w_shut G) hd false he hv hct (Nat.le_refl _) q2 hcl2 hH).end_).pre fsh (fun w => ⟨w, yT.rf rfl rfl rfl⟩)
/-- the cases -/
theorem k_swC {d e : Nat} {a1 a2 a3 a4 a5 a6 a7 a8 a9 hr : Int32} (hd : 6 * f + 262 ≤ d) (hf : f ≤ 200) (hT : wTb nt N M res par) (R : ∀ m, wA nt N 40 m → kS nt N f m) (hH : ∀ s, s ∈ H → w_cl e s.2.2) :
    ∀ (l : List Int32) (q : Int32) (v : Nat) (V5 : List wSl) (C : Nat → Prop) (lm : Nat → Nat) (lv ct : Nat → Bool) (x : mj_X) (g : wG) (o12 o13 : Option Value), sp_Ch nt N 82 l q → (∀ k, k ∈ l → C (nA nt k).toNatClampNeg) → z_skl V5 = (K, hr) :: z_skl V → (∃ dd r, g_cx g = dd :: r ∧ dd.1 ≤ 1 ∧ c_ps dd = [] ∧ ∀ c, c ∈ r → w_cl e c) → e < g_nl g → lv e = true → ct e = false → a3 = nI (lm e) → (∀ c, c ∈ g_cx g → w_cok nt N c) → Y2 nt N P hp H O (K + 1) (200 - f) (sb + 1) C none V5 lm lv ct x g → g_ok (w_cses nt (wS nt f) (w_csl nt v l) g) →
      KS nt N P hp H O K (200 - f) (sb + 1) e (z_skl V) C ct g (rX0_choose d (437, [some (.ref 0), some (.int a1), some (.int a2), some (.int a3), some (.int a4), some (.int a5), some (.int a6), some (.int a7), some (.int a8), some (.int a9), some (.int (nI K)), some (.int q), o12, o13], [], x)) x lm lv (w_sl false e (w_put e (w_shut (w_cses nt (wS nt f) (w_csl nt v l) g)))) := by
  intro l
  induction l with
  | nil =>
    intro q v V5 C lm lv ct x g o12 o13 hl _ hs hcx he hv hct hvl hC h hok
    obtain ⟨dd, r, c1, -, c3, c4⟩ := hcx
    rw [bX0_choose_437, if_pos (show q = -1 from hl)]
    exact k_stail (by omega) h hs ⟨dd, r, c1, c3, c4⟩ hH he hv hct hvl
  | cons p r ih =>
    intro q v V5 C lm lv ct x g o12 o13 hl hCl hs hcx he hv hct hvl hC h hok
    obtain ⟨rfl, e2, e3, e4, e5⟩ := hl
    obtain ⟨⟨n1, n2', n3⟩, -⟩ := wE_cases hT e2 (show nD nt q ≤ 39 + 1 from (hT.d e2).2) e3
    have sB : wA nt N 40 (nB nt (nA nt q)) := by
      have hd1 : nD nt (nA nt q) ≤ 39 + 1 := by omega
      rcases n3 with k | k
      · have := wE_case hT n1 hd1 k; exact ⟨this.1, this.2.1, by have := this.2.2; omega⟩
      · have := wE_dflt hT n1 hd1 k; exact ⟨this.1, this.2.1, by have := this.2.2; omega⟩
    have E : w_cses nt (wS nt f) (w_csl nt v (q :: r)) g = w_cses nt (wS nt f) (w_csl nt (v + 1) r) (w_aln (wS nt f) (nB nt (nA nt q)) (w_put v (s_ok (g_pl g (4000 + (nA nt q).toNatClampNeg) = some v) g))) := rfl
    rw [E] at hok ⊢
    clear E
    have h1 : Y2 nt N P hp H O (K + 1) (200 - f) (sb + 1) C none V5 lm lv ct x (s_ok (g_pl g (4000 + (nA nt q).toNatClampNeg) = some v) g) := h
    have n1' : g_nl (s_ok (g_pl g (4000 + (nA nt q).toNatClampNeg) = some v) g) = g_nl g := rfl
    have m0 : wM g (s_ok (g_pl g (4000 + (nA nt q).toNatClampNeg) = some v) g) := (wM.rf g).s_ok _
    have okG : g_ok (s_ok (g_pl g (4000 + (nA nt q).toNatClampNeg) = some v) g) → g_pl g (4000 + (nA nt q).toNatClampNeg) = some v := fun z => z.2
    have hT0 : ∀ z : mj_X, yT z g z (s_ok (g_pl g (4000 + (nA nt q).toNatClampNeg) = some v) g) := fun z => yT.rf rfl rfl rfl
    generalize hG1 : s_ok (g_pl g (4000 + (nA nt q).toNatClampNeg) = some v) g = G1 at *
    have m1 : wM G1 (w_put v G1) := (wM.rf G1).put v
    have m2 : wM (w_put v G1) (w_aln (wS nt f) (nB nt (nA nt q)) (w_put v G1)) := (wM.rf _).aln (wS_mono nt f) _
    have m3 : wM (w_aln (wS nt f) (nB nt (nA nt q)) (w_put v G1)) (w_cses nt (wS nt f) (w_csl nt (v + 1) r) (w_aln (wS nt f) (nB nt (nA nt q)) (w_put v G1))) := wM.cses (wS_mono nt f) _ (wM.rf _)
    have ok2 := m3.1 hok
    have ok1 := m2.1 ok2
    have hplv := okG (m1.1 ok1)
    have nn1 := m1.nl
    have nn2 := m2.nl
    have kk := ((m0.tr m1).tr m2).2.2.2.2.2.1
    have hC1 := w_cok.wK (m0.tr m1).2.2.2.2.2.1 hC
    have hcx2 : ∃ dd r', g_cx (w_aln (wS nt f) (nB nt (nA nt q)) (w_put v G1)) = dd :: r' ∧ dd.1 ≤ 1 ∧ c_ps dd = [] ∧ ∀ c, c ∈ r' → w_cl e c := by
      obtain ⟨dd, r', c1, c2, c3, c4⟩ := hcx
      rw [c1] at kk
      cases hg : g_cx (w_aln (wS nt f) (nB nt (nA nt q)) (w_put v G1)) with
      | nil => rw [hg] at kk; exact kk.elim
      | cons d2 r2 =>
        rw [hg] at kk
        obtain ⟨k1, k2⟩ := kk
        have e1 : d2.1 = dd.1 := by have := congrArg Prod.fst k1.1; exact this
        exact ⟨d2, r2, rfl, by omega, (k1.2.1 (by omega)).trans c3, w_cl.wK k2 c4⟩
    rw [bX0_choose_437, if_neg (nd_n1 e2), h.nd e2, show x.1 2 q.toNatClampNeg = nA nt q by rw [h.T.2.1], h.nd n1]
    have jp : KS nt N P hp H O (K + 1) (200 - f) (sb + 1) (g_nl G1) (z_skl V5) C ct g (kX0 d 71 [.ref 0, .int (x.1 35 (nA nt q).toNatClampNeg)] x) x lm lv (w_put v G1) := by
      by_cases h0 : x.1 0 29 = 0
      · obtain ⟨p0, p1, p2, p3, p4⟩ := (h.ex h0).2.2.2.2.2.1 _ _ hplv
        rw [p4]
        obtain ⟨V1, C1, lm1, lv1, ct1, x1, e, q1, v1, c, l, f, t⟩ := KS.put (d := d) (l := v) (by omega) (by omega) p2 h1
        exact ⟨V1, C1, lm1, lv1, ct1, x1, e, q1, v1, c, l, f, fun w => ⟨(t w).1, (hT0 x).tr (t w).2⟩⟩
      · obtain ⟨-, -, m, hm1, hm2, hm3, hm4⟩ := h.2.2.1 (nA nt q).toNatClampNeg (hCl q (List.mem_cons_self ..))
        rw [hm4]
        have jb := (KS.put (d := d) (l := m) (by omega) (by omega) hm2 h1).back (g2 := G1) h0 (wU_put m G1).2.2.2.2.1.symm (by rw [w_put_s.2.2.2.1]) (h1.mc h0).2.2
        obtain ⟨V1, C1, lm1, lv1, ct1, x1, e, q1, v1, c, l, f, t⟩ := jb
        have z1 : ¬ x1.1 0 29 = 0 := fun w => h0 (t w).1
        obtain ⟨V2, lm2, lv2, ct2, q2, v2, l2⟩ := q1.skip z1 m1
        exact ⟨V2, C1, lm2, lv2, ct2, x1, e, q2, v2.trans v1, c, fun i hi => ⟨(l2 i hi).1.trans (l i hi).1, (l2 i hi).2.1.trans (l i hi).2.1, (l2 i hi).2.2.trans (l i hi).2.2⟩, f, fun w => absurd w z1⟩
    refine KS.b (n1 := g_nl G1) (by omega) (Nat.le_succ K) jp (fun V3 C3 lm3 lv3 ct3 x3 q3 v3 c3 l3 f3 mm3 => ?_)
    rw [q3.nd e2, show x3.1 2 q.toNatClampNeg = nA nt q by rw [q3.T.2.1], q3.nd n1, show x3.1 3 (nA nt q).toNatClampNeg = nB nt (nA nt q) by rw [q3.T.2.2.1]]
    refine KS.b (n1 := g_nl (w_put v G1)) (by omega) (Nat.le_succ K) (KS.alone (R _ sB) (d := d) (by omega) hf q3 hC1 ok2) (fun V6 C6 lm6 lv6 ct6 x6 q6 v6 c6 l6 f6 mm6 => ?_)
    rw [q6.nd e2, show x6.1 3 q.toNatClampNeg = nB nt q by rw [q6.T.2.2.1]]
    have le : lm6 e = lm e ∧ lv6 e = lv e ∧ ct6 e = ct e := by
      have a := l6 e (by omega)
      have b := l3 e (by omega)
      exact ⟨a.1.trans b.1, a.2.1.trans b.2.1, a.2.2.trans b.2.2⟩
    exact ih (nB nt q) (v + 1) V6 C6 lm6 lv6 ct6 x6 _ o12 o13 e5 (fun k hk => c6 _ (c3 _ (hCl k (List.mem_cons_of_mem _ hk)))) (by rw [v6, v3]; exact hs) hcx2 (by omega) (by rw [le.2.1]; exact hv) (by rw [le.2.2]; exact hct) (by rw [le.1]; exact hvl) (w_cok.wK ((m0.tr m1).tr m2).2.2.2.2.2.1 hC) q6 hok
end
