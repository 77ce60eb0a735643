/-! statements of CodeWriterModel: if, lines, loops -/
section
variable {nt : sp_NT} {N M : Nat} {w : Bool} {ba pf rf lf c hp : Nat} {H V : List wSl} {K u : Nat} {o : Option Int32} {lm lm' : Nat → Nat} {lv lv' : Nat → Bool} {x y : mj_X} {g G : wG} {res par : Nat → Int32} {f : Nat} {n : Int32}
theorem J2.wrap {d k : Nat} {r s : mj_R} {a1 a2 a3 : Int32} {o4 : Option Value} (e : s = mj_rV r (fun x1 => rX1_statement d (404, [some (.ref 0), some (.int a1), some (.int a2), some (.int a3), o4], [], x1))) (j : J2 nt N M w ba pf rf lf c hp H K (200 - f) k (z_skl V) r x lm lv G) (hK : K ≤ 200 - (f + 1)) (hf : f + 1 ≤ 200) : J2 nt N M w ba pf rf lf c hp H K (200 - (f + 1)) k (z_skl V) s x lm lv G := by
  rw [e]
  refine J2.b (Nat.le_refl _) j (fun V1 lm1 lv1 x1 q1 v1 l1 f1 m1 => ?_)
  rw [← v1]; exact J2.t404 q1 hK hf
theorem m_s64 {d : Nat} (hd : 6 * f + 261 ≤ d) (hc1 : 83 ≤ c) (hc2 : c ≤ 3990) (hT : wTb nt N M res par) (hA : wA nt N 40 n) (hk : nK nt n = 64) (hf : f + 1 ≤ 200) (R : ∀ m, wA nt N 40 m → mS nt N M w ba pf rf lf c f m) (hC : ∀ c, c ∈ g_cx g → w_cok nt N c) (hK : K ≤ 200 - (f + 1)) (h : Q2 nt N M w ba pf rf lf c hp H K (200 - f) none V lm lv x g) (hok : g_ok (w_bd nt (wV nt 40) (wS nt f) n g)) :
    J2 nt N M w ba pf rf lf c hp H K (200 - (f + 1)) (g_nl g) (z_skl V) (rX1_statement d (242, [some (.ref 0), some (.int n), some (.int (nA nt n)), some (.int (nB nt n)), none], [], x)) x lm lv (w_bd nt (wV nt 40) (wS nt f) n g) := by
  have e : w_bd nt (wV nt 40) (wS nt f) n g = w_sl false (g_nl g) (w_put (g_nl g) (w_aln (wS nt f) (nB nt n) (wV nt 40 (nA nt n) 3 (g_nl g) (w_lb (g_L g, []) g)))) := by unfold w_bd; simp only [hk]; rfl
  rw [e] at hok ⊢
  obtain ⟨ea, ta, sb⟩ := wE_if hT hA.1 hA.2.2 hk
  have ea := ea.mono (show 39 ≤ 40 by omega)
  have sb : wA nt N 40 (nB nt n) := ⟨sb.1, sb.2.1, by have := sb.2.2; omega⟩
  have n1 : g_nl (w_lb (g_L g, []) g) = g_nl g + 1 := rfl
  have cx1 : g_cx (w_lb (g_L g, []) g) = g_cx g := rfl
  have hok4 : g_ok (w_put (g_nl g) (w_aln (wS nt f) (nB nt n) (wV nt 40 (nA nt n) 3 (g_nl g) (w_lb (g_L g, []) g)))) := ((wM.rf _).sl false (g_nl g)).1 hok
  refine J2.sl ?_ _
  clear hok e
  have m1 : wM g (w_lb (g_L g, []) g) := (wM.rf g).lb _
  generalize hg1 : w_lb (g_L g, []) g = g1 at *
  have m2 := wV_mono nt 40 (nA nt n) 3 (g_nl g) g1
  generalize hg2 : wV nt 40 (nA nt n) 3 (g_nl g) g1 = g2 at *
  have m3 : wM g2 (w_aln (wS nt f) (nB nt n) g2) := (wM.rf g2).aln (wS_mono nt f) _
  have m4 : wM (w_aln (wS nt f) (nB nt n) g2) (w_put (g_nl g) (w_aln (wS nt f) (nB nt n) g2)) := (wM.rf _).put _
  have ok3 := m4.1 hok4
  have ok2 := m3.1 ok3
  have ok1 := m2.1 ok2
  have nn2 : g_nl g + 1 ≤ g_nl g2 := by have := m2.2.2.2.2.2.2.1; omega
  have nn3 : g_nl g + 1 ≤ g_nl (w_aln (wS nt f) (nB nt n) g2) := Nat.le_trans nn2 m3.2.2.2.2.2.2.1
  rw [bX1_statement_242]
  refine J2.lb (F := (g_L g, [])) (by omega) (by omega) (by omega) h (by rw [hg1]; exact ok1) (Nat.le_refl _) (fun lm1 lv1 x1 q1 w1 a1 f1 mm1 => ?_)
  rw [hg1] at q1
  have jc := J2.cnd (d := d) (by omega) hc1 hc2 hT ea ta false (l := g_nl g) (by omega) w1 q1 (by show g_ok (wV nt 40 (nA nt n) 3 (g_nl g) g1); rw [hg2]; exact ok2)
  have jc : J2 nt N M w ba pf rf lf c hp H K (200 - f) (g_nl g1) (z_skl V) (kX1 d 46 [.ref 0, .int (nA nt n), .int (0 : Int32), .int (nI (lm1 (g_nl g)))] x1) x1 lm1 lv1 g2 := by rw [← hg2]; exact jc
  refine J2.b (by omega) jc (fun V2 lm2 lv2 x2 q2 v2 l2 f2 mm2 => ?_)
  have hC2 : ∀ c, c ∈ g_cx g2 → w_cok nt N c := w_cok.wK m2.2.2.2.2.2.1 (by rw [cx1]; exact hC)
  refine J2.b (by omega) (J2.block (R _ sb) (d := d) (by omega) (by omega) q2 hC2 ok3) (fun V3 lm3 lv3 x3 q3 v3 l3 f3 mm3 => ?_)
  have e3 : lm3 (g_nl g) = lm1 (g_nl g) := (l3 _ (by omega)).1.trans (l2 _ (by omega)).1
  have e3' : lv3 (g_nl g) = true := by rw [(l3 _ (by omega)).2, (l2 _ (by omega)).2]; exact w1
  rw [← e3]
  refine J2.b (by omega) (J2.put (d := d) (by omega) (by omega) e3' q3 hok4) (fun V4 lm4 lv4 x4 q4 v4 l4 f4 mm4 => ?_)
  rw [← v2, ← v3, ← v4]; exact J2.t404 q4 hK hf
theorem m_either {d : Nat} (hd : 6 * f + 262 ≤ d) (hc1 : 83 ≤ c) (hc2 : c ≤ 3990) (hf : f ≤ 200) {a b : Int32} (hT : wTb nt N M res par) (ea : wE nt N 40 a) (ta : nT nt a = 1) (hb : sp_nd N b = true) (sa : wA nt N 40 (nA nt b)) (sb : wA nt N 40 (nB nt b)) (R : ∀ m, wA nt N 40 m → mS nt N M w ba pf rf lf c f m) (hC : ∀ c, c ∈ g_cx g → w_cok nt N c) (h : Q2 nt N M w ba pf rf lf c hp H K (200 - f) none V lm lv x g)
    (hok : g_ok (w_sl false (g_nl g + 1) (w_put (g_nl g + 1) (w_aln (wS nt f) (nB nt b) (w_sl false (g_nl g) (w_put (g_nl g) (w_go (g_nl g + 1) (w_aln (wS nt f) (nA nt b) (wV nt 40 a 3 (g_nl g) (w_lb (g_L g, []) (w_lb (g_L g, []) g)))))))))) ) :
    J2 nt N M w ba pf rf lf c hp H K (200 - f) (g_nl g) (z_skl V) (kX1 d 79 [.ref 0, .int a, .int b] x) x lm lv (w_sl false (g_nl g + 1) (w_put (g_nl g + 1) (w_aln (wS nt f) (nB nt b) (w_sl false (g_nl g) (w_put (g_nl g) (w_go (g_nl g + 1) (w_aln (wS nt f) (nA nt b) (wV nt 40 a 3 (g_nl g) (w_lb (g_L g, []) (w_lb (g_L g, []) g))))))))))  := by
  obtain ⟨d, rfl⟩ : ∃ c, d = c + 1 := ⟨d - 1, by omega⟩
  have hok9 := ((wM.rf _).sl false (g_nl g + 1)).1 hok
  refine J2.sl ?_ _
  clear hok
  have n2 : g_nl (w_lb (g_L g, []) (w_lb (g_L g, []) g)) = g_nl g + 2 := rfl
  have n1 : g_nl (w_lb (g_L g, []) g) = g_nl g + 1 := rfl
  have cx2 : g_cx (w_lb (g_L g, []) (w_lb (g_L g, []) g)) = g_cx g := rfl
  have m1 : wM (w_lb (g_L g, []) g) (w_lb (g_L g, []) (w_lb (g_L g, []) g)) := (wM.rf _).lb _
  generalize hg1 : w_lb (g_L g, []) g = g1 at *
  generalize hg2 : w_lb (g_L g, []) g1 = g2 at *
  have m3 := wV_mono nt 40 a 3 (g_nl g) g2
  generalize hg3 : wV nt 40 a 3 (g_nl g) g2 = g3 at *
  have m4 : wM g3 (w_aln (wS nt f) (nA nt b) g3) := (wM.rf g3).aln (wS_mono nt f) _
  generalize hg4 : w_aln (wS nt f) (nA nt b) g3 = g4 at *
  have m5 : wM g4 (w_go (g_nl g + 1) g4) := (wM.rf _).go _
  generalize hg5 : w_go (g_nl g + 1) g4 = g5 at *
  have m6 : wM g5 (w_put (g_nl g) g5) := (wM.rf _).put _
  have m6' : wM (w_put (g_nl g) g5) (w_sl false (g_nl g) (w_put (g_nl g) g5)) := (wM.rf _).sl _ _
  generalize hg6 : w_put (g_nl g) g5 = g6 at *
  generalize hg7 : w_sl false (g_nl g) g6 = g7 at *
  have m8 : wM g7 (w_aln (wS nt f) (nB nt b) g7) := (wM.rf g7).aln (wS_mono nt f) _
  generalize hg8 : w_aln (wS nt f) (nB nt b) g7 = g8 at *
  have m9 : wM g8 (w_put (g_nl g + 1) g8) := (wM.rf _).put _
  have ok8 := m9.1 hok9
  have ok7 := m8.1 ok8
  have ok6 := m6'.1 ok7
  have ok5 := m6.1 ok6
  have ok4 := m5.1 ok5
  have ok3 := m4.1 ok4
  have ok2 := m3.1 ok3
  have ok1 := m1.1 ok2
  have nn3 : g_nl g + 2 ≤ g_nl g3 := by have := m3.2.2.2.2.2.2.1; omega
  have nn4 : g_nl g + 2 ≤ g_nl g4 := Nat.le_trans nn3 m4.2.2.2.2.2.2.1
  have nn5 : g_nl g + 2 ≤ g_nl g5 := Nat.le_trans nn4 m5.2.2.2.2.2.2.1
  have nn6 : g_nl g + 2 ≤ g_nl g6 := Nat.le_trans nn5 m6.2.2.2.2.2.2.1
  have nn7 : g_nl g + 2 ≤ g_nl g7 := Nat.le_trans nn6 m6'.2.2.2.2.2.2.1
  have nn8 : g_nl g + 2 ≤ g_nl g8 := Nat.le_trans nn7 m8.2.2.2.2.2.2.1
  have hC3 : ∀ c, c ∈ g_cx g3 → w_cok nt N c := w_cok.wK m3.2.2.2.2.2.1 (by rw [cx2]; exact hC)
  have hC7 : ∀ c, c ∈ g_cx g7 → w_cok nt N c := w_cok.wK (((m4.tr m5).tr m6).tr m6').2.2.2.2.2.1 hC3
  rw [eX1_either]
  refine J2.lb (F := (g_L g, [])) (by omega) (by omega) (by omega) h (by rw [hg1]; exact ok1) (Nat.le_refl _) (fun lm1 lv1 x1 q1 w1 a1 f1 mm1 => ?_)
  rw [hg1] at q1
  refine J2.lb (F := (g_L g, [])) (by omega) (by omega) (by omega) q1 (by rw [hg2]; exact ok2) (by omega) (fun lm2 lv2 x2 q2 w2 a2 f2 mm2 => ?_)
  rw [hg2] at q2
  rw [n1] at w2 a2 ⊢
  have b0 : lm2 (g_nl g) = lm1 (g_nl g) := (a2 _ (by omega)).1
  have b0' : lv2 (g_nl g) = true := by rw [(a2 _ (by omega)).2]; exact w1
  have jc := J2.cnd (d := d) (by omega) hc1 hc2 hT ea ta false (l := g_nl g) (by omega) b0' q2 (by show g_ok (wV nt 40 a 3 (g_nl g) g2); rw [hg3]; exact ok3)
  have jc : J2 nt N M w ba pf rf lf c hp H K (200 - f) (g_nl g2) (z_skl V) (kX1 d 46 [.ref 0, .int a, .int (0 : Int32), .int (nI (lm1 (g_nl g)))] x2) x2 lm2 lv2 g3 := by rw [← hg3, ← b0]; exact jc
  refine J2.b (by omega) jc (fun V3 lm3 lv3 x3 q3 v3 l3 f3 mm3 => ?_)
  rw [q3.nd hb, q3.T.2.1]
  have jb := J2.block (R _ sa) (d := d) (by omega) (by omega) q3 hC3 (by rw [hg4]; exact ok4)
  rw [hg4] at jb
  refine J2.b (by omega) jb (fun V4 lm4 lv4 x4 q4 v4 l4 f4 mm4 => ?_)
  have c1 : ∀ k, k < g_nl g + 2 → lm4 k = lm2 k ∧ lv4 k = lv2 k := fun k hk => ⟨(l4 _ (by omega)).1.trans (l3 _ (by omega)).1, (l4 _ (by omega)).2.trans (l3 _ (by omega)).2⟩
  have jg := J2.go (d := d) (l := g_nl g + 1) (by omega) (by omega) (by rw [(c1 _ (by omega)).2]; exact w2) q4 (by rw [hg5]; exact ok5)
  rw [hg5, (c1 _ (by omega)).1] at jg
  refine J2.b (by omega) jg (fun V5 lm5 lv5 x5 q5 v5 l5 f5 mm5 => ?_)
  have c2 : ∀ k, k < g_nl g + 2 → lm5 k = lm2 k ∧ lv5 k = lv2 k := fun k hk => ⟨(l5 _ (by omega)).1.trans (c1 _ (by omega)).1, (l5 _ (by omega)).2.trans (c1 _ (by omega)).2⟩
  have jp := J2.put (d := d) (l := g_nl g) (by omega) (by omega) (by rw [(c2 _ (by omega)).2]; exact b0') q5 (by rw [hg6]; exact ok6)
  rw [hg6, (c2 _ (by omega)).1, b0] at jp
  refine J2.b (by omega) jp (fun V6 lm6 lv6 x6 q6 v6 l6 f6 mm6 => ?_)
  have c3 : ∀ k, k < g_nl g + 2 → lm6 k = lm2 k ∧ lv6 k = lv2 k := fun k hk => ⟨(l6 _ (by omega)).1.trans (c2 _ (by omega)).1, (l6 _ (by omega)).2.trans (c2 _ (by omega)).2⟩
  have q7 := q6.sl (g_nl g)
  rw [hg7] at q7
  rw [q7.nd hb, q7.T.2.2.1]
  have jb2 := J2.block (R _ sb) (d := d) (by omega) (by omega) q7 hC7 (by rw [hg8]; exact ok8)
  rw [hg8] at jb2
  refine J2.b (by omega) jb2 (fun V8 lm8 lv8 x8 q8 v8 l8 f8 mm8 => ?_)
  have c4 : ∀ k, k < g_nl g + 2 → lm8 k = lm2 k ∧ lv8 k = lv2 k := fun k hk => ⟨(l8 _ (by omega)).1.trans (c3 _ (by omega)).1, (l8 _ (by omega)).2.trans (c3 _ (by omega)).2⟩
  have jp2 := J2.put (d := d) (l := g_nl g + 1) (by omega) (by omega) (by rw [(c4 _ (by omega)).2]; exact w2) q8 hok9
  rw [(c4 _ (by omega)).1] at jp2
  rw [← v3, ← v4, ← v5, ← v6, ← v8]
  exact (J2.end_ jp2).le (by omega)
theorem m_s65 {d : Nat} (hd : 6 * f + 262 ≤ d) (hc1 : 83 ≤ c) (hc2 : c ≤ 3990) (hT : wTb nt N M res par) (hA : wA nt N 40 n) (hk : nK nt n = 65) (hf : f + 1 ≤ 200) (R : ∀ m, wA nt N 40 m → mS nt N M w ba pf rf lf c f m) (hC : ∀ c, c ∈ g_cx g → w_cok nt N c) (hK : K ≤ 200 - (f + 1)) (h : Q2 nt N M w ba pf rf lf c hp H K (200 - f) none V lm lv x g) (hok : g_ok (w_bd nt (wV nt 40) (wS nt f) n g)) :
    J2 nt N M w ba pf rf lf c hp H K (200 - (f + 1)) (g_nl g) (z_skl V) (rX1_statement d (270, [some (.ref 0), some (.int n), some (.int (nA nt n)), some (.int (nB nt n)), none], [], x)) x lm lv (w_bd nt (wV nt 40) (wS nt f) n g) := by
  have e : w_bd nt (wV nt 40) (wS nt f) n g = w_sl false (g_nl g + 1) (w_put (g_nl g + 1) (w_aln (wS nt f) (nB nt (nB nt n)) (w_sl false (g_nl g) (w_put (g_nl g) (w_go (g_nl g + 1) (w_aln (wS nt f) (nA nt (nB nt n)) (wV nt 40 (nA nt n) 3 (g_nl g) (w_lb (g_L g, []) (w_lb (g_L g, []) g))))))))) := by unfold w_bd; simp only [hk]; rfl
  rw [e] at hok ⊢
  obtain ⟨ea, ta, b1, b2, b3⟩ := wE_ifelse hT hA.1 hA.2.2 hk
  obtain ⟨sa, sb⟩ := wE_branch hT b1 (show nD nt (nB nt n) ≤ 39 + 1 by omega) b3
  exact J2.wrap (bX1_statement_270 ..) (m_either (by omega) hc1 hc2 (by omega) hT (ea.mono (show 39 ≤ 40 by omega)) ta b1 ⟨sa.1, sa.2.1, by have := sa.2.2; omega⟩ ⟨sb.1, sb.2.1, by have := sb.2.2; omega⟩ R hC h hok) hK hf
/-- lines -/
theorem w_by_lt (w : Bool) {e l : List (wI × wF)} (he : e ≠ []) : (w_by_ w w_z l).length < (w_by_ w w_z (e ++ l)).length := by
  have h1 : w_at w (e ++ l) l.length = (w_by_ w w_z l).length := by rw [w_at_app _ _ _ (Nat.le_refl _), w_at_len]
  have h2 := w_at_lt w (e ++ l) (j := l.length) (k := (e ++ l).length) (by rw [List.length_append]; have := List.length_pos_iff.mpr he; omega) (Nat.le_refl _)
  rw [w_at_len, h1] at h2; exact h2
theorem m_lined {d : Nat} (hd : 6 * f + 262 ≤ d) (hf : f ≤ 200) {a b : Int32} (ha : 0 ≤ a) (sb : wA nt N 40 b) (R : ∀ m, wA nt N 40 m → mS nt N M w ba pf rf lf c f m) (hC : ∀ c, c ∈ g_cx g → w_cok nt N c) (h : Q2 nt N M w ba pf rf lf c hp H K (200 - f) none V lm lv x g)
    (hok : g_ok (wS nt f b (s_pn a g))) :
    J2 nt N M w ba pf rf lf c hp H K (200 - f) (g_nl g) (z_skl V) (kX1 d 98 [.ref 0, .int a, .int b] x) x lm lv (s_pn (bif Nat.blt (g_it g).length (g_it (wS nt f b (s_pn a g))).length then -1 else g_pn g) (wS nt f b (s_pn a g))) := by
  obtain ⟨d, rfl⟩ : ∃ c, d = c + 1 := ⟨d - 1, by omega⟩
  rw [eX1_lined]
  have m2 := wS_mono nt f b (s_pn a g)
  have q1 := h.pn (v := a) (p := a) (fun _ => ⟨rfl, Or.inr ha⟩)
  have f0 : zfr (zw2 ba pf rf lf) x (mj_wI x 0 46 a) := (zfr.rf _ x).w _ rfl
  refine (J2.b (n := g_nl g) (Nat.le_refl _) (R _ sb d hp H V K lm lv _ (s_pn a g) (by omega) hf q1 hC hok) (fun V1 lm1 lv1 x1 q2 v1 l1 f1 mm1 => ?_)).pre f0 (fun q => q)
  rw [← v1]
  have back : x1.1 0 34 = 0 → x.1 0 34 = 0 := fun h1 => Decidable.byContradiction fun q => mm1 q h1
  obtain ⟨e, he⟩ := m2.2.1
  have he : g_it (wS nt f b (s_pn a g)) = e ++ g_it g := he
  have key : x1.1 0 34 = 0 → x1.1 0 32 = nI (w_by_ w w_z (e ++ g_it g)).length ∧ (w_by_ w w_z (e ++ g_it g)).length ≤ 65535 ∧ x.1 0 32 = nI (w_by_ w w_z (g_it g)).length ∧ x.1 0 46 = g_pn g ∧ (g_pn g = -1 ∨ 0 ≤ g_pn g) := by
    intro h1
    have p1 := (q2.ex h1).1.2.2.resolve_right (fun p => absurd h1 (by rw [p.1.1]; decide))
    have p0 := (h.ex (back h1)).1.2.2.resolve_right (fun p => absurd (back h1) (by rw [p.1.1]; decide))
    rw [he] at p1
    exact ⟨p1.2.2.1.2.2.1, p1.2.2.1.2.2.2.1, p0.2.2.1.2.2.1, p0.2.2.2.2.2.2.1.2.1, p0.2.2.2.2.2.2.1.2.2.1⟩
  have fin : ∀ v, (x1.1 0 34 = 0 → v = (bif Nat.blt (g_it g).length (g_it (wS nt f b (s_pn a g))).length then -1 else g_pn g)) → J2 nt N M w ba pf rf lf c hp H K (200 - f) (g_nl g) (z_skl V1) (some (none, mj_wI x1 0 46 v)) x1 lm1 lv1 (s_pn (bif Nat.blt (g_it g).length (g_it (wS nt f b (s_pn a g))).length then -1 else g_pn g) (wS nt f b (s_pn a g))) := by
    intro v hv
    refine J2.ret (q2.pn (fun h1 => ⟨hv h1, ?_⟩)) ((zfr.rf _ x1).w _ rfl) (fun q => q)
    cases Nat.blt (g_it g).length (g_it (wS nt f b (s_pn a g))).length
    · exact (key h1).2.2.2.2
    · exact Or.inl rfl
  by_cases q : x1.1 0 32 ≤ x.1 0 32
  · rw [if_pos (by exact q), bX1_lined_35, if_pos rfl]
    refine fin _ (fun h1 => ?_)
    obtain ⟨k1, k2, k3, k4, k5⟩ := key h1
    rw [k1, k3] at q
    have en : e = [] := Decidable.byContradiction fun en => absurd q (nI_ge (w_by_lt w en) (by omega))
    rw [he, en, List.nil_append, show Nat.blt (g_it g).length (g_it g).length = false by rw [← Bool.not_eq_true, Nat.blt_eq]; omega]
    exact k4
  · rw [if_neg (by exact q), bX1_lined_35, if_neg (by decide)]
    refine fin _ (fun h1 => ?_)
    obtain ⟨k1, k2, k3, k4, k5⟩ := key h1
    rw [k1, k3] at q
    have en : e ≠ [] := fun en => q (by rw [en]; exact Int32.le_refl _)
    rw [he, show Nat.blt (g_it g).length (e ++ g_it g).length = true from Nat.ble_eq_true_of_le (by rw [List.length_append]; have := List.length_pos_iff.mpr en; omega)]
    rfl
theorem m_s85 {d : Nat} (hd : 6 * f + 262 ≤ d) (hT : wTb nt N M res par) (hA : wA nt N 40 n) (hk : nK nt n = 85) (hf : f + 1 ≤ 200) (R : ∀ m, wA nt N 40 m → mS nt N M w ba pf rf lf c f m) (hC : ∀ c, c ∈ g_cx g → w_cok nt N c) (hK : K ≤ 200 - (f + 1)) (h : Q2 nt N M w ba pf rf lf c hp H K (200 - f) none V lm lv x g) (hok : g_ok (w_bd nt (wV nt 40) (wS nt f) n g)) :
    J2 nt N M w ba pf rf lf c hp H K (200 - (f + 1)) (g_nl g) (z_skl V) (rX1_statement d (398, [some (.ref 0), some (.int n), some (.int (nA nt n)), some (.int (nB nt n)), none], [], x)) x lm lv (w_bd nt (wV nt 40) (wS nt f) n g) := by
  have e : w_bd nt (wV nt 40) (wS nt f) n g = s_pn (bif Nat.blt (g_it g).length (g_it (wS nt f (nB nt n) (s_pn (nA nt n) g))).length then -1 else g_pn g) (wS nt f (nB nt n) (s_pn (nA nt n) g)) := by unfold w_bd; simp only [hk]; rfl
  rw [e] at hok ⊢
  obtain ⟨a1, a2, sb⟩ := wE_line hT hA.1 hA.2.2 hk
  exact J2.wrap (bX1_statement_398 ..) (m_lined (by omega) (by omega) a1 ⟨sb.1, sb.2.1, by have := sb.2.2; omega⟩ R hC h hok) hK hf
end
