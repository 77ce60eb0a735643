/-! statements of CodeWriterModel: locks -/
section
variable {nt : sp_NT} {N M : Nat} {w : Bool} {ba pf rf lf c hp : Nat} {H V : List wSl} {K u : Nat} {o : Option Int32} {lm lm' : Nat → Nat} {lv lv' : Nat → Bool} {x y : mj_X} {g G : wG} {res par : Nat → Int32} {f : Nat} {n : Int32}
theorem J2.es1 {d : Nat} (hd : 3 ≤ d) {i : wI} {F : wF} {cc a2 a3 : Int32} (h : Q2 nt N M w ba pf rf lf c hp H K u none V lm lv x g) (hok : g_ok (w_es i F g)) (hs : w_q g = false → nI (g_st g).length + (a3 - a2) = nI F.2.length) (hi : w_in w i cc []) :
    J2 nt N M w ba pf rf lf c hp H K u (g_nl g) (z_skl V) (kX1 d 42 [.ref 0, .int cc, .int a2, .int a3] x) x lm lv (w_es i F g) :=
  J2.of3 ((wM.rf g).es i F) h (fun _ q => m_i1 hd q hok hs hi) (fun h0 hm => ⟨x, m_codeM (by omega) h0 _ _ _, zfr.rf _ x, hm⟩) (wU_es _ _)
theorem m_locked {d : Nat} (hd : 6 * f + 264 ≤ d) (hc1 : 83 ≤ c) (hc2 : c ≤ 3990) (hf : f ≤ 200) {a b : Int32} (hT : wTb nt N M res par) (ea : wE nt N 40 a) (t5 : 5 ≤ nT nt a) (t8 : nT nt a ≤ 8) (sb : wA nt N 40 b) (R : ∀ m, wA nt N 40 m → mS nt N M w ba pf rf lf c f m) (hq : w_q g = false) (hC : ∀ c, c ∈ g_cx g → w_cok nt N c) (hKu : K < 200 - f) (h : Q2 nt N M w ba pf rf lf c hp H K (200 - f) none V lm lv x g)
    (hok : g_ok (w_lock nt (wV nt 40) (wS nt f) a b g)) :
    J2 nt N M w ba pf rf lf c hp H K (200 - f) (g_nl g) (z_skl V) (kX1 d 95 [.ref 0, .int a, .int b] x) x lm lv (w_lock nt (wV nt 40) (wS nt f) a b g) := by
  obtain ⟨d, rfl⟩ : ∃ c, d = c + 1 := ⟨d - 1, by omega⟩
  have mv := wV_mono nt 40 a 0 0 g
  have sh := ((wV_sh hT 40 a ea).2 g 0 hq (Nat.zero_le _)).1
  have nx0 : g_nx (wV nt 40 a 0 0 g) = g_nx g := sh.1.1.2.1
  have E : w_lock nt (wV nt 40) (wS nt f) a b g = (let g1 := wV nt 40 a 0 0 g
    let g2 := w_es (7, 89, 0, 0, []) (g_L g1, 12 :: 12 :: (g_st g1).drop 1) g1
    let g3 := w_ts 5 [12] g2
    let g5 := w_es (16, 194, 0, 0, []) ((g_L g3).take (g_nx g2) ++ [11], (g_st g3).drop 1) g3
    let h := w_ended (wS nt f) 4 b (nI (g_nx g2)) g5
    s_nx (g_nx g) (s_L ((g_L h).take (g_nx g)) h)) := rfl
  rw [E] at hok ⊢
  clear E
  simp only at hok ⊢
  generalize hg1 : wV nt 40 a 0 0 g = g1 at *
  have m2 : wM g1 (w_es (7, 89, 0, 0, []) (g_L g1, 12 :: 12 :: (g_st g1).drop 1) g1) := (wM.rf g1).es _ _
  have k2 := w_es_f (i := (7, 89, 0, 0, [])) (F := (g_L g1, 12 :: 12 :: (g_st g1).drop 1)) sh.2.1
  have nx2 : g_nx (w_es (7, 89, 0, 0, []) (g_L g1, 12 :: 12 :: (g_st g1).drop 1) g1) = g_nx g := (wU_es (g := g1) _ _).1.trans nx0
  have ok2' := @w_es_ok (7, 89, 0, 0, []) (g_L g1, 12 :: 12 :: (g_st g1).drop 1) g1 sh.2.1
  generalize hg2 : w_es (7, 89, 0, 0, []) (g_L g1, 12 :: 12 :: (g_st g1).drop 1) g1 = g2 at *
  have hq2 : w_q g2 = false := (w_q_iff g2).mpr ⟨k2.2.1.trans ((w_q_iff g1).mp sh.2.1).1, k2.2.2.1.trans ((w_q_iff g1).mp sh.2.1).2⟩
  have m3 : wM g2 (w_ts 5 [12] g2) := (wM.rf g2).ts _ _
  have k3 := w_es_f (i := (3, 5, g_nx g2, 0, [])) (F := (g_L g2 ++ [12], (g_st g2).drop (w_tl 5).length)) (g := s_tk (w_tl 5).length g2) hq2
  have hq3 : w_q (w_ts 5 [12] g2) = false := (w_q_iff _).mpr ⟨k3.2.1.trans ((w_q_iff g2).mp hq2).1, k3.2.2.1.trans ((w_q_iff g2).mp hq2).2⟩
  have okT0 : g_ok (w_ts 5 [12] g2) → (w_q g2 = false → (w_tl 5).length ≤ (g_st g2).length ∧ g_nx g2 < 250) ∧ g_ok (w_es (3, 5, g_nx g2, 0, []) (g_L g2 ++ [12], (g_st g2).drop (w_tl 5).length) (s_tk (w_tl 5).length g2)) := fun q => ⟨q.2, q.1⟩
  have js0 : w_ts 5 [12] g2 = s_ok (w_q g2 = false → (w_tl 5).length ≤ (g_st g2).length ∧ g_nx g2 < 250) (w_es (3, 5, g_nx g2, 0, []) (g_L g2 ++ [12], (g_st g2).drop (w_tl 5).length) (s_tk (w_tl 5).length g2)) := rfl
  generalize hg3 : w_ts 5 [12] g2 = g3 at *
  have m5 : wM g3 (w_es (16, 194, 0, 0, []) ((g_L g3).take (g_nx g2) ++ [11], (g_st g3).drop 1) g3) := (wM.rf g3).es _ _
  have ok5' := @w_es_ok (16, 194, 0, 0, []) ((g_L g3).take (g_nx g2) ++ [11], (g_st g3).drop 1) g3 hq3
  have okv : g_ok (w_es (16, 194, 0, 0, []) ((g_L g3).take (g_nx g2) ++ [11], (g_st g3).drop 1) g3) := ((wM.rf _).ended (wS_mono nt f) 4 b (nI (g_nx g2))).1 hok
  have ok3 := m5.1 okv
  obtain ⟨p5, okS⟩ := okT0 ok3
  obtain ⟨p5, p6⟩ := p5 hq2
  have ok2 := m3.1 ok3
  have l1 : 1 ≤ (g_st g1).length := (w_ty7 (ok2' ok2).1).1 rfl
  have l3 : 1 ≤ (g_st g3).length := by
    have := (ok5' okv).1
    rcases this with q | q | q | q
    · rcases q with q | q
      · exact absurd q (by decide)
      · exact absurd q.2 (by decide)
    · exact absurd q.1 (by decide)
    · obtain ⟨-, L, -, -, q, -⟩ := q
      have q : g_st g3 = 12 :: _ := q
      rw [q]; simp
    · exact absurd q.1 (by decide)
  generalize hg5 : w_es (16, 194, 0, 0, []) ((g_L g3).take (g_nx g2) ++ [11], (g_st g3).drop 1) g3 = g5 at *
  rw [eX1_locked]
  have jv := J2.val (d := d) (by omega) hc1 hc2 hT ea h (by rw [hg1]; exact m2.1 ok2)
  rw [hg1] at jv
  refine J2.b (Nat.le_refl _) jv (fun V1 lm1 lv1 x1 q1 v1 l1' f1 mm1 => ?_)
  have j2 := J2.es1 (d := d) (i := (7, 89, 0, 0, [])) (F := (g_L g1, 12 :: 12 :: (g_st g1).drop 1)) (cc := 89) (a2 := 1) (a3 := 2) (by omega) q1 (by rw [hg2]; exact ok2) (fun _ => by
    rw [show (2 : Int32) - 1 = nI 2 - nI 1 from rfl, nI_st l1]
    show nI _ = nI (12 :: 12 :: (g_st g1).drop 1).length
    simp only [List.length_cons, List.length_drop]; congr 1; omega) ⟨fun _ => rfl, fun _ _ => rfl⟩
  rw [hg2] at j2
  have nn1 := mv.2.2.2.2.2.2.1
  have nn2 := m2.2.2.2.2.2.2.1
  have nn3 := m3.2.2.2.2.2.2.1
  have nn5 := m5.2.2.2.2.2.2.1
  refine J2.b (n1 := g_nl g1) nn1 j2 (fun V2 lm2 lv2 x2 q2 v2 l2' f2 mm2 => ?_)
  rw [e_anew (by omega), mj_rI_k]
  have hx38 : x2.1 0 34 = 0 → x2.1 0 38 = nI (g_nx g2) := fun z => (q2.ex z).2.1.1
  have q3 := q2.tk (t := 5) (by decide) (fun _ => p6)
  have js := J2.stn (d := d) (t := 5) (p := x2.1 0 38) (q := g_nx g2) (F := (g_L g2 ++ [12], (g_st g2).drop (w_tl 5).length)) (by omega) (by decide) (by decide) q3 (fun z => ⟨hx38 z, by omega⟩) (fun _ => ⟨p5, rfl⟩) okS
  have js : J2 nt N M w ba pf rf lf c hp H K (200 - f) (g_nl g2) (z_skl V2) (kX1 d 71 [.ref 0, .int (x2.1 0 38), .int (5 : Int32)] (mj_wI (mj_wI x2 0 38 (x2.1 0 38 + sp_pl (nI 5))) 0 39 (mj_max (x2.1 0 39) (x2.1 0 38 + sp_pl (nI 5))))) (mj_wI (mj_wI x2 0 38 (x2.1 0 38 + sp_pl (nI 5))) 0 39 (mj_max (x2.1 0 39) (x2.1 0 38 + sp_pl (nI 5)))) lm2 lv2 g3 := by rw [js0]; exact js
  refine J2.pre (y := mj_wI (mj_wI x2 0 38 (x2.1 0 38 + sp_pl (nI 5))) 0 39 (mj_max (x2.1 0 39) (x2.1 0 38 + sp_pl (nI 5)))) ?_ (((zfr.rf _ x2).w _ rfl).w _ rfl) (fun q => q)
  refine J2.b (n1 := g_nl g2) (by omega) js (fun V4 lm4 lv4 x4 q4 v4 l4' f4 mm4 => ?_)
  have j5 := J2.es1 (d := d) (i := (16, 194, 0, 0, [])) (F := ((g_L g3).take (g_nx g2) ++ [11], (g_st g3).drop 1)) (cc := 194) (a2 := 1) (a3 := 0) (by omega) q4 (by rw [hg5]; exact okv) (fun _ => by
    rw [show (0 : Int32) - 1 = nI 0 - nI 1 from rfl, nI_st l3]
    show nI _ = nI ((g_st g3).drop 1).length
    rw [List.length_drop, Nat.zero_add]) ⟨fun _ => rfl, fun _ _ => rfl⟩
  rw [hg5] at j5
  refine J2.b (n1 := g_nl g3) (by omega) j5 (fun V5 lm5 lv5 x5 q5 v5 l5' f5 mm5 => ?_)
  have back : x5.1 0 34 = 0 → x2.1 0 34 = 0 := fun z => Decidable.byContradiction fun p => mm5 (mm4 p) z
  have hC5 : ∀ c, c ∈ g_cx g5 → w_cok nt N c := w_cok.wK ((((mv.tr m2).tr m3).tr m5).2.2.2.2.2.1) hC
  have je := m_ended (d := d) (sort := 4) (node := nI (g_nx g2)) (a3 := x2.1 0 38) (by omega) hc1 hc2 hf (by decide) (by decide) hT sb ⟨fun q => absurd q (show ¬ (4 : Nat) = 3 by decide), fun _ => ⟨g_nx g2, by omega, rfl⟩⟩ (fun z => hx38 (back z)) R hC5 hKu q5 hok
  refine J2.b (n1 := g_nl g5) (by omega) je (fun V6 lm6 lv6 x6 q6 v6 l6' f6 mm6 => ?_)
  have q7 : Q2 nt N M w ba pf rf lf c hp H K (200 - f) none V6 lm6 lv6 x6 (s_L ((g_L (w_ended (wS nt f) 4 b (nI (g_nx g2)) g5)).take (g_nx g)) (w_ended (wS nt f) 4 b (nI (g_nx g2)) g5)) := q6
  rw [← v1, ← v2, ← v4, ← v5, ← v6]
  refine J2.ret (q7.nx (fun z => ?_)) ((zfr.rf _ x6).w _ rfl) (fun q => q)
  have h0 : x.1 0 34 = 0 := Decidable.byContradiction fun q => mm6 (mm5 (mm4 (mm2 (mm1 q)))) z
  exact ⟨(h.ex h0).2.1.1, (h.ex h0).2.1.2.1⟩
theorem m_s79 {d : Nat} (hd : 6 * f + 263 ≤ d) (hc1 : 83 ≤ c) (hc2 : c ≤ 3990) (hT : wTb nt N M res par) (hA : wA nt N 40 n) (hk : nK nt n = 79) (hf : f + 1 ≤ 200) (R : ∀ m, wA nt N 40 m → mS nt N M w ba pf rf lf c f m) (hC : ∀ c, c ∈ g_cx g → w_cok nt N c) (hK : K ≤ 200 - (f + 1)) (h : Q2 nt N M w ba pf rf lf c hp H K (200 - f) none V lm lv x g) (hok : g_ok (w_bd nt (wV nt 40) (wS nt f) n g)) :
    J2 nt N M w ba pf rf lf c hp H K (200 - (f + 1)) (g_nl g) (z_skl V) (rX1_statement d (370, [some (.ref 0), some (.int n), some (.int (nA nt n)), some (.int (nB nt n)), none], [], x)) x lm lv (w_bd nt (wV nt 40) (wS nt f) n g) := by
  have e : w_bd nt (wV nt 40) (wS nt f) n g = w_ended (wS nt f) 3 (nA nt n) (nB nt n) g := by unfold w_bd; simp only [hk]; rfl
  rw [e] at hok ⊢
  obtain ⟨sa, sb⟩ := wE_fin hT hA.1 hA.2.2 hk
  exact J2.wrap (bX1_statement_370 ..) (m_ended (d := d) (sort := 3) (by omega) hc1 hc2 (by omega) (by decide) (by decide) hT ⟨sa.1, sa.2.1, by have := sa.2.2; omega⟩ ⟨fun _ => ⟨_, sb⟩, fun q => absurd q (show ¬ (3 : Nat) = 4 by decide)⟩ (fun _ => rfl) R hC (by omega) h hok) hK hf
theorem m_s80 {d : Nat} (hd : 6 * f + 264 ≤ d) (hc1 : 83 ≤ c) (hc2 : c ≤ 3990) (hT : wTb nt N M res par) (hA : wA nt N 40 n) (hk : nK nt n = 80) (hf : f + 1 ≤ 200) (R : ∀ m, wA nt N 40 m → mS nt N M w ba pf rf lf c f m) (hq : w_q g = false) (hC : ∀ c, c ∈ g_cx g → w_cok nt N c) (hK : K ≤ 200 - (f + 1)) (h : Q2 nt N M w ba pf rf lf c hp H K (200 - f) none V lm lv x g) (hok : g_ok (w_bd nt (wV nt 40) (wS nt f) n g)) :
    J2 nt N M w ba pf rf lf c hp H K (200 - (f + 1)) (g_nl g) (z_skl V) (rX1_statement d (380, [some (.ref 0), some (.int n), some (.int (nA nt n)), some (.int (nB nt n)), none], [], x)) x lm lv (w_bd nt (wV nt 40) (wS nt f) n g) := by
  have e : w_bd nt (wV nt 40) (wS nt f) n g = w_lock nt (wV nt 40) (wS nt f) (nA nt n) (nB nt n) g := by unfold w_bd; simp only [hk]; rfl
  rw [e] at hok ⊢
  obtain ⟨ea, t5, t8, sb⟩ := wE_lock hT hA.1 hA.2.2 hk
  exact J2.wrap (bX1_statement_380 ..) (m_locked (by omega) hc1 hc2 (by omega) hT (ea.mono (show 39 ≤ 40 by omega)) t5 t8 ⟨sb.1, sb.2.1, by have := sb.2.2; omega⟩ R hq hC (by omega) h hok) hK hf
end
