/-! statements of CodeWriterModel: loops -/
section
variable {nt : sp_NT} {N M : Nat} {w : Bool} {ba pf rf lf c hp : Nat} {H V : List wSl} {K u : Nat} {o : Option Int32} {lm lm' : Nat → Nat} {lv lv' : Nat → Bool} {x y : mj_X} {g G : wG} {res par : Nat → Int32} {f : Nat} {n : Int32}
theorem zk_zw2 {k : Nat} (f : zfr (zk k) x y) : zfr (zw2 ba pf rf lf) x y := f.mono (fun a j h => by
  unfold zw2 at h
  rw [Bool.or_eq_false_iff] at h
  unfold zk
  split
  · have h1 := h.2; simp at h1 ⊢; omega
  all_goals first | (simp at h; done) | rfl)
theorem zkk (K a : Nat) (h : [61, 62, 63, 64, 65, 66, 67, 68, 69].elem a = true) : zk K a K = true := by
  have : a = 61 ∨ a = 62 ∨ a = 63 ∨ a = 64 ∨ a = 65 ∨ a = 66 ∨ a = 67 ∨ a = 68 ∨ a = 69 := by simpa using h
  have e : Nat.ble K K = true := Nat.ble_eq_true_of_le (Nat.le_refl _)
  rcases this with rfl | rfl | rfl | rfl | rfl | rfl | rfl | rfl | rfl <;> exact e
theorem Q2.opn {t : Int32} (h : Q2 nt N M w ba pf rf lf c hp H K u none V lm lv x g) (hK : K < u) : ∃ y, (∀ d, 1 ≤ d → kX1 d 81 [.ref 0, .int t] x = some (some (.int (nI K)), y)) ∧ Q2 nt N M w ba pf rf lf c hp H (K + 1) u (some (x.1 0 59)) V lm lv y g ∧ zfr (zk K) x y
    ∧ y.1 0 59 = nI K ∧ y.1 61 K = t ∧ y.1 62 K = x.1 0 59 ∧ y.1 66 K = x.1 0 38 ∧ y.1 67 K = x.1 0 32 ∧ y.1 68 K = -1 ∧ y.1 69 K = -1 := by
  have hu := h.2.2.1.2.2.2.1
  have f : zfr (zk K) x (mj_wI (mj_wI (mj_wI (mj_wI (mj_wI (mj_wI (mj_wI (mj_wI x 0 58 (nI (K + 1))) 61 K t) 62 K (x.1 0 59)) 66 K (x.1 0 38)) 67 K (x.1 0 32)) 68 K (-1)) 69 K (-1)) 0 59 (nI K)) :=
    ((((((((zfr.rf _ x).w _ rfl).w _ (zkk K 61 rfl)).w _ (zkk K 62 rfl)).w _ (zkk K 66 rfl)).w _ (zkk K 67 rfl)).w _ (zkk K 68 rfl)).w _ (zkk K 69 rfl)).w _ rfl
  refine ⟨_, fun d hd => e_open hd (by omega) t h.2.2.1.2.1, ?_, f, rfl, ?_, ?_, ?_, ?_, ?_, ?_⟩
  · refine h.ofzk (k := K) f (fun s hs => (h.lt hs).1) rfl (Nat.le_succ _) hK ?_
    exact h.2.2.1.2.2.2.2.2.1.le (Nat.le_succ _)
  · exact pk_us
  · exact pk_us
  · exact pk_us
  · exact pk_us
  · exact pk_us
  · exact pk_us
theorem Q2.shut {s : wSl} (h : Q2 nt N M w ba pf rf lf c hp H (K + 1) u none (s :: V) lm lv x g) (hs : s.1 = K) (hps : c_ps s.2.2 = []) : Q2 nt N M w ba pf rf lf c hp H K u none V lm lv (mj_wI (mj_wI x 0 59 s.2.1) 0 58 (nI K)) (w_shut g) := by
  have hch := h.2.2.1.2.2.2.2.2.1
  have hpw := h.2.2.1.2.2.2.2.2.2.1
  have hu := h.2.2.1.2.2.1
  have q := h.hide
  rw [hps] at q
  have q := q.drop
  refine Q2.ofzk (hp := hp) (k := K) q (((zfr.rf _ x).w _ rfl).w _ rfl) (fun t ht => ?_) rfl (Nat.le_refl _) (by omega) ?_
  · have h1 := (q.lt ht).1
    have p : (H ++ s :: V).Perm (s :: (H ++ V)) := List.perm_middle
    have := (List.pairwise_cons.mp ((p.pairwise_iff (fun {a b} h => h.symm)).mp hpw)).1 t ht
    omega
  · show z_ch s.2.1 K V
    rw [← hs]; exact hch.2.2
theorem Q2.lb0 {F : wF} (h : Q2 nt N M w ba pf rf lf c hp H K u o V lm lv x g) (hF : F.2.length < 3370) : Q2 nt N M w ba pf rf lf c hp H K u o V (fun l => if l = g_nl g then 0 else lm l) (fun l => if l = g_nl g then false else lv l) x (w_lb0 F g) := by
  obtain ⟨hlm, he, hS, hX⟩ := h
  have hag : ∀ l, l < g_nl g → (fun l => if l = g_nl g then 0 else lm l) l = lm l ∧ (fun l => if l = g_nl g then false else lv l) l = lv l := fun l hl => ⟨if_neg (by omega), if_neg (by omega)⟩
  have hlm' : ∀ l, l < g_nl (w_lb0 F g) → (fun l => if l = g_nl g then 0 else lm l) l < 300000 := by
    intro l hl
    have hl : l < g_nl g + 1 := hl
    show (if l = g_nl g then 0 else lm l) < 300000
    by_cases q : l = g_nl g
    · rw [if_pos q]; decide
    · rw [if_neg q]; exact hlm l (by omega)
  refine ⟨hlm', he, hS, ?_⟩
  rcases hX with ⟨h0, q, hx⟩ | ⟨h0, hm, ho⟩
  · refine Or.inl ⟨h0, ⟨q.1, hlm', ?_⟩, hx.eq (g := g) ⟨⟨rfl, rfl⟩, rfl, rfl, rfl⟩ ⟨rfl, rfl, rfl, rfl, rfl, rfl, rfl, rfl, rfl⟩ hag ⟨[], rfl⟩ (Nat.le_succ _) rfl rfl (fun _ => rfl) hx.1⟩
    obtain ⟨hov, z1_, z2, ⟨f1, f2, f3, f4⟩, ⟨fr, l1, l2, l3, l4, l5, l6, l7, l8, l9, l10, l11, l12, l13⟩, z5⟩ := q.2.2.resolve_right (fun p => absurd h0 (by rw [p.1.1]; decide))
    refine Or.inl ⟨hov, z1_, z2, ⟨f1, f2, fun q hq => Nat.lt_succ_of_lt (f3 q hq), f4.mono (fun j q _ hq hh => ?_)⟩, ⟨fr, l1, l2, l3, l4, l5, l6, l7, l8, fun l hl hv => ?_, fun l l' hl hl' hv hv' hh => ?_, fun l hl hg => ?_, fun l i hl hi => ?_, fun l hl => ?_⟩, z5⟩
    · have := f3 q hq
      show _ ∧ _ ∧ x.1 54 j = nI (if q.2.2.1 = g_nl g then 0 else lm q.2.2.1) ∧ _
      rw [if_neg (by omega)]; exact hh
    · have hl : l < g_nl g + 1 := hl
      have hv : (if l = g_nl g then false else lv l) = true := hv
      by_cases q : l = g_nl g
      · rw [if_pos q] at hv; simp at hv
      · rw [if_neg q] at hv
        have := l9 l (show l < g_nl g by omega) hv
        show (if l = g_nl g then 0 else lm l) < _ ∧ (if l = g_nl g then 0 else lm l) ∉ fr ∧ x.1 49 (if l = g_nl g then 0 else lm l) = z_lo w (g_it g) (if l = g_nl g then none else g_lat g l) ∧ x.1 50 (if l = g_nl g then 0 else lm l) = (bif (if l = g_nl g then false else g_goes g l) then nI ((if l = g_nl g then F else g_lF g l)).2.length else -1)
        simp only [if_neg q]; exact this
    · have hl : l < g_nl g + 1 := hl
      have hl' : l' < g_nl g + 1 := hl'
      have hh : (if l = g_nl g then 0 else lm l) = (if l' = g_nl g then 0 else lm l') := hh
      have hv : (if l = g_nl g then false else lv l) = true := hv
      have hv' : (if l' = g_nl g then false else lv l') = true := hv'
      by_cases q : l = g_nl g
      · rw [if_pos q] at hv; simp at hv
      · by_cases q' : l' = g_nl g
        · rw [if_pos q'] at hv'; simp at hv'
        · rw [if_neg q, if_neg q'] at hh; rw [if_neg q] at hv; rw [if_neg q'] at hv'
          exact l10 l l' (show l < g_nl g by omega) (show l' < g_nl g by omega) hv hv' hh
    · have hl : l < g_nl g + 1 := hl
      have hg : (if l = g_nl g then false else g_goes g l) = true := hg
      show (if l = g_nl g then false else lv l) = true
      by_cases q : l = g_nl g
      · rw [if_pos q] at hg; simp at hg
      · rw [if_neg q] at hg ⊢; exact l11 l (show l < g_nl g by omega) hg
    · have hl : l < g_nl g + 1 := hl
      have hi : (if l = g_nl g then none else g_lat g l) = some i := hi
      by_cases q : l = g_nl g
      · rw [if_pos q] at hi; simp at hi
      · rw [if_neg q] at hi; exact l12 l i (show l < g_nl g by omega) hi
    · have hl : l < g_nl g + 1 := hl
      show ((if l = g_nl g then F else g_lF g l)).2.length < 3370
      by_cases q : l = g_nl g
      · rw [if_pos q]; exact hF
      · rw [if_neg q]; exact l13 l (show l < g_nl g by omega)
  · exact Or.inr ⟨h0, hm, ho⟩
theorem w_go_cx {l : Nat} {cs : List wC} : w_go l (s_cx cs g) = s_cx cs (w_go l g) := by
  unfold w_go w_em w_es
  have : w_q (s_cx cs g) = w_q g := rfl
  rw [this]
  cases w_q g <;> rfl
/-- the end of a loop: its context is shut, its labels are sealed, its end is put -/
theorem J2.l169 {d k : Nat} (hd : 1 ≤ d) {e oo t : Nat} {a1 a2 a3 a6 v : Int32} {o7 : Option Value} (h0 : Q2 nt N M w ba pf rf lf c hp H K u none V lm lv (mj_wI (mj_wI x 0 59 (x.1 62 K)) 0 58 (nI K)) G) (hK : K < 4000) (he : e < g_nl G) (hv : lv e = true) (hvv : v = nI (lm e)) (hk : k ≤ g_nl G) (hok : g_ok (w_put e (w_sl false oo (w_sl false t G)))) :
    J2 nt N M w ba pf rf lf c hp H K u k (z_skl V) (rX1_loop d (169, [some (.ref 0), some (.int a1), some (.int a2), some (.int a3), some (.int (nI K)), some (.int v), some (.int a6), o7], [], x)) x lm lv (w_put e (w_sl false oo (w_sl false t G))) := by
  rw [bX1_loop_169, e_close hd hK, mj_rV_k, hvv]
  have q := (h0.sl t).sl oo
  have hn : g_nl (w_sl false oo (w_sl false t G)) = g_nl G := by
    have a1 : ∀ l (G : wG), g_nl (w_sl false l G) = g_nl G := fun l G => by unfold w_sl; cases g_goes G l <;> rfl
    rw [a1, a1]
  have := J2.put (d := d) (l := e) hd (by rw [hn]; exact he) hv q hok
  exact ((J2.end_ this).le (by rw [hn]; exact hk)).pre (((zfr.rf _ x).w _ rfl).w _ rfl) (fun q => q)
theorem J2.ltail {d k : Nat} (hd : 1 ≤ d) {e oo t : Nat} {a1 a2 a3 a6 v hr : Int32} {o7 : Option Value} {V5 : List wSl} {G4 : wG} (hK : K < 4000) (q : Q2 nt N M w ba pf rf lf c hp H (K + 1) u none V5 lm lv x G) (hs : z_skl V5 = (K, hr) :: z_skl V) (hm : wM (w_ctx 0 0 e oo G4) G) (he : e < g_nl G) (hv : lv e = true) (hvv : v = nI (lm e)) (hk : k ≤ g_nl G) (hok : g_ok (w_put e (w_sl false oo (w_sl false t (w_shut G))))) :
    J2 nt N M w ba pf rf lf c hp H K u k (z_skl V) (rX1_loop d (169, [some (.ref 0), some (.int a1), some (.int a2), some (.int a3), some (.int (nI K)), some (.int v), some (.int a6), o7], [], x)) x lm lv (w_put e (w_sl false oo (w_sl false t (w_shut G)))) := by
  cases V5 with
  | nil => simp [z_skl] at hs
  | cons s V6 =>
    have e1 : (s.1, s.2.1) = (K, hr) := by injection hs
    have e2 : z_skl V6 = z_skl V := by injection hs
    have e3 : s.1 = K := congrArg Prod.fst e1
    obtain ⟨-, dd, r, hcx, hwk, -⟩ := wM.in_ (g := G4) (c := (0, 0, e, oo, g_nx G4, (g_it G4).length, [])) hm
    have hc := q.2.2.1.1
    rw [hcx] at hc
    have hd0 : s.2.2 = dd := by injection hc
    have hps : c_ps s.2.2 = [] := by rw [hd0]; exact hwk.2.1 (by show 0 < 2; decide)
    have q2 := q.shut e3 hps
    have h62 : x.1 62 K = s.2.1 := by have := (q.sk (s := s) (by simp)).2.1; rw [e3] at this; exact this
    rw [← h62] at q2
    rw [← e2]
    exact J2.l169 hd q2 hK he hv hvv hk hok
theorem m_loop {d : Nat} (hd : 6 * f + 262 ≤ d) (hc1 : 83 ≤ c) (hc2 : c ≤ 3990) (hf : f ≤ 200) {k a b : Int32} (hT : wTb nt N M res par) (hkk : k = 67 ∨ k = 68 ∨ k = 69) (hp67 : k = 67 → wE nt N 40 a ∧ nT nt a = 1 ∧ wA nt N 40 b) (hp68 : k = 68 → wA nt N 40 a ∧ wE nt N 40 b ∧ nT nt b = 1)
    (hp69 : k = 69 → sp_nd N a = true ∧ wE nt N 40 (nA nt a) ∧ nT nt (nA nt a) = 1 ∧ wA nt N 40 (nB nt a) ∧ wA nt N 40 b) (R : ∀ m, wA nt N 40 m → mS nt N M w ba pf rf lf c f m) (hC : ∀ c, c ∈ g_cx g → w_cok nt N c) (hKu : K < 200 - f) (h : Q2 nt N M w ba pf rf lf c hp H K (200 - f) none V lm lv x g)
    (hok : g_ok (w_loop nt (wV nt 40) (wS nt f) k a b g)) :
    J2 nt N M w ba pf rf lf c hp H K (200 - f) (g_nl g) (z_skl V) (kX1 d 80 [.ref 0, .int k, .int a, .int b] x) x lm lv (w_loop nt (wV nt 40) (wS nt f) k a b g) := by
  obtain ⟨d, rfl⟩ : ∃ c, d = c + 1 := ⟨d - 1, by omega⟩
  have hK4 : K < 4000 := by have := h.2.2.1.2.2.2.1; omega
  obtain ⟨y, ho, qy, fy, y59, y61, y62, y66, y67, y68, y69⟩ := h.opn (t := 0) hKu
  -- what is behind the labels
  have n2 : g_nl (w_lb (g_L g, []) (w_lb (g_L g, []) g)) = g_nl g + 2 := rfl
  have n1 : g_nl (w_lb (g_L g, []) g) = g_nl g + 1 := rfl
  have mk : ∀ (lm2 lm4 : Nat → Nat) (lv4 : Nat → Bool) (x2 x4 : mj_X) (G4 : wG), zfr (zw ba pf lf) y x2 → (x4.1 0 34 = 0 → x.1 0 34 = 0) → zfr (zw ba pf lf) (mj_wI (mj_wI x2 63 K (nI (lm2 (g_nl g)))) 64 K (nI (lm2 (g_nl g + 1)))) x4 →
      Q2 nt N M w ba pf rf lf c hp H (K + 1) (200 - f) (some (x.1 0 59)) V lm4 lv4 x4 G4 → lm4 (g_nl g) = lm2 (g_nl g) → lm4 (g_nl g + 1) = lm2 (g_nl g + 1) → lv4 (g_nl g) = true → lv4 (g_nl g + 1) = true → g_nl g + 1 < g_nl G4 → g_nx G4 = g_nx g → g_it G4 = g_it g →
      Q2 nt N M w ba pf rf lf c hp H (K + 1) (200 - f) none ((K, x.1 0 59, (0, 0, g_nl g, g_nl g + 1, g_nx G4, (g_it G4).length, [])) :: V) lm4 lv4 x4 (w_ctx 0 0 (g_nl g) (g_nl g + 1) G4) := by
    intro lm2 lm4 lv4 x2 x4 G4 f2 back f4 q e1 e2 v1 v2 hn hnx hit
    have E : ∀ j, [61, 62, 66, 67, 68, 69].elem j = true → x4.1 j K = y.1 j K := by
      intro j hj
      have : j = 61 ∨ j = 62 ∨ j = 66 ∨ j = 67 ∨ j = 68 ∨ j = 69 := by simpa using hj
      rcases this with rfl | rfl | rfl | rfl | rfl | rfl
      · rw [f4.2 61 K rfl]; exact f2.2 61 K rfl
      · rw [f4.2 62 K rfl]; exact f2.2 62 K rfl
      · rw [f4.2 66 K rfl]; exact f2.2 66 K rfl
      · rw [f4.2 67 K rfl]; exact f2.2 67 K rfl
      · rw [f4.2 68 K rfl]; exact f2.2 68 K rfl
      · rw [f4.2 69 K rfl]; exact f2.2 69 K rfl
    refine q.ctx (k := K) (Nat.lt_succ_self _) (fun s hs => by have := (h.lt hs).1; omega) h.2.2.1.2.2.2.2.2.1 ?_ ?_ (by decide) ?_ ?_ ?_ (fun h4 => ⟨?_, ?_, fun _ => ⟨by omega, v1, ?_⟩, fun _ => ⟨hn, v2, ?_⟩, fun q => by omega⟩)
    · rw [f4.2 0 59 rfl]; show x2.1 0 59 = _; rw [f2.2 0 59 rfl]; exact y59
    · rw [E 61 rfl]; exact y61
    · rw [E 62 rfl]; exact y62
    · rw [E 68 rfl]; exact y68
    · rw [E 69 rfl]; exact y69
    · rw [E 66 rfl, y66, hnx]; exact (h.ex (back h4)).2.1.1
    · rw [E 67 rfl, y67, hit]
      exact ((h.ex (back h4)).1.2.2.resolve_right (fun p => absurd (back h4) (by rw [p.1.1]; decide))).2.2.1.2.2.1
    · rw [f4.2 63 K rfl, e1]; show upd (x2.1 63) K _ K = _; rw [pk_us]
    · rw [f4.2 64 K rfl, e2]; show upd (x2.1 64) K _ K = _; rw [pk_us]
  have hsk : ∀ s0 : wC, z_skl ((K, x.1 0 59, s0) :: V) = (K, x.1 0 59) :: z_skl V := fun _ => rfl
  have cok1 : ∀ G4 : wG, g_cx G4 = g_cx g → ∀ c, c ∈ g_cx (w_ctx 0 0 (g_nl g) (g_nl g + 1) G4) → w_cok nt N c := by
    intro G4 hG c hc
    rcases List.mem_cons.mp hc with rfl | hc
    · exact ⟨fun q => absurd q (by show ¬ (0 : Nat) = 3; decide), fun q => absurd q (by show ¬ (0 : Nat) = 4; decide)⟩
    · rw [hG] at hc; exact hC c hc
  rw [eX1_loop, ho d (by omega), mj_rI_k]
  refine J2.pre ?_ (zk_zw2 fy) (fun q => by rw [fy.2 0 34 rfl]; exact q)
  have by0 : y.1 0 34 = 0 → x.1 0 34 = 0 := fun q => by rw [fy.2 0 34 rfl] at q; exact q
  rcases hkk with rfl | rfl | rfl
  · -- while
    obtain ⟨ea, ta, sb⟩ := hp67 rfl
    have e : w_loop nt (wV nt 40) (wS nt f) 67 a b g = w_sl false (g_nl g) (w_put (g_nl g) (w_sl false (g_nl g + 1) (w_sl false (g_nl g + 2) (w_shut (w_go (g_nl g + 1) (w_aln (wS nt f) b (wV nt 40 a 3 (g_nl g) (w_put (g_nl g + 1) (w_ctx 0 0 (g_nl g) (g_nl g + 1) (w_lb0 (g_L g, []) (w_lb (g_L g, []) (w_lb (g_L g, []) g))))))))))))  := rfl
    rw [e] at hok ⊢
    clear e
    have hokp := ((wM.rf _).sl false (g_nl g)).1 hok
    refine J2.sl ?_ _
    clear hok
    have hF : ((g_L g, ([] : List Nat)) : wF).2.length < 3370 := by show (0 : Nat) < 3370; decide
    have nx4 : g_nx (w_lb0 (g_L g, []) (w_lb (g_L g, []) (w_lb (g_L g, []) g))) = g_nx g := rfl
    have it4 : g_it (w_lb0 (g_L g, []) (w_lb (g_L g, []) (w_lb (g_L g, []) g))) = g_it g := rfl
    have cx4 : g_cx (w_lb0 (g_L g, []) (w_lb (g_L g, []) (w_lb (g_L g, []) g))) = g_cx g := rfl
    have n4 : g_nl (w_lb0 (g_L g, []) (w_lb (g_L g, []) (w_lb (g_L g, []) g))) = g_nl g + 3 := rfl
    have mlb : wM (w_lb (g_L g, []) g) (w_lb (g_L g, []) (w_lb (g_L g, []) g)) := (wM.rf _).lb _
    have mlb0 : wM (w_lb (g_L g, []) (w_lb (g_L g, []) g)) (w_lb0 (g_L g, []) (w_lb (g_L g, []) (w_lb (g_L g, []) g))) := (wM.rf _).lb0 _
    generalize hG4 : w_lb0 (g_L g, []) (w_lb (g_L g, []) (w_lb (g_L g, []) g)) = G4 at *
    have okc : g_ok (w_ctx 0 0 (g_nl g) (g_nl g + 1) G4) → g_ok G4 := fun q => q
    have n5 : g_nl (w_ctx 0 0 (g_nl g) (g_nl g + 1) G4) = g_nl g + 3 := n4
    have ck := cok1 G4 cx4
    generalize hG5 : w_ctx 0 0 (g_nl g) (g_nl g + 1) G4 = G5 at *
    have m6 : wM G5 (w_put (g_nl g + 1) G5) := (wM.rf _).put _
    generalize hG6 : w_put (g_nl g + 1) G5 = G6 at *
    have m7 := wV_mono nt 40 a 3 (g_nl g) G6
    generalize hG7 : wV nt 40 a 3 (g_nl g) G6 = G7 at *
    have m8 : wM G7 (w_aln (wS nt f) b G7) := (wM.rf G7).aln (wS_mono nt f) _
    generalize hG8 : w_aln (wS nt f) b G7 = G8 at *
    have m9 : wM G8 (w_go (g_nl g + 1) G8) := (wM.rf _).go _
    generalize hG9 : w_go (g_nl g + 1) G8 = G9 at *
    have mA : wM (w_shut G9) (w_put (g_nl g) (w_sl false (g_nl g + 1) (w_sl false (g_nl g + 2) (w_shut G9)))) := (((wM.rf _).sl _ _).sl _ _).put _
    have ok9 : g_ok G9 := mA.1 hokp
    have ok8 := m9.1 ok9
    have ok7 := m8.1 ok8
    have ok6 := m7.1 ok7
    have ok5 := m6.1 ok6
    have ok4 := okc ok5
    have ok2 := mlb0.1 ok4
    have nn6 : g_nl g + 3 ≤ g_nl G6 := by have := m6.2.2.2.2.2.2.1; omega
    have nn7 : g_nl g + 3 ≤ g_nl G7 := Nat.le_trans nn6 m7.2.2.2.2.2.2.1
    have nn8 : g_nl g + 3 ≤ g_nl G8 := Nat.le_trans nn7 m8.2.2.2.2.2.2.1
    have nn9 : g_nl g + 3 ≤ g_nl G9 := Nat.le_trans nn8 m9.2.2.2.2.2.2.1
    refine J2.lb (F := (g_L g, [])) (by omega) (by omega) (by omega) qy (mlb.1 ok2) (Nat.le_refl _) (fun lm1 lv1 x1 q1 w1 a1 f1 mm1 => ?_)
    refine J2.lb (F := (g_L g, [])) (by omega) (by omega) (by omega) q1 ok2 (by omega) (fun lm2 lv2 x2 q2 w2 a2 f2 mm2 => ?_)
    rw [n1] at w2 a2 ⊢
    rw [nI_nd hK4, nI_nd hK4, nI_cl hK4, if_pos rfl, ← (a2 _ (Nat.lt_succ_self _)).1]
    have v0 : lv2 (g_nl g) = true := by rw [(a2 _ (Nat.lt_succ_self _)).2]; exact w1
    have q3 : Q2 nt N M w ba pf rf lf c hp H (K + 1) (200 - f) (some (x.1 0 59)) V lm2 lv2 (mj_wI (mj_wI x2 63 K (nI (lm2 (g_nl g)))) 64 K (nI (lm2 (g_nl g + 1)))) (w_lb (g_L g, []) (w_lb (g_L g, []) g)) :=
      q2.ofzk (k := K) (((zfr.rf _ x2).w _ (zkk K 63 rfl)).w _ (zkk K 64 rfl)) (fun s hs => (h.lt hs).1) q2.2.2.1.2.1 (Nat.le_succ _) q2.2.2.1.2.2.1 q2.2.2.1.2.2.2.2.2.1
    have q4 := q3.lb0 hF
    rw [hG4] at q4
    have back : (mj_wI (mj_wI x2 63 K (nI (lm2 (g_nl g)))) 64 K (nI (lm2 (g_nl g + 1)))).1 0 34 = 0 → x.1 0 34 = 0 := fun q => by0 (Decidable.byContradiction fun p => mm2 (mm1 p) q)
    have q5 := mk lm2 _ _ x2 _ G4 (f1.tr f2) back (zfr.rf _ _) q4 (if_neg (by rw [n2]; omega)) (if_neg (by rw [n2]; omega)) (by show (if g_nl g = _ then false else lv2 (g_nl g)) = true; rw [if_neg (by rw [n2]; omega)]; exact v0) (by show (if g_nl g + 1 = _ then false else lv2 (g_nl g + 1)) = true; rw [if_neg (by rw [n2]; omega)]; exact w2) (by omega) nx4 it4
    rw [hG5] at q5
    refine J2.pre (y := mj_wI (mj_wI x2 63 K (nI (lm2 (g_nl g)))) 64 K (nI (lm2 (g_nl g + 1)))) ?_ (((zfr.rf _ x2).w _ (by unfold zw2; exact Bool.or_true _)).w _ (by unfold zw2; exact Bool.or_true _)) (fun q => q)
    have L4 : ∀ l, l < g_nl g + 2 → (fun l => if l = g_nl (w_lb (g_L g, []) (w_lb (g_L g, []) g)) then 0 else lm2 l) l = lm2 l ∧ (fun l => if l = g_nl (w_lb (g_L g, []) (w_lb (g_L g, []) g)) then false else lv2 l) l = lv2 l := fun l hl => ⟨if_neg (by rw [n2]; omega), if_neg (by rw [n2]; omega)⟩
    generalize hlm4 : (fun l => if l = g_nl (w_lb (g_L g, []) (w_lb (g_L g, []) g)) then 0 else lm2 l) = lm4 at *
    generalize hlv4 : (fun l => if l = g_nl (w_lb (g_L g, []) (w_lb (g_L g, []) g)) then false else lv2 l) = lv4 at *
    have fin : J2 nt N M w ba pf rf lf c hp H K (200 - f) (g_nl g + 2) (z_skl V) (mj_rV (kX1 d 51 [.ref 0, .int (nI (lm2 (g_nl g + 1)))] (mj_wI (mj_wI x2 63 K (nI (lm2 (g_nl g)))) 64 K (nI (lm2 (g_nl g + 1))))) fun x7 => mj_rV (kX1 d 46 [.ref 0, .int a, .int (0 : Int32), .int (nI (lm2 (g_nl g)))] x7) fun x8 => mj_rV (kX1 d 37 [.ref 0, .int b] x8) fun x9 => mj_rV (kX1 d 47 [.ref 0, .int (nI (lm2 (g_nl g + 1)))] x9) fun x10 =>
        rX1_loop d (169, [some (.ref 0), some (.int 67), some (.int a), some (.int b), some (.int (nI K)), some (.int (nI (lm2 (g_nl g)))), some (.int (nI (lm2 (g_nl g + 1)))), none], [], x10)) (mj_wI (mj_wI x2 63 K (nI (lm2 (g_nl g)))) 64 K (nI (lm2 (g_nl g + 1)))) lm4 lv4 (w_put (g_nl g) (w_sl false (g_nl g + 1) (w_sl false (g_nl g + 2) (w_shut G9)))) := by
      have jp := J2.put (d := d) (l := g_nl g + 1) (by omega) (by omega) (by rw [(L4 _ (by omega)).2]; exact w2) q5 (by rw [hG6]; exact ok6)
      rw [hG6, (L4 _ (by omega)).1] at jp
      refine J2.b (by omega) jp (fun V6 lm6 lv6 x6 q6 v6 l6 f6 mm6 => ?_)
      have c6 : ∀ l, l < g_nl g + 2 → lm6 l = lm2 l ∧ lv6 l = lv2 l := fun l hl => ⟨(l6 _ (by omega)).1.trans (L4 l hl).1, (l6 _ (by omega)).2.trans (L4 l hl).2⟩
      have jc := J2.cnd (d := d) (by omega) hc1 hc2 hT ea ta false (l := g_nl g) (by omega) (by rw [(c6 _ (by omega)).2]; exact v0) q6 (by show g_ok (wV nt 40 a 3 (g_nl g) G6); rw [hG7]; exact ok7)
      have jc : J2 nt N M w ba pf rf lf c hp H (K + 1) (200 - f) (g_nl G6) (z_skl V6) (kX1 d 46 [.ref 0, .int a, .int (0 : Int32), .int (nI (lm2 (g_nl g)))] x6) x6 lm6 lv6 G7 := by rw [← hG7, ← (c6 _ (show g_nl g < g_nl g + 2 by omega)).1]; exact jc
      refine J2.b (by omega) jc (fun V7 lm7 lv7 x7 q7 v7 l7 f7 mm7 => ?_)
      have c7 : ∀ l, l < g_nl g + 2 → lm7 l = lm2 l ∧ lv7 l = lv2 l := fun l hl => ⟨(l7 _ (by omega)).1.trans (c6 l hl).1, (l7 _ (by omega)).2.trans (c6 l hl).2⟩
      have jb := J2.block (R _ sb) (d := d) (by omega) (by omega) q7 (w_cok.wK (m6.tr m7).2.2.2.2.2.1 ck) (by rw [hG8]; exact ok8)
      rw [hG8] at jb
      refine J2.b (by omega) jb (fun V8 lm8 lv8 x8 q8 v8 l8 f8 mm8 => ?_)
      have c8 : ∀ l, l < g_nl g + 2 → lm8 l = lm2 l ∧ lv8 l = lv2 l := fun l hl => ⟨(l8 _ (by omega)).1.trans (c7 l hl).1, (l8 _ (by omega)).2.trans (c7 l hl).2⟩
      have jg := J2.go (d := d) (l := g_nl g + 1) (by omega) (by omega) (by rw [(c8 _ (by omega)).2]; exact w2) q8 (by rw [hG9]; exact ok9)
      rw [hG9, (c8 _ (by omega)).1] at jg
      refine J2.b (by omega) jg (fun V9 lm9 lv9 x9 q9 v9 l9 f9 mm9 => ?_)
      have c9 : ∀ l, l < g_nl g + 2 → lm9 l = lm2 l ∧ lv9 l = lv2 l := fun l hl => ⟨(l9 _ (by omega)).1.trans (c8 l hl).1, (l9 _ (by omega)).2.trans (c8 l hl).2⟩
      exact J2.ltail (hr := x.1 0 59) (G4 := G4) (by omega) hK4 q9 (by rw [v9, v8, v7, v6]; rfl) (by rw [hG5]; exact (((m6.tr m7).tr m8).tr m9)) (by omega) (by rw [(c9 _ (by omega)).2]; exact v0) (by rw [(c9 _ (by omega)).1]) (by omega) hokp
    obtain ⟨Vf, lmf, lvf, xf, ef, qf, vf, lf_, ff, mf⟩ := fin
    exact ⟨Vf, lmf, lvf, xf, ef, qf, vf, fun l hl => ⟨(lf_ l (by omega)).1.trans (L4 l (by omega)).1, (lf_ l (by omega)).2.trans (L4 l (by omega)).2⟩, ff, mf⟩
  · -- until
    obtain ⟨sa, eb, tb⟩ := hp68 rfl
    have e : w_loop nt (wV nt 40) (wS nt f) 68 a b g = w_sl false (g_nl g) (w_put (g_nl g) (w_sl false (g_nl g + 1) (w_sl false (g_nl g + 2) (w_shut (wV nt 40 b 2 (g_nl g + 2) (w_put (g_nl g + 1) (w_aln (wS nt f) a (w_put (g_nl g + 2) (w_ctx 0 0 (g_nl g) (g_nl g + 1) (w_lb (g_L g, []) (w_lb (g_L g, []) (w_lb (g_L g, []) g)))))))))))) := rfl
    rw [e] at hok ⊢
    clear e
    have hokp := ((wM.rf _).sl false (g_nl g)).1 hok
    refine J2.sl ?_ _
    clear hok
    have nx4 : g_nx (w_lb (g_L g, []) (w_lb (g_L g, []) (w_lb (g_L g, []) g))) = g_nx g := rfl
    have it4 : g_it (w_lb (g_L g, []) (w_lb (g_L g, []) (w_lb (g_L g, []) g))) = g_it g := rfl
    have cx4 : g_cx (w_lb (g_L g, []) (w_lb (g_L g, []) (w_lb (g_L g, []) g))) = g_cx g := rfl
    have n4 : g_nl (w_lb (g_L g, []) (w_lb (g_L g, []) (w_lb (g_L g, []) g))) = g_nl g + 3 := rfl
    have mlb : wM (w_lb (g_L g, []) g) (w_lb (g_L g, []) (w_lb (g_L g, []) g)) := (wM.rf _).lb _
    have mlb0 : wM (w_lb (g_L g, []) (w_lb (g_L g, []) g)) (w_lb (g_L g, []) (w_lb (g_L g, []) (w_lb (g_L g, []) g))) := (wM.rf _).lb _
    generalize hG4 : w_lb (g_L g, []) (w_lb (g_L g, []) (w_lb (g_L g, []) g)) = G4 at *
    have okc : g_ok (w_ctx 0 0 (g_nl g) (g_nl g + 1) G4) → g_ok G4 := fun q => q
    have n5 : g_nl (w_ctx 0 0 (g_nl g) (g_nl g + 1) G4) = g_nl g + 3 := n4
    have ck := cok1 G4 cx4
    generalize hG5 : w_ctx 0 0 (g_nl g) (g_nl g + 1) G4 = G5 at *
    have m6 : wM G5 (w_put (g_nl g + 2) G5) := (wM.rf _).put _
    generalize hG6 : w_put (g_nl g + 2) G5 = G6 at *
    have m7 : wM G6 (w_aln (wS nt f) a G6) := (wM.rf G6).aln (wS_mono nt f) _
    generalize hG7 : w_aln (wS nt f) a G6 = G7 at *
    have m8 : wM G7 (w_put (g_nl g + 1) G7) := (wM.rf _).put _
    generalize hG8 : w_put (g_nl g + 1) G7 = G8 at *
    have m9 := wV_mono nt 40 b 2 (g_nl g + 2) G8
    generalize hG9 : wV nt 40 b 2 (g_nl g + 2) G8 = G9 at *
    have mA : wM (w_shut G9) (w_put (g_nl g) (w_sl false (g_nl g + 1) (w_sl false (g_nl g + 2) (w_shut G9)))) := (((wM.rf _).sl _ _).sl _ _).put _
    have ok9 : g_ok G9 := mA.1 hokp
    have ok8 := m9.1 ok9
    have ok7 := m8.1 ok8
    have ok6 := m7.1 ok7
    have ok5 := m6.1 ok6
    have ok4 := okc ok5
    have ok2 := mlb0.1 ok4
    have nn6 : g_nl g + 3 ≤ g_nl G6 := by have := m6.2.2.2.2.2.2.1; omega
    have nn7 : g_nl g + 3 ≤ g_nl G7 := Nat.le_trans nn6 m7.2.2.2.2.2.2.1
    have nn8 : g_nl g + 3 ≤ g_nl G8 := Nat.le_trans nn7 m8.2.2.2.2.2.2.1
    have nn9 : g_nl g + 3 ≤ g_nl G9 := Nat.le_trans nn8 m9.2.2.2.2.2.2.1
    refine J2.lb (F := (g_L g, [])) (by omega) (by omega) (by omega) qy (mlb.1 ok2) (Nat.le_refl _) (fun lm1 lv1 x1 q1 w1 a1 f1 mm1 => ?_)
    refine J2.lb (F := (g_L g, [])) (by omega) (by omega) (by omega) q1 ok2 (by omega) (fun lm2 lv2 x2 q2 w2 a2 f2 mm2 => ?_)
    rw [n1] at w2 a2 ⊢
    rw [nI_nd hK4, nI_nd hK4, nI_cl hK4, if_neg (by decide), if_pos rfl, ← (a2 _ (Nat.lt_succ_self _)).1]
    have v0 : lv2 (g_nl g) = true := by rw [(a2 _ (Nat.lt_succ_self _)).2]; exact w1
    have q3 : Q2 nt N M w ba pf rf lf c hp H (K + 1) (200 - f) (some (x.1 0 59)) V lm2 lv2 (mj_wI (mj_wI x2 63 K (nI (lm2 (g_nl g)))) 64 K (nI (lm2 (g_nl g + 1)))) (w_lb (g_L g, []) (w_lb (g_L g, []) g)) :=
      q2.ofzk (k := K) (((zfr.rf _ x2).w _ (zkk K 63 rfl)).w _ (zkk K 64 rfl)) (fun s hs => (h.lt hs).1) q2.2.2.1.2.1 (Nat.le_succ _) q2.2.2.1.2.2.1 q2.2.2.1.2.2.2.2.2.1
    refine J2.pre (y := mj_wI (mj_wI x2 63 K (nI (lm2 (g_nl g)))) 64 K (nI (lm2 (g_nl g + 1)))) ?_ (((zfr.rf _ x2).w _ (by unfold zw2; exact Bool.or_true _)).w _ (by unfold zw2; exact Bool.or_true _)) (fun q => q)
    refine J2.lb (F := (g_L g, [])) (by omega) (by omega) (by omega) q3 (by rw [hG4]; exact ok4) (by rw [n2]; omega) (fun lm4 lv4 x4 q4 w4 L4 f4 mm4 => ?_)
    rw [n2] at w4 L4 ⊢
    rw [hG4] at q4
    have back : x4.1 0 34 = 0 → x.1 0 34 = 0 := fun q => by0 (Decidable.byContradiction fun p => mm4 (mm2 (mm1 p)) q)
    have q5 := mk lm2 lm4 lv4 x2 x4 G4 (f1.tr f2) back f4 q4 (L4 _ (by omega)).1 (L4 _ (by omega)).1 (by rw [(L4 _ (by omega)).2]; exact v0) (by rw [(L4 _ (by omega)).2]; exact w2) (by omega) nx4 it4
    rw [hG5] at q5
    have jp := J2.put (d := d) (l := g_nl g + 2) (by omega) (by omega) w4 q5 (by rw [hG6]; exact ok6)
    rw [hG6] at jp
    refine J2.b (by omega) jp (fun V6 lm6 lv6 x6 q6 v6 l6 f6 mm6 => ?_)
    have c6 : ∀ l, l < g_nl g + 3 → lm6 l = lm4 l ∧ lv6 l = lv4 l := fun l hl => l6 _ (by omega)
    have jb := J2.block (R _ sa) (d := d) (by omega) (by omega) q6 (w_cok.wK m6.2.2.2.2.2.1 ck) (by rw [hG7]; exact ok7)
    rw [hG7] at jb
    refine J2.b (by omega) jb (fun V7 lm7 lv7 x7 q7 v7 l7 f7 mm7 => ?_)
    have c7 : ∀ l, l < g_nl g + 3 → lm7 l = lm4 l ∧ lv7 l = lv4 l := fun l hl => ⟨(l7 _ (by omega)).1.trans (c6 l hl).1, (l7 _ (by omega)).2.trans (c6 l hl).2⟩
    have jp2 := J2.put (d := d) (l := g_nl g + 1) (by omega) (by omega) (by rw [(c7 _ (by omega)).2, (L4 _ (by omega)).2]; exact w2) q7 (by rw [hG8]; exact ok8)
    rw [hG8, (c7 _ (by omega)).1, (L4 _ (by omega)).1] at jp2
    refine J2.b (by omega) jp2 (fun V8 lm8 lv8 x8 q8 v8 l8 f8 mm8 => ?_)
    have c8 : ∀ l, l < g_nl g + 3 → lm8 l = lm4 l ∧ lv8 l = lv4 l := fun l hl => ⟨(l8 _ (by omega)).1.trans (c7 l hl).1, (l8 _ (by omega)).2.trans (c7 l hl).2⟩
    have jc := J2.cnd (d := d) (by omega) hc1 hc2 hT eb tb true (l := g_nl g + 2) (by omega) (by rw [(c8 _ (by omega)).2]; exact w4) q8 (by show g_ok (wV nt 40 b 2 (g_nl g + 2) G8); rw [hG9]; exact ok9)
    have jc : J2 nt N M w ba pf rf lf c hp H (K + 1) (200 - f) (g_nl G8) (z_skl V8) (kX1 d 46 [.ref 0, .int b, .int (1 : Int32), .int (nI (lm4 (g_nl g + 2)))] x8) x8 lm8 lv8 G9 := by rw [← hG9, ← (c8 _ (show g_nl g + 2 < g_nl g + 3 by omega)).1]; exact jc
    refine J2.b (by omega) jc (fun V9 lm9 lv9 x9 q9 v9 l9 f9 mm9 => ?_)
    have c9 : ∀ l, l < g_nl g + 3 → lm9 l = lm4 l ∧ lv9 l = lv4 l := fun l hl => ⟨(l9 _ (by omega)).1.trans (c8 l hl).1, (l9 _ (by omega)).2.trans (c8 l hl).2⟩
    exact J2.ltail (hr := x.1 0 59) (G4 := G4) (by omega) hK4 q9 (by rw [v9, v8, v7, v6]; rfl) (by rw [hG5]; exact (((m6.tr m7).tr m8).tr m9)) (by omega) (by rw [(c9 _ (by omega)).2, (L4 _ (by omega)).2]; exact v0) (by rw [(c9 _ (by omega)).1, (L4 _ (by omega)).1]) (by omega) hokp
  · -- for
    obtain ⟨na, ea, ta, sn, sb⟩ := hp69 rfl
    have e : w_loop nt (wV nt 40) (wS nt f) 69 a b g = w_sl false (g_nl g) (w_put (g_nl g) (w_sl false (g_nl g + 1) (w_sl false (g_nl g + 2) (w_shut (w_go (g_nl g + 2) (match g_cx (w_put (g_nl g + 1) (w_aln (wS nt f) b (wV nt 40 (nA nt a) 3 (g_nl g) (w_put (g_nl g + 2) (w_ctx 0 0 (g_nl g) (g_nl g + 1) (w_lb (g_L g, []) (w_lb (g_L g, []) (w_lb (g_L g, []) g)))))))) with
        | c :: _ => s_cx (c :: g_cx (w_aln (wS nt f) (nB nt a) (w_shut (w_put (g_nl g + 1) (w_aln (wS nt f) b (wV nt 40 (nA nt a) 3 (g_nl g) (w_put (g_nl g + 2) (w_ctx 0 0 (g_nl g) (g_nl g + 1) (w_lb (g_L g, []) (w_lb (g_L g, []) (w_lb (g_L g, []) g))))))))))) (w_aln (wS nt f) (nB nt a) (w_shut (w_put (g_nl g + 1) (w_aln (wS nt f) b (wV nt 40 (nA nt a) 3 (g_nl g) (w_put (g_nl g + 2) (w_ctx 0 0 (g_nl g) (g_nl g + 1) (w_lb (g_L g, []) (w_lb (g_L g, []) (w_lb (g_L g, []) g))))))))))
        | [] => (w_aln (wS nt f) (nB nt a) (w_shut (w_put (g_nl g + 1) (w_aln (wS nt f) b (wV nt 40 (nA nt a) 3 (g_nl g) (w_put (g_nl g + 2) (w_ctx 0 0 (g_nl g) (g_nl g + 1) (w_lb (g_L g, []) (w_lb (g_L g, []) (w_lb (g_L g, []) g)))))))))))))))) := rfl
    rw [e] at hok ⊢
    clear e
    have hokp := ((wM.rf _).sl false (g_nl g)).1 hok
    refine J2.sl ?_ _
    clear hok
    have nx4 : g_nx (w_lb (g_L g, []) (w_lb (g_L g, []) (w_lb (g_L g, []) g))) = g_nx g := rfl
    have it4 : g_it (w_lb (g_L g, []) (w_lb (g_L g, []) (w_lb (g_L g, []) g))) = g_it g := rfl
    have cx4 : g_cx (w_lb (g_L g, []) (w_lb (g_L g, []) (w_lb (g_L g, []) g))) = g_cx g := rfl
    have n4 : g_nl (w_lb (g_L g, []) (w_lb (g_L g, []) (w_lb (g_L g, []) g))) = g_nl g + 3 := rfl
    have mlb : wM (w_lb (g_L g, []) g) (w_lb (g_L g, []) (w_lb (g_L g, []) g)) := (wM.rf _).lb _
    have mlb0 : wM (w_lb (g_L g, []) (w_lb (g_L g, []) g)) (w_lb (g_L g, []) (w_lb (g_L g, []) (w_lb (g_L g, []) g))) := (wM.rf _).lb _
    generalize hG4 : w_lb (g_L g, []) (w_lb (g_L g, []) (w_lb (g_L g, []) g)) = G4 at *
    have okc : g_ok (w_ctx 0 0 (g_nl g) (g_nl g + 1) G4) → g_ok G4 := fun q => q
    have n5 : g_nl (w_ctx 0 0 (g_nl g) (g_nl g + 1) G4) = g_nl g + 3 := n4
    have ck := cok1 G4 cx4
    generalize hG5 : w_ctx 0 0 (g_nl g) (g_nl g + 1) G4 = G5 at *
    have m6 : wM G5 (w_put (g_nl g + 2) G5) := (wM.rf _).put _
    generalize hG6 : w_put (g_nl g + 2) G5 = G6 at *
    have m7 := wV_mono nt 40 (nA nt a) 3 (g_nl g) G6
    generalize hG7 : wV nt 40 (nA nt a) 3 (g_nl g) G6 = G7 at *
    have m8 : wM G7 (w_aln (wS nt f) b G7) := (wM.rf G7).aln (wS_mono nt f) _
    generalize hG8 : w_aln (wS nt f) b G7 = G8 at *
    have m9 : wM G8 (w_put (g_nl g + 1) G8) := (wM.rf _).put _
    generalize hG9 : w_put (g_nl g + 1) G8 = G9 at *
    have mc : wM (w_ctx 0 0 (g_nl g) (g_nl g + 1) G4) G9 := by rw [hG5]; exact ((m6.tr m7).tr m8).tr m9
    obtain ⟨-, dd, r, hcx, hwk, hwr⟩ := wM.in_ (g := G4) (c := (0, 0, g_nl g, g_nl g + 1, g_nx G4, (g_it G4).length, [])) mc
    have hsh : g_cx (w_shut G9) = r := by show (g_cx G9).tail = r; rw [hcx]; rfl
    have mS9 : wM (w_shut G9) (w_aln (wS nt f) (nB nt a) (w_shut G9)) := (wM.rf _).aln (wS_mono nt f) _
    have okS : g_ok (w_shut G9) = g_ok G9 := rfl
    have nlS : g_nl (w_shut G9) = g_nl G9 := rfl
    simp only [hcx] at hokp ⊢
    generalize hGA : w_aln (wS nt f) (nB nt a) (w_shut G9) = GA at *
    have mB : wM GA (w_go (g_nl g + 2) GA) := (wM.rf _).go _
    have eB : w_shut (w_go (g_nl g + 2) (s_cx (dd :: g_cx GA) GA)) = w_go (g_nl g + 2) GA := by
      rw [w_go_cx]
      have : g_cx (w_go (g_nl g + 2) GA) = g_cx GA := (wX_go (n := 0) (l := g_nl g + 2) (tg := []) (g := GA) (Or.inl (Nat.zero_le _))).1.2.2.2.2.2.1
      show s_cx (g_cx GA) (s_cx (dd :: g_cx GA) (w_go (g_nl g + 2) GA)) = _
      rw [← this]; rfl
    rw [eB] at hokp ⊢
    generalize hGB : w_go (g_nl g + 2) GA = GB at *
    have mA : wM GB (w_put (g_nl g) (w_sl false (g_nl g + 1) (w_sl false (g_nl g + 2) GB))) := (((wM.rf _).sl _ _).sl _ _).put _
    have okB : g_ok GB := mA.1 hokp
    have okA := mB.1 okB
    have ok9 : g_ok G9 := mS9.1 okA
    have ok8 := m9.1 ok9
    have ok7 := m8.1 ok8
    have ok6 := m7.1 ok7
    have ok5 := m6.1 ok6
    have ok4 := okc ok5
    have ok2 := mlb0.1 ok4
    have nn6 : g_nl g + 3 ≤ g_nl G6 := by have := m6.2.2.2.2.2.2.1; omega
    have nn7 : g_nl g + 3 ≤ g_nl G7 := Nat.le_trans nn6 m7.2.2.2.2.2.2.1
    have nn8 : g_nl g + 3 ≤ g_nl G8 := Nat.le_trans nn7 m8.2.2.2.2.2.2.1
    have nn9 : g_nl g + 3 ≤ g_nl G9 := Nat.le_trans nn8 m9.2.2.2.2.2.2.1
    have nnA : g_nl g + 3 ≤ g_nl GA := Nat.le_trans nn9 mS9.2.2.2.2.2.2.1
    have nnB : g_nl g + 3 ≤ g_nl GB := Nat.le_trans nnA mB.2.2.2.2.2.2.1
    refine J2.lb (F := (g_L g, [])) (by omega) (by omega) (by omega) qy (mlb.1 ok2) (Nat.le_refl _) (fun lm1 lv1 x1 q1 w1 a1 f1 mm1 => ?_)
    refine J2.lb (F := (g_L g, [])) (by omega) (by omega) (by omega) q1 ok2 (by omega) (fun lm2 lv2 x2 q2 w2 a2 f2 mm2 => ?_)
    rw [n1] at w2 a2 ⊢
    rw [nI_nd hK4, nI_nd hK4, nI_cl hK4, if_neg (by decide), if_neg (by decide), ← (a2 _ (Nat.lt_succ_self _)).1]
    have v0 : lv2 (g_nl g) = true := by rw [(a2 _ (Nat.lt_succ_self _)).2]; exact w1
    have q3 : Q2 nt N M w ba pf rf lf c hp H (K + 1) (200 - f) (some (x.1 0 59)) V lm2 lv2 (mj_wI (mj_wI x2 63 K (nI (lm2 (g_nl g)))) 64 K (nI (lm2 (g_nl g + 1)))) (w_lb (g_L g, []) (w_lb (g_L g, []) g)) :=
      q2.ofzk (k := K) (((zfr.rf _ x2).w _ (zkk K 63 rfl)).w _ (zkk K 64 rfl)) (fun s hs => (h.lt hs).1) q2.2.2.1.2.1 (Nat.le_succ _) q2.2.2.1.2.2.1 q2.2.2.1.2.2.2.2.2.1
    refine J2.pre (y := mj_wI (mj_wI x2 63 K (nI (lm2 (g_nl g)))) 64 K (nI (lm2 (g_nl g + 1)))) ?_ (((zfr.rf _ x2).w _ (by unfold zw2; exact Bool.or_true _)).w _ (by unfold zw2; exact Bool.or_true _)) (fun q => q)
    refine J2.lb (F := (g_L g, [])) (by omega) (by omega) (by omega) q3 (by rw [hG4]; exact ok4) (by rw [n2]; omega) (fun lm4 lv4 x4 q4 w4 L4 f4 mm4 => ?_)
    rw [n2] at w4 L4 ⊢
    rw [hG4] at q4
    have back : x4.1 0 34 = 0 → x.1 0 34 = 0 := fun q => by0 (Decidable.byContradiction fun p => mm4 (mm2 (mm1 p)) q)
    have q5 := mk lm2 lm4 lv4 x2 x4 G4 (f1.tr f2) back f4 q4 (L4 _ (by omega)).1 (L4 _ (by omega)).1 (by rw [(L4 _ (by omega)).2]; exact v0) (by rw [(L4 _ (by omega)).2]; exact w2) (by omega) nx4 it4
    rw [hG5] at q5
    have jp := J2.put (d := d) (l := g_nl g + 2) (by omega) (by omega) w4 q5 (by rw [hG6]; exact ok6)
    rw [hG6] at jp
    refine J2.b (by omega) jp (fun V6 lm6 lv6 x6 q6 v6 l6 f6 mm6 => ?_)
    have c6 : ∀ l, l < g_nl g + 3 → lm6 l = lm4 l ∧ lv6 l = lv4 l := fun l hl => l6 _ (by omega)
    rw [q6.nd na, q6.T.2.1]
    have jc := J2.cnd (d := d) (by omega) hc1 hc2 hT ea ta false (l := g_nl g) (by omega) (by rw [(c6 _ (by omega)).2, (L4 _ (by omega)).2]; exact v0) q6 (by show g_ok (wV nt 40 (nA nt a) 3 (g_nl g) G6); rw [hG7]; exact ok7)
    have jc : J2 nt N M w ba pf rf lf c hp H (K + 1) (200 - f) (g_nl G6) (z_skl V6) (kX1 d 46 [.ref 0, .int (nA nt a), .int (0 : Int32), .int (nI (lm2 (g_nl g)))] x6) x6 lm6 lv6 G7 := by rw [← hG7, ← (L4 _ (show g_nl g < g_nl g + 2 by omega)).1, ← (c6 _ (show g_nl g < g_nl g + 3 by omega)).1]; exact jc
    refine J2.b (by omega) jc (fun V7 lm7 lv7 x7 q7 v7 l7 f7 mm7 => ?_)
    have c7 : ∀ l, l < g_nl g + 3 → lm7 l = lm4 l ∧ lv7 l = lv4 l := fun l hl => ⟨(l7 _ (by omega)).1.trans (c6 l hl).1, (l7 _ (by omega)).2.trans (c6 l hl).2⟩
    have jb := J2.block (R _ sb) (d := d) (by omega) (by omega) q7 (w_cok.wK (m6.tr m7).2.2.2.2.2.1 ck) (by rw [hG8]; exact ok8)
    rw [hG8] at jb
    refine J2.b (by omega) jb (fun V8 lm8 lv8 x8 q8 v8 l8 f8 mm8 => ?_)
    have c8 : ∀ l, l < g_nl g + 3 → lm8 l = lm4 l ∧ lv8 l = lv4 l := fun l hl => ⟨(l8 _ (by omega)).1.trans (c7 l hl).1, (l8 _ (by omega)).2.trans (c7 l hl).2⟩
    have jp2 := J2.put (d := d) (l := g_nl g + 1) (by omega) (by omega) (by rw [(c8 _ (by omega)).2, (L4 _ (by omega)).2]; exact w2) q8 (by rw [hG9]; exact ok9)
    rw [hG9, (c8 _ (by omega)).1, (L4 _ (by omega)).1] at jp2
    refine J2.b (by omega) jp2 (fun V9 lm9 lv9 x9 q9 v9 l9 f9 mm9 => ?_)
    have c9 : ∀ l, l < g_nl g + 3 → lm9 l = lm4 l ∧ lv9 l = lv4 l := fun l hl => ⟨(l9 _ (by omega)).1.trans (c8 l hl).1, (l9 _ (by omega)).2.trans (c8 l hl).2⟩
    have vs : z_skl V9 = (K, x.1 0 59) :: z_skl V := by rw [v9, v8, v7, v6]; rfl
    -- the loop's context is put aside
    cases V9 with
    | nil => simp [z_skl] at vs
    | cons s V9 =>
      have e1 : (s.1, s.2.1) = (K, x.1 0 59) := by injection vs
      have e2 : z_skl V9 = z_skl V := by injection vs
      have e3 : s.1 = K := congrArg Prod.fst e1
      have e4 : s.2.1 = x.1 0 59 := congrArg Prod.snd e1
      have hcc := q9.2.2.1.1
      rw [hcx] at hcc
      have hd0 : s.2.2 = dd := by injection hcc
      have hps : c_ps s.2.2 = [] := by rw [hd0]; exact hwk.2.1 (by show 0 < 2; decide)
      have h62 : x9.1 62 K = s.2.1 := by have := (q9.sk (s := s) (by simp)).2.1; rw [e3] at this; exact this
      have hch := q9.2.2.1.2.2.2.2.2.1
      have qh := q9.hide
      rw [hps] at qh
      have qh : Q2 nt N M w ba pf rf lf c hp (s :: H) (K + 1) (200 - f) (some s.2.1) V9 lm9 lv9 x9 (w_shut G9) := qh
      have qA := qh.o2
      rw [e_close (by omega) hK4, mj_rV_k, h62]
      refine J2.pre (y := mj_wI x9 0 59 s.2.1) ?_ ((zfr.rf _ x9).w _ rfl) (fun q => q)
      rw [qA.nd na, qA.T.2.2.1]
      have ckS : ∀ c, c ∈ g_cx (w_shut G9) → w_cok nt N c := by
        rw [hsh]
        exact w_cok.wK hwr (by rw [cx4]; exact hC)
      have jb2 := J2.block (R _ sn) (d := d) (by omega) (by omega) qA ckS (by rw [hGA]; exact okA)
      rw [hGA] at jb2
      refine J2.b (by omega) jb2 (fun VA lmA lvA xA qA2 vA lA fA mmA => ?_)
      have cA : ∀ l, l < g_nl g + 3 → lmA l = lm4 l ∧ lvA l = lv4 l := fun l hl => ⟨(lA _ (by omega)).1.trans (c9 l hl).1, (lA _ (by omega)).2.trans (c9 l hl).2⟩
      have jg := J2.go (d := d) (l := g_nl g + 2) (by omega) (by omega) (by rw [(cA _ (by omega)).2]; exact w4) qA2 (by rw [hGB]; exact okB)
      rw [hGB, (cA _ (by omega)).1] at jg
      refine J2.b (by omega) jg (fun VB lmB lvB xB qB vB lB fB mmB => ?_)
      have cB : ∀ l, l < g_nl g + 3 → lmB l = lm4 l ∧ lvB l = lv4 l := fun l hl => ⟨(lB _ (by omega)).1.trans (cA l hl).1, (lB _ (by omega)).2.trans (cA l hl).2⟩
      have hB62 : xB.1 62 K = s.2.1 := by have := (qB.sk (s := s) (by simp)).2.1; rw [e3] at this; exact this
      have skB : z_skl VB = z_skl V9 := by rw [vB, vA]
      have pw := qB.2.2.1.2.2.2.2.2.2.1
      have qF : Q2 nt N M w ba pf rf lf c hp H K (200 - f) none VB lmB lvB (mj_wI (mj_wI xB 0 59 (xB.1 62 K)) 0 58 (nI K)) GB := by
        rw [hB62]
        refine Q2.ofzk (k := K) qB.drop (((zfr.rf _ xB).w _ rfl).w _ rfl) (fun t ht => ?_) rfl (Nat.le_refl _) (by omega) ?_
        · have h1 := (qB.drop.lt ht).1
          have := (List.pairwise_cons.mp pw).1 t ht
          omega
        · show z_ch s.2.1 K VB
          rw [← e3]; exact hch.2.2.skl skB
      rw [← e2, ← skB]
      exact J2.l169 (by omega) qF hK4 (by omega) (by rw [(cB _ (by omega)).2, (L4 _ (by omega)).2]; exact v0) (by rw [(cB _ (by omega)).1, (L4 _ (by omega)).1]) (by omega) hokp
end
