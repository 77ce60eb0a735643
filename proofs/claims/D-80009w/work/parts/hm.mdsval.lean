/-! statements of CodeWriterModel: values and codes within statements -/
section
variable {nt : sp_NT} {N M : Nat} {w : Bool} {ba pf rf lf c hp : Nat} {H V : List wSl} {K u : Nat} {o : Option Int32} {lm lm' : Nat → Nat} {lv lv' : Nat → Bool} {x y : mj_X} {g G : wG} {res par : Nat → Int32}
theorem w_q_mu (g : wG) : w_q (s_mu g) = true := by unfold w_q; show (!g_al g || true) = true; simp
theorem m_codeM {d : Nat} (hd : 1 ≤ d) (h : ¬ x.1 0 34 = 0) (a b e : Int32) : kX1 d 42 [.ref 0, .int a, .int b, .int e] x = some (none, x) := by
  obtain ⟨d, rfl⟩ : ∃ c, d = c + 1 := ⟨d - 1, by omega⟩
  rw [eX1_code]
  by_cases q : x.1 0 35 = 0
  · rw [if_pos q]
  · rw [if_neg q, if_neg h]
theorem m_opM {d : Nat} (hd : 1 ≤ d) (h : ¬ x.1 0 34 = 0) (a b : Int32) : kX1 d 49 [.ref 0, .int a, .int b] x = some (none, x) := by
  obtain ⟨d, rfl⟩ : ∃ c, d = c + 1 := ⟨d - 1, by omega⟩
  rw [eX1_operand]
  by_cases q : x.1 0 35 = 0
  · rw [if_pos q]
  · rw [if_neg q, if_neg h]
theorem m_locM {d : Nat} (hd : 3 ≤ d) (hba : ba ≤ 90000) (h : m1 ba lf c x) (p far near t a b : Int32) : ∃ x', kX1 d 58 [.ref 0, .int p, .int far, .int near, .int t, .int a, .int b] x = some (none, x') ∧ zfr (zw ba pf lf) x x' ∧ m1 ba lf c x' := by
  obtain ⟨d, rfl⟩ : ∃ c, d = c + 1 := ⟨d - 1, by omega⟩
  have h0 : ¬ x.1 0 34 = 0 := by rw [h.1]; decide
  obtain ⟨lt, hl⟩ : ∃ v, ∀ y, kX1 d 59 [.int t] y = some (some (.int v), y) := by
    obtain ⟨d', rfl⟩ : ∃ d', d = d' + 1 := ⟨d - 1, by omega⟩
    by_cases q : t < 5
    · exact ⟨t - 1, fun y => by rw [eX1_letterOf, if_pos q]⟩
    · exact ⟨4, fun y => by rw [eX1_letterOf, if_neg q]⟩
  rw [eX1_local]
  by_cases q1 : (3 : Int32) < p
  · rw [if_pos q1]
    by_cases q2 : (256 : Int32) ≤ p
    · rw [if_pos q2, m_codeM (by omega) h0, mj_rV_k]
      have tail : ∀ y, zfr (zw ba pf lf) x y → m1 ba lf c y → ∃ x', rX1_local d (85, [some (.ref 0), some (.int p), some (.int far), some (.int near), some (.int t), some (.int a), some (.int b)], [], y) = some (none, x') ∧ zfr (zw ba pf lf) x x' ∧ m1 ba lf c x' := by
        intro y f hy
        have hy0 : ¬ y.1 0 34 = 0 := by rw [hy.1]; decide
        have t2 : ∀ s1 s2 : Int32, ∃ x', rX1_local d (106, [some (.ref 0), some (.int p), some (.int far), some (.int near), some (.int t), some (.int a), some (.int b)], [.int s2, .int s1, .ref 0], y) = some (none, x') ∧ zfr (zw ba pf lf) x x' ∧ m1 ba lf c x' := by
          intro s1 s2
          rw [bX1_local_106, sX1_max (by omega), mj_rI_k, m_opM (x := mj_wI (mj_wI y 0 36 (s1 + s2)) 0 37 (mj_max (y.1 0 37) (s1 + s2))) (by omega) hy0, mj_rV_k]
          exact ⟨_, rfl, (f.w _ rfl).w _ rfl, hy⟩
        rw [bX1_local_85]
        by_cases q : y.1 0 35 = 0
        · rw [if_pos q]; exact t2 _ _
        · rw [if_neg q]; exact t2 _ _
      by_cases q : x.1 0 35 = 0
      · rw [if_pos q]; exact tail x (zfr.rf _ x) h
      · rw [if_neg q, hl, mj_rI_k]
        obtain ⟨x1, e1, f1, r1⟩ := m_octM (pf := pf) (d := d) (by omega) (far + lt) hba h
        rw [e1, mj_rV_k]; exact tail x1 f1 r1
    · rw [if_neg q2, hl, mj_rI_k, m_codeM (by omega) h0, mj_rV_k, m_opM (by omega) h0, mj_rV_k]
      exact ⟨x, rfl, zfr.rf _ x, h⟩
  · rw [if_neg q1, hl, mj_rI_k, m_codeM (by omega) h0, mj_rV_k]
    exact ⟨x, rfl, zfr.rf _ x, h⟩
theorem J2.val {d : Nat} (hd : 210 ≤ d) (hc1 : 83 ≤ c) (hc2 : c ≤ 3990) (hT : wTb nt N M res par) {n : Int32} (hE : wE nt N 40 n) (h : Q2 nt N M w ba pf rf lf c hp H K u none V lm lv x g) (hok : g_ok (wV nt 40 n 0 0 g)) :
    J2 nt N M w ba pf rf lf c hp H K u (g_nl g) (z_skl V) (kX1 d 40 [.ref 0, .int n] x) x lm lv (wV nt 40 n 0 0 g) := by
  have hm := fun k => wV_mono nt 40 n 0 0 k
  have hq : wV nt 40 n 0 0 (s_mu g) = s_mu g := ((wV_sh hT 40 n hE).1 (s_mu g) (w_q_mu g)).1
  refine J2.of hm (by rw [hq]; exact (hm g).1 hok) h (fun k _ q ho => (mV_all hT 40 n hE d c lm lv x k (by omega) (by omega) hc2 q).1 ho) hok ?_
  cases hq : w_q g
  · have := ((wV_sh hT 40 n hE).2 g 0 hq (Nat.zero_le _)).1.1.1
    exact this.2
  · rw [((wV_sh hT 40 n hE).1 g hq).1]; exact ⟨rfl, rfl, rfl, rfl, rfl, rfl⟩
theorem J2.cnd {d : Nat} (hd : 210 ≤ d) (hc1 : 83 ≤ c) (hc2 : c ≤ 3990) (hT : wTb nt N M res par) {n : Int32} (hE : wE nt N 40 n) (ht : nT nt n = 1) (so : Bool) {l : Nat} (hl : l < g_nl g) (hv : lv l = true) (h : Q2 nt N M w ba pf rf lf c hp H K u none V lm lv x g) (hok : g_ok (wV nt 40 n (bif so then 2 else 3) l g)) :
    J2 nt N M w ba pf rf lf c hp H K u (g_nl g) (z_skl V) (kX1 d 46 [.ref 0, .int n, .int (sp_b so), .int (nI (lm l))] x) x lm lv (wV nt 40 n (bif so then 2 else 3) l g) := by
  have hm := fun k => wV_mono nt 40 n (bif so then 2 else 3) l k
  have hq : ∀ k, w_q k = true → wV nt 40 n (bif so then 2 else 3) l k = k := fun k hk => by
    cases so
    · exact (((wV_sh hT 40 n hE).1 k hk).2 l).2
    · exact (((wV_sh hT 40 n hE).1 k hk).2 l).1
  refine J2.of hm (by rw [hq _ (w_q_mu g)]; exact (hm g).1 hok) h (fun k hk q ho => (mV_all hT 40 n hE d c lm lv x k (by omega) (by omega) hc2 q).2 (by omega) ht so l (by rcases hk with rfl | rfl <;> exact hl) hv ho) hok ?_
  cases hq0 : w_q g
  · have := ((wV_sh hT 40 n hE).2 g 0 hq0 (Nat.zero_le _)).2.2 ht l hl
    cases so
    · exact this.2.1.1.2
    · exact this.1.1.1.2
  · rw [hq _ hq0]; exact ⟨rfl, rfl, rfl, rfl, rfl, rfl⟩
theorem J2.an {d : Nat} (hd : 210 ≤ d) (hc1 : 83 ≤ c) (hc2 : c ≤ 3990) (hT : wTb nt N M res par) {n : Int32} (hE : wE nt N 40 n) (h0 : x.1 0 34 = 0) (hq : w_q g = false) (h : Q2 nt N M w ba pf rf lf c hp H K u none V lm lv x g) (hok : g_ok (wV nt 40 n 1 0 g)) :
    J2 nt N M w ba pf rf lf c hp H K u (g_nl g) (z_skl V) (kX1 d 39 [.ref 0, .int n] x) x lm lv (wV nt 40 n 1 0 g) :=
  J2.of3 (wV_mono nt 40 n 1 0 g) h (fun _ q => m_an (f := 39) (by omega) (by omega) hc2 hT (mV_all hT 39) hE q hok) (fun q => absurd h0 q) ((wV_sh hT 40 n hE).2 g 0 hq (Nat.zero_le _)).2.1.1.1.2
theorem J2.put {d : Nat} (hd : 1 ≤ d) {l : Nat} (hl : l < g_nl g) (hv : lv l = true) (h : Q2 nt N M w ba pf rf lf c hp H K u none V lm lv x g) (hok : g_ok (w_put l g)) :
    J2 nt N M w ba pf rf lf c hp H K u (g_nl g) (z_skl V) (kX1 d 51 [.ref 0, .int (nI (lm l))] x) x lm lv (w_put l g) := by
  have key : ∀ a b : Bool, g_al g = a → g_goes g l = b → (g_ok (w_put l g) → g_ok (w_put l (s_mu g))) := by
    intro a b ea eb
    have e1 : g_al (s_mu g) = a := ea
    have e2 : g_goes (s_mu g) l = b := eb
    unfold w_put
    rw [ea, eb, e1, e2]
    cases a <;> cases b <;> exact fun q => q
  refine J2.of (T := w_put l) (fun k => (wM.rf k).put l) (key _ _ rfl rfl hok) h (fun k hk q ho => m_put hd q ho (by rcases hk with rfl | rfl <;> exact hl) hv) hok ?_
  unfold w_put
  cases g_al g <;> cases g_goes g l <;> exact ⟨rfl, rfl, rfl, rfl, rfl, rfl⟩
theorem J2.go {d : Nat} (hd : 4 ≤ d) {l : Nat} (hl : l < g_nl g) (hv : lv l = true) (h : Q2 nt N M w ba pf rf lf c hp H K u none V lm lv x g) (hok : g_ok (w_go l g)) :
    J2 nt N M w ba pf rf lf c hp H K u (g_nl g) (z_skl V) (kX1 d 47 [.ref 0, .int (nI (lm l))] x) x lm lv (w_go l g) := by
  have hm := fun k => (wM.rf k).go l
  exact J2.of (T := w_go l) hm (by rw [w_go_q (w_q_mu g)]; exact (hm g).1 hok) h (fun k hk q ho => m_go hd q ho (by rcases hk with rfl | rfl <;> exact hl) hv) hok (wX_go (n := 0) (l := l) (tg := []) (g := g) (Or.inl (Nat.zero_le _))).1.2
theorem wU_es (i : wI) (F : wF) : wU g (w_es i F g) := by unfold w_es; cases w_q g <;> exact ⟨rfl, rfl, rfl, rfl, rfl, rfl⟩
theorem wU_em (i : wI) (off : Nat) (on : List Nat) : wU g (w_em i off on g) := by unfold w_em w_es; cases w_q g <;> exact ⟨rfl, rfl, rfl, rfl, rfl, rfl⟩
theorem w_em_q' {i : wI} {off : Nat} {on : List Nat} {k : wG} (hq : w_q k = true) : w_em i off on k = k := by unfold w_em; rw [hq]; rfl
theorem J2.e1 {d : Nat} (hd : 3 ≤ d) {i : wI} {off : Nat} {on : List Nat} {cc a2 a3 : Int32} (h : Q2 nt N M w ba pf rf lf c hp H K u none V lm lv x g) (hok : g_ok (w_em i off on g)) (h2 : a2 = nI off) (h3 : a3 = nI on.length) (hi : w_in w i cc []) :
    J2 nt N M w ba pf rf lf c hp H K u (g_nl g) (z_skl V) (kX1 d 42 [.ref 0, .int cc, .int a2, .int a3] x) x lm lv (w_em i off on g) := by
  have hm := fun k => (wM.rf k).em i off on
  exact J2.of (T := w_em i off on) hm (by rw [w_em_q' (w_q_mu g)]; exact (hm g).1 hok) h (fun k _ q ho => m_e1 hd q ho h2 h3 hi) hok (wU_em _ _ _)
theorem J2.inv {d : Nat} (hd : 4 ≤ d) {s off : Nat} {v : Int64} {on : List Nat} (hs : s = 5 ∨ s = 71 ∨ s = 72) (h : Q2 nt N M w ba pf rf lf c hp H K u none V lm lv x g) (hok : g_ok (w_pe 15 s v off on g)) (hnw : v = v.toInt32.toInt64) :
    J2 nt N M w ba pf rf lf c hp H K u (g_nl g) (z_skl V) (kX1 d 78 [.ref 0, .int (nI s), .int v.toInt32, .int (nI off), .int (nI on.length)] x) x lm lv (w_pe 15 s v off on g) := by
  have hm := fun k => (wM.rf k).pe 15 s v off on
  have hq : ∀ k, w_q k = true → w_pe 15 s v off on k = k := fun k hk => by unfold w_pe; rw [hk]; rfl
  refine J2.of (T := w_pe 15 s v off on) hm (by rw [hq _ (w_q_mu g)]; exact (hm g).1 hok) h (fun k _ q ho => m_inv hd hs q ho hnw) hok ?_
  cases hq0 : w_q g
  · exact (wP_pe (n := 0) hq0).1.1.2
  · rw [hq _ hq0]; exact ⟨rfl, rfl, rfl, rfl, rfl, rfl⟩
theorem Q2.al0 (h : Q2 nt N M w ba pf rf lf c hp H K u o V lm lv x g) : Q2 nt N M w ba pf rf lf c hp H K u o V lm lv (mj_wI x 0 35 0) (s_al false g) := by
  have f : zfr (zw ba pf lf) x (mj_wI x 0 35 0) := (zfr.rf _ x).w _ rfl
  obtain ⟨hlm, he, hS, hX⟩ := h
  refine ⟨hlm, he.fr f, hS.eq (eS.of_zw f), ?_⟩
  rcases hX with ⟨h0, q, hx⟩ | ⟨h0, hm, ho⟩
  · exact Or.inl ⟨h0, q.al0, hx.eq (g := g) (eS.of_zw (M := M) f).2.2 (eX.of_zw f) (fun _ _ => ⟨rfl, rfl⟩) ⟨[], rfl⟩ (Nat.le_refl _) rfl rfl (fun _ => rfl) (hx.1.ofzw (g := g) f ⟨rfl, rfl, rfl, rfl, rfl, rfl⟩)⟩
  · obtain ⟨a1, a2, a3, a4, a5, a6⟩ := hm
    exact Or.inr ⟨h0, ⟨a1, a2, a3, a4, ⟨false, rfl⟩, a6⟩, ho⟩
theorem Q2.sl (h : Q2 nt N M w ba pf rf lf c hp H K u o V lm lv x g) (l : Nat) : Q2 nt N M w ba pf rf lf c hp H K u o V lm lv x (w_sl false l g) := by
  cases hg : g_goes g l
  · have e : w_sl false l g = s_ok (g_fm g < 3999) (s_lb (g_nl g, g_lat g, g_goes g, g_lF g, (g_us g - 1, g_n1 g, g_fm g)) g) := by unfold w_sl; rw [hg]; rfl
    obtain ⟨hlm, he, hS, hX⟩ := h
    rw [e]
    refine ⟨hlm, he, hS, ?_⟩
    rcases hX with ⟨h0, q, hx⟩ | ⟨h0, hm, ho⟩
    · have := q.sl l
      rw [e] at this
      exact Or.inl ⟨h0, this, hx⟩
    · exact Or.inr ⟨h0, hm, ho⟩
  · have e : w_sl false l g = g := by unfold w_sl; rw [hg]; rfl
    rw [e]; exact h
theorem J2.sl {n : Nat} {S : List (Nat × Int32)} {r : mj_R} (h : J2 nt N M w ba pf rf lf c hp H K u n S r x lm lv G) (l : Nat) : J2 nt N M w ba pf rf lf c hp H K u n S r x lm lv (w_sl false l G) := by
  obtain ⟨V1, lm1, lv1, x1, e1, q1, v1⟩ := h
  exact ⟨V1, lm1, lv1, x1, e1, q1.sl l, v1⟩
/-- a store to, a load from, a place of which nothing is known when it was much -/
theorem J2.stn {d t : Nat} (hd : 5 ≤ d) (ht1 : 1 ≤ t) (ht8 : t ≤ 8) {p : Int32} {q : Nat} {F : wF} (h : Q2 nt N M w ba pf rf lf c hp H K u none V lm lv x g) (hpq : x.1 0 34 = 0 → p = nI q ∧ q < 256) (hF : w_q g = false → (w_tl t).length ≤ (g_st g).length ∧ F.2 = (g_st g).drop (w_tl t).length) (hok : g_ok (w_es (3, t, q, 0, []) F g)) :
    J2 nt N M w ba pf rf lf c hp H K u (g_nl g) (z_skl V) (kX1 d 71 [.ref 0, .int p, .int (nI t)] x) x lm lv (w_es (3, t, q, 0, []) F g) := by
  obtain ⟨d, rfl⟩ : ∃ c, d = c + 1 := ⟨d - 1, by omega⟩
  rw [eX1_store, sX1_placesOf (by omega), mj_rI_k, sp_pl_n ht8]
  refine J2.of3 ((wM.rf g).es _ _) h (fun h0 q1 => ?_) (fun h0 hm => ?_) (wU_es _ _)
  · obtain ⟨rfl, hq⟩ := hpq h0
    refine J1.end_ (m_loc (far := 54) (near := 59) (by omega) q1 hok ht1 ht8 hq (fun hq0 => ?_) (fun _ => rfl) (fun _ _ => rfl))
    obtain ⟨f1, f2⟩ := hF hq0
    rw [show (0 : Int32) = nI 0 from rfl, nI_st f1, f2, List.length_drop, Nat.zero_add]
  · obtain ⟨x1, e1, f1, r1⟩ := m_locM (pf := pf) (d := d) (by omega) h.2.1.2.2.2.2.2.2.2.1 hm p 54 59 (nI t) (nI (w_tl t).length) 0
    exact ⟨x1, by rw [e1, mj_rV_k], f1, r1⟩
theorem J2.ldn {d t : Nat} (hd : 5 ≤ d) (ht1 : 1 ≤ t) (ht8 : t ≤ 8) {p : Int32} {q : Nat} {on : List Nat} (hon : on.length = (w_tl t).length) (h : Q2 nt N M w ba pf rf lf c hp H K u none V lm lv x g) (hpq : x.1 0 34 = 0 → p = nI q ∧ q < 256) (hok : g_ok (w_ld t q on g)) :
    J2 nt N M w ba pf rf lf c hp H K u (g_nl g) (z_skl V) (kX1 d 57 [.ref 0, .int p, .int (nI t)] x) x lm lv (w_ld t q on g) := by
  refine J2.of3 ((wM.rf g).ld _ _ _) h (fun h0 q1 => ?_) (fun h0 hm => ?_) (wU_em _ _ _)
  · obtain ⟨rfl, hq⟩ := hpq h0
    exact m_ld hd q1 hok ht1 ht8 hq hon
  · obtain ⟨d, rfl⟩ : ∃ c, d = c + 1 := ⟨d - 1, by omega⟩
    rw [eX1_load, sX1_placesOf (by omega), mj_rI_k]
    obtain ⟨x1, e1, f1, r1⟩ := m_locM (pf := pf) (d := d) (by omega) h.2.1.2.2.2.2.2.2.2.1 hm p 21 26 (nI t) 0 (sp_pl (nI t))
    exact ⟨x1, by rw [e1, mj_rV_k], f1, r1⟩
end
