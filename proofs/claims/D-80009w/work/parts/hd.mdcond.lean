/-! conditions of CodeWriterModel -/
section
variable {nt : sp_NT} {N M : Nat} {w : Bool} {ba pf rf lf c : Nat} {lm : Nat → Nat} {lv : Nat → Bool} {x : mj_X} {g : wG} {res par : Nat → Int32} {f : Nat}
/-- as J1, of the first n labels -/
def K1 (nt : sp_NT) (N M : Nat) (w : Bool) (ba pf rf lf c n : Nat) (r : mj_R) (x : mj_X) (lm : Nat → Nat) (lv : Nat → Bool) (H : wG) : Prop := ∃ lm' lv' x', r = some (none, x') ∧ Q1 nt N M w ba pf rf lf c lm' lv' x' H ∧ (∀ l, l < n → lm' l = lm l ∧ lv' l = lv l) ∧ zfr (zw ba pf lf) x x'
theorem J1.b2 {c2 n : Nat} {r : mj_R} {k : mj_X → mj_R} {G H : wG} (hn : n ≤ g_nl g) (h : J1 nt N M w ba pf rf lf c r x lm lv g G)
    (hk : ∀ lm' lv' x', Q1 nt N M w ba pf rf lf c lm' lv' x' G → (∀ l, l < g_nl g → lm' l = lm l ∧ lv' l = lv l) → K1 nt N M w ba pf rf lf c2 n (k x') x' lm' lv' H) : K1 nt N M w ba pf rf lf c2 n (mj_rV r k) x lm lv H := by
  obtain ⟨lm1, lv1, x1, e1, q1, l1, f1⟩ := h
  obtain ⟨lm2, lv2, x2, e2, q2, l2, f2⟩ := hk lm1 lv1 x1 q1 l1
  refine ⟨lm2, lv2, x2, by rw [e1, mj_rV_k, e2], q2, fun l hl => ?_, f1.tr f2⟩
  have a := l1 l (by omega)
  have b := l2 l hl
  exact ⟨b.1.trans a.1, b.2.trans a.2⟩
theorem J1.lb2 {c2 d : Nat} (hd : 1 ≤ d) (hc : c + 1 ≤ 4000) {F : wF} {k : Int32 → mj_X → mj_R} {H : wG} (h : Q1 nt N M w ba pf rf lf (c + 1) lm lv x g) (hok : g_ok (w_lb F g))
    (hk : ∀ lm' lv' x', Q1 nt N M w ba pf rf lf c lm' lv' x' (w_lb F g) → lv' (g_nl g) = true → (∀ l, l < g_nl g → lm' l = lm l ∧ lv' l = lv l) → K1 nt N M w ba pf rf lf c2 (g_nl g) (k (nI (lm' (g_nl g))) x') x' lm' lv' H) :
    J1 nt N M w ba pf rf lf c2 (mj_rI (kX1 d 45 [.ref 0] x) k) x lm lv g H := by
  obtain ⟨i, x1, e1, f1, -, q1⟩ := m_lb hd hc h hok
  have hag : ∀ l, l < g_nl g → (fun l => if l = g_nl g then i else lm l) l = lm l ∧ (fun l => if l = g_nl g then true else lv l) l = lv l := fun l hl => ⟨if_neg (by omega), if_neg (by omega)⟩
  obtain ⟨lm2, lv2, x2, e2, q2, l2, f2⟩ := hk _ _ x1 q1 (if_pos rfl) hag
  rw [if_pos rfl] at e2
  refine ⟨lm2, lv2, x2, by rw [e1, mj_rI_k, e2], q2, fun l hl => ?_, f1.tr f2⟩
  have a := l2 l hl
  have b := hag l hl
  exact ⟨a.1.trans b.1, a.2.trans b.2⟩
/-- one and the other -/
theorem m_both {d : Nat} (hd : 5 * f + 9 ≤ d) (hf : 2 * f + 2 ≤ c) (hc : c ≤ 3990) (R : ∀ n, wE nt N f n → mV nt N M w ba pf rf lf f n) {a b a1 a6 : Int32} (ha : wE nt N f a) (hb : wE nt N f b) (ta : nT nt a = 1) (tb : nT nt b = 1) (so : Bool) {l : Nat} (hl : l < g_nl g) (hv : lv l = true) (h : Q1 nt N M w ba pf rf lf c lm lv x g)
    (hok : g_ok (w_sl true (g_nl g) (w_put (g_nl g) (wV nt f b (bif so then 2 else 3) l (wV nt f a (bif !so then 2 else 3) (g_nl g) (w_lb (g_L g, g_st g) g)))))) :
    J1 nt N M w ba pf rf lf c (mj_rI (kX1 d 45 [.ref 0] x) fun v2 x1 => if sp_b so = 0 then rX1_condition d (141, [some (.ref 0), some (.int a1), some (.int (sp_b so)), some (.int (nI (lm l))), some (.int a), some (.int b), some (.int a6), some (.int v2)], [.int (1 : Int32), .int a, .ref 0], x1) else rX1_condition d (141, [some (.ref 0), some (.int a1), some (.int (sp_b so)), some (.int (nI (lm l))), some (.int a), some (.int b), some (.int a6), some (.int v2)], [.int (0 : Int32), .int a, .ref 0], x1)) x lm lv g
      (w_sl true (g_nl g) (w_put (g_nl g) (wV nt f b (bif so then 2 else 3) l (wV nt f a (bif !so then 2 else 3) (g_nl g) (w_lb (g_L g, g_st g) g))))) := by
  obtain ⟨c', rfl⟩ : ∃ c', c = c' + 1 := ⟨c - 1, by omega⟩
  have n1 : g_nl (w_lb (g_L g, g_st g) g) = g_nl g + 1 := rfl
  generalize hm : g_nl g = m at *
  have l1 : wM g (w_lb (g_L g, g_st g) g) := (wM.rf g).lb _
  have m2 := wV_mono nt f a (bif !so then 2 else 3) m (w_lb (g_L g, g_st g) g)
  generalize hg2 : wV nt f a (bif !so then 2 else 3) m (w_lb (g_L g, g_st g) g) = g2 at *
  have m3 := wV_mono nt f b (bif so then 2 else 3) l g2
  generalize hg3 : wV nt f b (bif so then 2 else 3) l g2 = g3 at *
  have m4 : wM g3 (w_put m g3) := (wM.rf _).put m
  have m5 : wM (w_put m g3) (w_sl true m (w_put m g3)) := (wM.rf _).sl true m
  have ok4 := m5.1 hok
  have ok3 := m4.1 ok4
  have ok2 := m3.1 ok3
  have ok1 := m2.1 ok2
  have nn2 : m + 1 ≤ g_nl g2 := by have := m2.2.2.2.2.2.2.1; omega
  have nn3 : m + 1 ≤ g_nl g3 := Nat.le_trans nn2 m3.2.2.2.2.2.2.1
  have nn4 : m + 1 ≤ g_nl (w_put m g3) := Nat.le_trans nn3 m4.2.2.2.2.2.2.1
  refine J1.lb2 (by omega) (by omega) h ok1 (fun lm1 lv1 x1 q1 w1 a1_ => ?_)
  rw [hm] at w1 a1_ ⊢
  have key : ∀ s2 : Int32, s2 = sp_b (!so) → K1 nt N M w ba pf rf lf (c' + 1) m (rX1_condition d (141, [some (.ref 0), some (.int a1), some (.int (sp_b so)), some (.int (nI (lm l))), some (.int a), some (.int b), some (.int a6), some (.int (nI (lm1 m)))], [.int s2, .int a, .ref 0], x1)) x1 lm1 lv1 (w_sl true m (w_put m g3)) := by
    intro s2 hs2
    rw [bX1_condition_141, hs2]
    have hA := (R _ ha d c' lm1 lv1 x1 (w_lb (g_L g, g_st g) g) (by omega) (by omega) (by omega) q1).2 (by omega) ta (!so) m (by omega) w1 (by rw [hg2]; exact ok2)
    rw [hg2] at hA
    refine J1.b2 (by omega) hA (fun lm2 lv2 x2 q2 a2 => ?_)
    have b2 : ∀ k, k < m + 1 → lm2 k = lm1 k ∧ lv2 k = lv1 k := fun k hk => a2 k (by omega)
    have hlm2 : lm2 l = lm l := (b2 l (by omega)).1.trans (a1_ l hl).1
    have hlv2 : lv2 l = true := by rw [(b2 l (by omega)).2, (a1_ l hl).2]; exact hv
    have hB := (R _ hb d c' lm2 lv2 x2 g2 (by omega) (by omega) (by omega) q2).2 (by omega) tb so l (by omega) hlv2 (by rw [hg3]; exact ok3)
    rw [hg3, hlm2] at hB
    refine J1.b2 (by omega) hB (fun lm3 lv3 x3 q3 a3 => ?_)
    have b3 : ∀ k, k < m + 1 → lm3 k = lm1 k ∧ lv3 k = lv1 k := fun k hk => ⟨(a3 k (by omega)).1.trans (b2 k hk).1, (a3 k (by omega)).2.trans (b2 k hk).2⟩
    have hP := m_put (d := d) (l := m) (by omega) q3 ok4 (by omega) (by rw [(b3 m (by omega)).2]; exact w1)
    rw [(b3 m (by omega)).1] at hP
    refine J1.b2 (by omega) hP (fun lm4 lv4 x4 q4 a4 => ?_)
    have b4 : ∀ k, k < m + 1 → lm4 k = lm1 k ∧ lv4 k = lv1 k := fun k hk => ⟨(a4 k (by omega)).1.trans (b3 k hk).1, (a4 k (by omega)).2.trans (b3 k hk).2⟩
    obtain ⟨lv5, x5, e5, f5, a5, q5⟩ := m_sl (l := m) (by omega) q4 hok (by omega) (by rw [(b4 m (by omega)).2]; exact w1)
    rw [(b4 m (by omega)).1] at e5
    exact ⟨lm4, lv5, x5, e5, q5, fun k hk => ⟨rfl, a5 k (by omega)⟩, f5⟩
  cases so
  · rw [if_pos (by rfl)]; exact key 1 rfl
  · rw [if_neg (by decide)]; exact key 0 rfl
theorem w_cd_q {n : Int32} {so : Bool} {l : Nat} {rec : wR} (hq : w_q g = true) : w_cd nt rec n so l g = g := by unfold w_cd; rw [hq]; rfl
/-- alive, and nothing is much -/
theorem Q1.live (h : Q1 nt N M w ba pf rf lf c lm lv x g) (h0 : ¬ x.1 0 35 = 0) (h1 : x.1 0 34 = 0) : w_q g = false := by
  obtain ⟨-, -, h2⟩ := h
  obtain ⟨ho, h2⟩ := h2.resolve_right (fun q => absurd h1 (by rw [q.1.1]; decide))
  refine (w_q_iff g).mpr ⟨?_, ho⟩
  have s := h2.2.2.2.2.2.2.1
  cases ha : g_al g
  · rw [ha] at s; exact absurd s h0
  · rfl
theorem Q1.dead (h : Q1 nt N M w ba pf rf lf c lm lv x g) (h0 : x.1 0 35 = 0) (h1 : x.1 0 34 = 0) : w_q g = true := by
  obtain ⟨-, -, h2⟩ := h
  obtain ⟨ho, h2⟩ := h2.resolve_right (fun q => absurd h1 (by rw [q.1.1]; decide))
  have s := h2.2.2.2.2.2.2.1
  unfold w_q
  cases ha : g_al g
  · rfl
  · rw [ha, h0] at s; exact absurd s (by decide)
/-- a method that does nothing -/
theorem J1.skip2 {G : wG} (h : Q1 nt N M w ba pf rf lf c lm lv x g) (hq : w_q g = true → G = g) (hm : wM g G) (hpl : g_pl G = g_pl g) (hL : w_q g = false → ∃ lm' : Nat → Nat, (∀ l, l < g_nl g → lm' l = lm l) ∧ ∀ l, l < g_nl G → lm' l < 300000) (h0 : x.1 0 35 = 0 ∨ ¬ x.1 0 34 = 0) : J1 nt N M w ba pf rf lf c (some (none, x)) x lm lv g G := by
  by_cases h1 : x.1 0 34 = 0
  · have h0 := h0.resolve_right (fun q => q h1)
    rw [hq (h.dead h0 h1)]; exact J1.id_ h
  · cases hqq : w_q g
    · obtain ⟨lm', l1, l2⟩ := hL hqq
      obtain ⟨he, hlm, h2⟩ := h
      rcases h2 with ⟨ho, h2⟩ | ⟨h2, ho⟩
      · exact absurd h2.1 h1
      · exact ⟨lm', lv, x, rfl, ⟨by rw [hpl]; exact he, l2, Or.inr ⟨h2, ho.mono hm⟩⟩, fun l hl => ⟨l1 l hl, rfl⟩, zfr.rf _ x⟩
    · rw [hq hqq]; exact J1.id_ h
/-- labels beyond those known -/
theorem lm_any (h : Q1 nt N M w ba pf rf lf c lm lv x g) (n : Nat) : ∃ lm' : Nat → Nat, (∀ l, l < g_nl g → lm' l = lm l) ∧ ∀ l, l < n → lm' l < 300000 := by
  refine ⟨fun l => if l < g_nl g then lm l else 0, fun l hl => if_pos hl, fun l _ => ?_⟩
  show (if l < g_nl g then lm l else 0) < 300000
  by_cases q : l < g_nl g
  · rw [if_pos q]; exact h.2.1 l q
  · rw [if_neg q]; omega
theorem wV_pl (hT : wTb nt N M res par) {n : Int32} (hE : wE nt N f n) (ht : nT nt n = 1) (so : Bool) {l : Nat} (hl : l < g_nl g) (hq : w_q g = false) : g_pl (wV nt f n (bif so then 2 else 3) l g) = g_pl g := by
  have := ((wV_sh hT f n hE).2 g 0 hq (Nat.zero_le _)).2.2 ht l hl
  cases so
  · exact this.2.1.1.2.2.2.2.2.2
  · exact this.1.1.1.2.2.2.2.2.2
theorem m_cd {d : Nat} (hd : 5 * f + 12 ≤ d) (hf : 2 * f + 2 ≤ c) (hc : c ≤ 3990) (hT : wTb nt N M res par) (R : ∀ n, wE nt N f n → mV nt N M w ba pf rf lf f n) {n : Int32} (hE : wE nt N (f + 1) n) (ht : nT nt n = 1) (so : Bool) {l : Nat} (hl : l < g_nl g) (hv : lv l = true) (h : Q1 nt N M w ba pf rf lf c lm lv x g)
    (hV : ¬ (23 ≤ nK nt n ∧ nK nt n ≤ 31) → g_ok (w_v0 nt (wV nt f) n g) → w_q g = false → J1 nt N M w ba pf rf lf c (kX1 (d - 1) 40 [.ref 0, .int n] x) x lm lv g (w_v0 nt (wV nt f) n g))
    (hok : g_ok (w_cd nt (wV nt f) n so l g)) : J1 nt N M w ba pf rf lf c (kX1 d 46 [.ref 0, .int n, .int (sp_b so), .int (nI (lm l))] x) x lm lv g (w_cd nt (wV nt f) n so l g) := by
  have hm : wM g (w_cd nt (wV nt f) n so l g) := (wM.rf g).cd (wV_mono nt f) n so l
  have hpl : g_pl (w_cd nt (wV nt f) n so l g) = g_pl g := by
    cases hq : w_q g
    · exact (wCd_cd hT (fun c hc => wV_sh hT f c hc) (m := 0) hq (Nat.zero_le _) hl hE ht so).1.1.2.2.2.2.2.2
    · rw [w_cd_q hq]
  obtain ⟨d, rfl⟩ : ∃ c, d = c + 1 := ⟨d - 1, by omega⟩
  rw [Nat.add_sub_cancel] at hV
  rw [eX1_condition]
  by_cases h0 : x.1 0 35 = 0
  · rw [if_pos h0]; exact J1.skip2 h (fun q => w_cd_q q) hm hpl (fun _ => lm_any h _) (Or.inl h0)
  rw [if_neg h0]
  by_cases h1' : ¬ x.1 0 34 = 0
  · rw [if_neg h1']; exact J1.skip2 h (fun q => w_cd_q q) hm hpl (fun _ => lm_any h _) (Or.inr h1')
  have h1 : x.1 0 34 = 0 := Decidable.not_not.mp h1'
  have hq := h.live h0 h1
  obtain ⟨hn, -, hdp⟩ := hE
  have kx : x.1 2 n.toNatClampNeg = nK nt n := by rw [h.T.1]
  have ax : x.1 3 n.toNatClampNeg = nA nt n := by rw [h.T.2.1]
  have bx : x.1 4 n.toNatClampNeg = nB nt n := by rw [h.T.2.2.1]
  rw [if_pos h1, h.nd hn, h.nd hn, h.nd hn, kx, ax, bx]
  have hC : w_cd nt (wV nt f) n so l g = (if nK nt n = 1 then (bif !decide (nA nt n = 0) == so then w_go l g else g) else if nK nt n = 31 then wV nt f (nA nt n) (bif !so then 2 else 3) l g else if nK nt n = 29 ∨ nK nt n = 30 then (bif decide (nK nt n = 29) == so then w_sl true (g_nl g) (w_put (g_nl g) (wV nt f (nB nt n) (bif so then 2 else 3) l (wV nt f (nA nt n) (bif !so then 2 else 3) (g_nl g) (w_lb (g_L g, g_st g) g)))) else wV nt f (nB nt n) (bif so then 2 else 3) l (wV nt f (nA nt n) (bif so then 2 else 3) l g)) else if 23 ≤ nK nt n ∧ nK nt n ≤ 28 then w_cmp nt (wV nt f) (nK nt n) (nA nt n) (nB nt n) so l g else w_br (bif so then 154 else 153) 1 l (w_v0 nt (wV nt f) n g)) := by
    unfold w_cd; rw [hq]; cases so <;> rfl
  rw [hC] at hok ⊢
  by_cases c1 : nK nt n = 1
  · rw [if_pos c1] at hok ⊢
    rw [if_pos c1]
    by_cases c0 : nA nt n = 0
    · rw [if_pos c0]
      cases so
      · rw [if_pos (by rfl)]
        rw [decide_eq_true c0] at hok ⊢
        exact J1.end_ (m_go (by omega) h hok hl hv)
      · rw [if_neg (by decide)]
        rw [decide_eq_true c0] at hok ⊢
        exact J1.id_ h
    · rw [if_neg c0]
      cases so
      · rw [if_neg (by decide)]
        rw [decide_eq_false c0] at hok ⊢
        exact J1.id_ h
      · rw [if_pos (by rfl)]
        rw [decide_eq_false c0] at hok ⊢
        exact J1.end_ (m_go (by omega) h hok hl hv)
  rw [if_neg c1] at hok ⊢
  rw [if_neg c1]
  by_cases c2 : nK nt n = 31
  · rw [if_pos c2] at hok ⊢
    rw [if_pos c2]
    obtain ⟨a, ta, -⟩ := wE_not hT hn hdp c2
    have := (R _ a d c lm lv x g (by omega) (by omega) hc h).2 (by omega) ta (!so) l hl hv hok
    cases so
    · rw [if_pos (by rfl)]; exact J1.end_ this
    · rw [if_neg (by decide)]; exact J1.end_ this
  rw [if_neg c2] at hok ⊢
  rw [if_neg c2]
  have hab : (nK nt n = 29 ∨ nK nt n = 30) → wE nt N f (nA nt n) ∧ wE nt N f (nB nt n) ∧ nT nt (nA nt n) = 1 ∧ nT nt (nB nt n) = 1 := by
    intro q
    rcases q with q | q
    · obtain ⟨a, ta, b, tb, -⟩ := wE_both hT hn hdp q; exact ⟨a, b, ta, tb⟩
    · obtain ⟨a, ta, b, tb, -⟩ := wE_either hT hn hdp q; exact ⟨a, b, ta, tb⟩
  have r119 : ∀ s0 : Bool, (nK nt n = 29 ∨ nK nt n = 30) → s0 = decide (nK nt n = 29) → J1 nt N M w ba pf rf lf c (rX1_condition d (119, [some (.ref 0), some (.int n), some (.int (sp_b so)), some (.int (nI (lm l))), some (.int (nA nt n)), some (.int (nB nt n)), some (.int (nK nt n)), none], [.int (sp_b s0)], x)) x lm lv g (bif decide (nK nt n = 29) == so then w_sl true (g_nl g) (w_put (g_nl g) (wV nt f (nB nt n) (bif so then 2 else 3) l (wV nt f (nA nt n) (bif !so then 2 else 3) (g_nl g) (w_lb (g_L g, g_st g) g)))) else wV nt f (nB nt n) (bif so then 2 else 3) l (wV nt f (nA nt n) (bif so then 2 else 3) l g)) := by
    intro s0 hk hs0
    rw [if_pos hk] at hok
    obtain ⟨ea, eb, ta, tb⟩ := hab hk
    rw [bX1_condition_119]
    rw [← hs0] at hok ⊢
    by_cases e : s0 = so
    · have e1 : (s0 == so) = true := by rw [e]; exact beq_self_eq_true so
      rw [e1] at hok ⊢
      rw [if_pos (by rw [e])]
      exact m_both (by omega) hf hc R ea eb ta tb so hl hv h hok
    · have e1 : (s0 == so) = false := by cases s0 <;> cases so <;> simp_all
      rw [e1] at hok ⊢
      rw [if_neg (by cases s0 <;> cases so <;> simp_all [sp_b])]
      have mb := wV_mono nt f (nB nt n) (bif so then 2 else 3) l (wV nt f (nA nt n) (bif so then 2 else 3) l g)
      have ma := wV_mono nt f (nA nt n) (bif so then 2 else 3) l g
      refine J1.b ma ((R _ ea d c lm lv x g (by omega) (by omega) hc h).2 (by omega) ta so l hl hv (mb.1 hok)) (fun lm1 lv1 x1 q1 a1 _ => ?_)
      have a1l := a1 l hl
      rw [← a1l.1]
      exact J1.end_ ((R _ eb d c lm1 lv1 x1 _ (by omega) (by omega) hc q1).2 (by omega) tb so l (Nat.lt_of_lt_of_le hl ma.2.2.2.2.2.2.1) (by rw [a1l.2]; exact hv) hok)
  by_cases c3 : nK nt n = 29
  · rw [if_pos (Or.inl c3)] at hok ⊢
    rw [if_pos c3, if_pos c3]
    exact r119 true (Or.inl c3) (by rw [decide_eq_true c3])
  · rw [if_neg c3]
    by_cases c4 : nK nt n = 30
    · rw [if_pos (Or.inr c4)] at hok ⊢
      rw [if_pos c4, if_neg c3]
      exact r119 false (Or.inr c4) (by rw [decide_eq_false c3])
    · have c34 : ¬ (nK nt n = 29 ∨ nK nt n = 30) := fun q => by rcases q with q | q <;> contradiction
      rw [if_neg c34] at hok ⊢
      rw [if_neg c4]
      have r242 : ¬ (23 ≤ nK nt n ∧ nK nt n ≤ 28) → J1 nt N M w ba pf rf lf c (rX1_condition d (242, [some (.ref 0), some (.int n), some (.int (sp_b so)), some (.int (nI (lm l))), some (.int (nA nt n)), some (.int (nB nt n)), some (.int (nK nt n)), none], [], x)) x lm lv g (if 23 ≤ nK nt n ∧ nK nt n ≤ 28 then w_cmp nt (wV nt f) (nK nt n) (nA nt n) (nB nt n) so l g else w_br (bif so then 154 else 153) 1 l (w_v0 nt (wV nt f) n g)) := by
        intro hn5
        rw [if_neg hn5] at hok ⊢
        rw [bX1_condition_242]
        have mv : wM g (w_v0 nt (wV nt f) n g) := (wM.rf g).v0 (wV_mono nt f) n
        have mb : wM (w_v0 nt (wV nt f) n g) (w_br (bif so then 154 else 153) 1 l (w_v0 nt (wV nt f) n g)) := (wM.rf _).br _ _ _
        have hnb : ¬ (23 ≤ nK nt n ∧ nK nt n ≤ 31) := fun q => by
          simp only [i_le] at hn5 q
          have y1 : (nK nt n).toInt ≠ 29 := i_ne c3
          have y2 : (nK nt n).toInt ≠ 30 := i_ne c4
          have y3 : (nK nt n).toInt ≠ 31 := i_ne c2
          have l1 : (23 : Int32).toInt = 23 := rfl
          have l2 : (31 : Int32).toInt = 31 := rfl
          have l3 : (28 : Int32).toInt = 28 := rfl
          omega
        refine J1.b mv (hV hnb (mb.1 hok) hq) (fun lm1 lv1 x1 q1 a1 _ => ?_)
        have a1l := a1 l hl
        rw [← a1l.1]
        have hl1 := Nat.lt_of_lt_of_le hl mv.2.2.2.2.2.2.1
        have hv1 : lv1 l = true := by rw [a1l.2]; exact hv
        cases so
        · rw [if_pos (by rfl)]; exact J1.end_ (m_br (op := 153) (off := 1) (by omega) q1 hok (by omega) (by omega) hl1 hv1)
        · rw [if_neg (by decide)]; exact J1.end_ (m_br (op := 154) (off := 1) (by omega) q1 hok (by omega) (by omega) hl1 hv1)
      by_cases c5 : nK nt n < 23
      · rw [if_pos c5]; exact r242 (fun q => absurd q.1 (Int32.not_le.mpr c5))
      · rw [if_neg c5]
        by_cases c6 : 28 < nK nt n
        · rw [if_pos c6]; exact r242 (fun q => absurd q.2 (Int32.not_le.mpr c6))
        · rw [if_neg c6]
          have hcc : 23 ≤ nK nt n ∧ nK nt n ≤ 28 := ⟨Int32.not_lt.mp c5, Int32.not_lt.mp c6⟩
          rw [if_pos hcc] at hok ⊢
          obtain ⟨a, b, t1, t4, -, -⟩ := wE_cmp hT hn hdp hcc.1 hcc.2
          exact J1.end_ (m_cmp (by omega) (by omega) hc hT R hcc.1 hcc.2 a b t1 t4 so hl hv h hok)
end
