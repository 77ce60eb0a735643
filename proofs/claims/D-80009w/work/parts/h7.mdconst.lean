/-! constants, casts, growth, calls of CodeWriterModel -/
theorem w_m32 : (4294967295 : Int64).toBitVec = (BitVec.allOnes 32).setWidth 64 := rfl
theorem w_ll_lo (a b : Int32) : (w_ll a b).toInt32 = b := by
  apply Int32.toBitVec_inj.mp
  unfold w_ll
  simp only [Int64.toBitVec_toInt32, Int64.toBitVec_or, Int64.toBitVec_and, Int64.toBitVec_shiftLeft, Int32.toBitVec_toInt64, w_m32]
  apply BitVec.eq_of_getLsbD_eq
  intro i hi
  have h64 : i < 64 := by omega
  have e : (4294967295#32 : BitVec 32) = BitVec.allOnes 32 := by decide
  simp [BitVec.getElem_signExtend, hi, h64]
  intro _
  simp only [e, BitVec.getElem_allOnes]
theorem w_mk32 {j : Nat} (h1 : 32 ≤ j) (h2 : j < 64) : (4294967295#64 : BitVec 64)[j] = false := by
  rw [← BitVec.getLsbD_eq_getElem h2, BitVec.getLsbD_ofNat, Nat.testBit_lt_two_pow (Nat.lt_of_lt_of_le (by decide : 4294967295 < 2 ^ 32) (Nat.pow_le_pow_right (by decide) h1)), Bool.and_false]
theorem w_ll_hi (a b : Int32) : ((w_ll a b) >>> 32).toInt32 = a := by
  apply Int32.toBitVec_inj.mp
  unfold w_ll
  simp only [Int64.toBitVec_toInt32, Int64.toBitVec_or, Int64.toBitVec_and, Int64.toBitVec_shiftLeft, Int64.toBitVec_shiftRight, Int32.toBitVec_toInt64, w_m32]
  apply BitVec.eq_of_getLsbD_eq
  intro i hi
  have h1 : 32 + i < 64 := by omega
  have h2 : ¬ 32 + i < 32 := by omega
  have h3 : 32 + i - 32 = i := by omega
  simp [BitVec.getElem_signExtend, BitVec.sshiftRight', BitVec.getElem_sshiftRight, hi, h1, h2, h3]
  rw [if_pos (by omega : i < 64), w_mk32 (by omega) h1, Bool.and_false, Bool.or_false]
theorem i64_le {a b : Int32} : a.toInt64 ≤ b.toInt64 ↔ a ≤ b := by rw [Int64.le_iff_toInt_le, Int32.le_iff_toInt_le, Int32.toInt_toInt64, Int32.toInt_toInt64]
theorem i64_i {a : Int32} : a.toInt64.toInt32 = a := by simp
theorem w_ll_eq {a b : Int32} {v : Int64} (h1 : v.toInt32 = b) (h2 : (v >>> 32).toInt32 = a) : w_ll a b = v := w_lohi (by rw [w_ll_lo, h1]) (by rw [w_ll_hi, h2])
theorem w_pf_le (s : Nat) (v : Int64) : ∀ (l : List (Nat × Int64)) (i : Nat), w_pf s v l = some i → i ≤ 1 + 2 * l.length := by
  intro l
  induction l with
  | nil => intro i h; simp [w_pf] at h
  | cons e r ih =>
    intro i h
    unfold w_pf at h
    cases hr : w_pf s v r with
    | some k => rw [hr] at h; simp at h; have := ih k hr; simp only [List.length_cons]; omega
    | none =>
      rw [hr] at h
      simp only at h
      split at h
      · injection h with h; have := w_pi_le r; simp only [List.length_cons]; omega
      · simp at h
theorem w_px_le (s : Nat) (v : Int64) (l : List (Nat × Int64)) : w_px s v l ≤ 1 + 2 * l.length := by
  unfold w_px
  cases h : w_pf s v l with
  | some i => exact w_pf_le s v l i h
  | none => exact w_pi_le l
section
variable {nt : sp_NT} {N M : Nat} {w : Bool} {ba pf rf lf c : Nat} {lm : Nat → Nat} {lv : Nat → Bool} {x : mj_X} {g : wG}
theorem w_pe_q {tag s off : Nat} {v : Int64} {on : List Nat} (hq : w_q g = true) : w_pe tag s v off on g = g := by unfold w_pe; rw [hq]; rfl
theorem w_pe_n {tag s off : Nat} {v : Int64} {on : List Nat} : g_nl (w_pe tag s v off on g) = g_nl g ∧ g_pl (w_pe tag s v off on g) = g_pl g := by
  cases hq : w_q g
  · unfold w_pe w_em w_es
    rw [hq]
    have e : w_q (s_ok ((w_pn s v (g_po g)).length ≤ 100) (s_po (w_pn s v (g_po g)) g)) = false := hq
    rw [e]; exact ⟨rfl, rfl⟩
  · rw [w_pe_q hq]; exact ⟨rfl, rfl⟩
/-- a place of the pool is had, then a code comes -/
theorem m_pe {d : Nat} (hd : 1 ≤ d) {tag s off : Nat} {v : Int64} {on : List Nat} {k : Int32 → mj_X → mj_R} (h : Q1 nt N M w ba pf rf lf c lm lv x g) (hok : g_ok (w_pe tag s v off on g)) (hs : s < 100) (hnw : ¬ (s = 2 ∨ s = 4) → v = v.toInt32.toInt64)
    (hk : ∀ (i : Nat) (g1 : wG) (x1 : mj_X), i = w_px s v (g_po g) → i < 256 → g_nl g1 = g_nl g → Q1 nt N M w ba pf rf lf c lm lv x1 g1 → g_ok (w_em (tag, s, i, v, []) off on g1) → J1 nt N M w ba pf rf lf c (k (nI i) x1) x1 lm lv g1 (w_em (tag, s, i, v, []) off on g1)) :
    J1 nt N M w ba pf rf lf c (if (x.1 0 35) = 0 then some (none, x) else if (x.1 0 34) = 0 then mj_rI (kX1 d 64 [.ref 0, .int (nI s), .int v.toInt32, .int (z_hi (s, v))] x) k else some (none, x)) x lm lv g (w_pe tag s v off on g) := by
  have hm : wM g (w_pe tag s v off on g) := (wM.rf g).pe _ _ _ _ _
  obtain ⟨hnl, hpl⟩ := w_pe_n (g := g) (tag := tag) (s := s) (off := off) (v := v) (on := on)
  by_cases h0 : x.1 0 35 = 0
  · rw [if_pos h0]; exact J1.skip h (fun q => w_pe_q q) hm hpl hnl (Or.inl h0)
  rw [if_neg h0]
  by_cases h1' : ¬ x.1 0 34 = 0
  · rw [if_neg h1']; exact J1.skip h (fun q => w_pe_q q) hm hpl hnl (Or.inr h1')
  have h1 : x.1 0 34 = 0 := Decidable.not_not.mp h1'
  rw [if_pos h1]
  obtain ⟨he, hlm, h2⟩ := h
  obtain ⟨ho, h2⟩ := h2.resolve_right (fun q => absurd h1 (by rw [q.1.1]; decide))
  have ha : g_al g = true := by
    have s := h2.2.2.2.2.2.2.1
    cases ha : g_al g
    · rw [ha] at s; exact absurd s h0
    · rfl
  have hq : w_q g = false := (w_q_iff g).mpr ⟨ha, ho⟩
  have e : w_pe tag s v off on g = w_em (tag, s, w_px s v (g_po g), v, []) off on (s_ok ((w_pn s v (g_po g)).length ≤ 100) (s_po (w_pn s v (g_po g)) g)) := by unfold w_pe; rw [hq]; rfl
  rw [e] at hok ⊢
  have hlen : (w_pn s v (g_po g)).length ≤ 100 := (((wM.rf (s_ok ((w_pn s v (g_po g)).length ≤ 100) (s_po (w_pn s v (g_po g)) g))).em (tag, s, w_px s v (g_po g), v, []) off on).1 hok).2
  obtain ⟨x1, e1, f1, r1⟩ := m_pool hd he h2 hs hnw hlen
  rw [e1, mj_rI_k]
  have hpx := w_px_le s v (g_po g)
  have hp3 := h2.2.2.2.2.1.2.2.1
  obtain ⟨lm', lv', x', e', q', l', f'⟩ := hk _ (s_ok ((w_pn s v (g_po g)).length ≤ 100) (s_po (w_pn s v (g_po g)) g)) x1 rfl (by omega) rfl ⟨he.fr f1, hlm, Or.inl ⟨ho, r1⟩⟩ hok
  exact ⟨lm', lv', x', e', q', l', f1.tr f'⟩
theorem m_pooled {d : Nat} (hd : 4 ≤ d) {s : Nat} {v : Int64} (h1 : 1 ≤ s) (h4 : s ≤ 4) (h : Q1 nt N M w ba pf rf lf c lm lv x g) (hok : g_ok (w_pe 1 s v 0 (w_tl s) g)) (hnw : ¬ (s = 2 ∨ s = 4) → v = v.toInt32.toInt64) : J1 nt N M w ba pf rf lf c (kX1 d 63 [.ref 0, .int (nI s), .int v.toInt32, .int (z_hi (s, v))] x) x lm lv g (w_pe 1 s v 0 (w_tl s) g) := by
  obtain ⟨d, rfl⟩ : ∃ c, d = c + 1 := ⟨d - 1, by omega⟩
  rw [eX1_pooled]
  refine m_pe (by omega) h hok (by omega) hnw (fun i g1 x1 hi h256 hn hq1 hok1 => ?_)
  have wide : s = 2 ∨ s = 4 → J1 nt N M w ba pf rf lf c (rX1_pooled d (34, [some (.ref 0), some (.int (nI s)), some (.int v.toInt32), some (.int (z_hi (s, v))), some (.int (nI i))], [], x1)) x1 lm lv g1 (w_em (1, s, i, v, []) 0 (w_tl s) g1) := by
    intro hs
    rw [bX1_pooled_34]
    refine m_e3 (by omega) hq1 hok1 rfl (by rcases hs with rfl | rfl <;> rfl) ⟨fun _ => ?_, fun _ _ => rfl⟩
    show (if s = 2 ∨ s = 4 then [o8 20] ++ o16 (nI i) else _) = _
    rw [if_pos hs]; rfl
  by_cases q2 : s = 2
  · rw [if_pos (by rw [q2]; rfl)]; exact wide (Or.inl q2)
  rw [if_neg (show ¬ nI s = (2 : Int32) from fun r => q2 ((nI_eq (b := 2) (by omega) (by omega)).mp r))]
  by_cases q4 : s = 4
  · rw [if_pos (by rw [q4]; rfl)]; exact wide (Or.inr q4)
  rw [if_neg (show ¬ nI s = (4 : Int32) from fun r => q4 ((nI_eq (b := 4) (by omega) (by omega)).mp r)), if_neg (show ¬ (256 : Int32) ≤ nI i from nI_ge (b := 256) h256 (by omega))]
  refine m_e2 (by omega) hq1 hok1 rfl (by have : s = 1 ∨ s = 3 := (by omega); rcases this with rfl | rfl <;> rfl) ⟨fun _ => ?_, fun _ _ => rfl⟩
  show (if s = 2 ∨ s = 4 then _ else if i < 256 then [o8 18, o8 (nI i)] else _) = _
  rw [if_neg (by omega), if_pos h256]
theorem m_inv {d : Nat} (hd : 4 ≤ d) {s off : Nat} {v : Int64} {on : List Nat} (hs : s = 5 ∨ s = 71 ∨ s = 72) (h : Q1 nt N M w ba pf rf lf c lm lv x g) (hok : g_ok (w_pe 15 s v off on g)) (hnw : v = v.toInt32.toInt64) : J1 nt N M w ba pf rf lf c (kX1 d 78 [.ref 0, .int (nI s), .int v.toInt32, .int (nI off), .int (nI on.length)] x) x lm lv g (w_pe 15 s v off on g) := by
  obtain ⟨d, rfl⟩ : ∃ c, d = c + 1 := ⟨d - 1, by omega⟩
  have hz : z_hi (s, v) = 0 := by unfold z_hi; rw [if_neg (by show ¬ (s = 2 ∨ s = 4); omega)]
  rw [eX1_invoke]
  rw [show (.int (0 : Int32) : Value) = .int (z_hi (s, v)) by rw [hz]]
  refine m_pe (by omega) h hok (by omega) (fun _ => hnw) (fun i g1 x1 hi h256 hn hq1 hok1 => ?_)
  exact m_e3 (by omega) hq1 hok1 rfl rfl ⟨fun _ => rfl, fun _ _ => rfl⟩
/-! constants -/
theorem m_ic {d : Nat} (hd : 5 ≤ d) (v : Int32) (h : Q1 nt N M w ba pf rf lf c lm lv x g) (hok : g_ok (w_k 1 v.toInt64 g)) : J1 nt N M w ba pf rf lf c (kX1 d 62 [.ref 0, .int v] x) x lm lv g (w_k 1 v.toInt64 g) := by
  obtain ⟨d, rfl⟩ : ∃ c, d = c + 1 := ⟨d - 1, by omega⟩
  have l1 : ∀ k : Int32, (k.toInt64 ≤ v.toInt64) = (k ≤ v) := fun k => propext i64_le
  have l2 : ∀ k : Int32, (v.toInt64 ≤ k.toInt64) = (v ≤ k) := fun k => propext i64_le
  have sm : w_sm 1 v.toInt64 = (decide (-32768 ≤ v) && decide (v ≤ 32767)) := by
    unfold w_sm
    rw [if_pos rfl]
    show (decide ((-32768 : Int32).toInt64 ≤ v.toInt64) && decide (v.toInt64 ≤ (32767 : Int32).toInt64)) = _
    simp only [i64_le]
  have cst : w_cst 1 v.toInt64 = (if -1 ≤ v ∧ v ≤ 5 then [o8 (3 + v)] else if -128 ≤ v ∧ v ≤ 127 then [o8 16, o8 v] else [o8 17] ++ o16 v) := by
    unfold w_cst
    rw [if_pos rfl, i64_i]
    have e1 : ((-1 : Int64) ≤ v.toInt64 ∧ v.toInt64 ≤ 5) = (-1 ≤ v ∧ v ≤ 5) := by
      rw [show (-1 : Int64) = (-1 : Int32).toInt64 from rfl, show (5 : Int64) = (5 : Int32).toInt64 from rfl, l1, l2]
    have e2 : ((-128 : Int64) ≤ v.toInt64 ∧ v.toInt64 ≤ 127) = (-128 ≤ v ∧ v ≤ 127) := by
      rw [show (-128 : Int64) = (-128 : Int32).toInt64 from rfl, show (127 : Int64) = (127 : Int32).toInt64 from rfl, l1, l2]
    simp only [e1, e2]
  have small : -32768 ≤ v → v ≤ 32767 → w_k 1 v.toInt64 g = w_em (0, 1, 0, v.toInt64, []) 0 (w_tl 1) g := by
    intro q1 q2; unfold w_k; rw [sm, decide_eq_true q1, decide_eq_true q2]; rfl
  have pool : (v < -32768 ∨ 32767 < v) → w_k 1 v.toInt64 g = w_pe 1 1 v.toInt64 0 (w_tl 1) g := by
    intro q; unfold w_k; rw [sm]
    rcases q with q | q
    · rw [decide_eq_false (Int32.not_le.mpr q)]; rfl
    · rw [decide_eq_false (Int32.not_le.mpr q), Bool.and_false]; rfl
  have tr : ∀ {a b : Int32}, a ≤ b → b ≤ v → a ≤ v := fun h1 h2 => Int32.le_trans h1 h2
  have tr2 : ∀ {a b : Int32}, v ≤ a → a ≤ b → v ≤ b := fun h1 h2 => Int32.le_trans h1 h2
  rw [eX1_intConstant]
  have third : ¬ (-1 ≤ v ∧ v ≤ 5) → ¬ (-128 ≤ v ∧ v ≤ 127) → J1 nt N M w ba pf rf lf c (rX1_intConstant d (51, [some (.ref 0), some (.int v)], [], x)) x lm lv g (w_k 1 v.toInt64 g) := by
    intro n1 n2
    rw [bX1_intConstant_51]
    by_cases q1 : v < -32768
    · rw [if_pos q1]
      rw [pool (Or.inl q1)] at hok ⊢
      have := m_pooled (d := d) (s := 1) (v := v.toInt64) (by omega) (by omega) (by omega) h hok (fun _ => by rw [i64_i])
      rw [i64_i] at this
      exact J1.end_ this
    · rw [if_neg q1]
      by_cases q2 : 32767 < v
      · rw [if_pos q2]
        rw [pool (Or.inr q2)] at hok ⊢
        have := m_pooled (d := d) (s := 1) (v := v.toInt64) (by omega) (by omega) (by omega) h hok (fun _ => by rw [i64_i])
        rw [i64_i] at this
        exact J1.end_ this
      · rw [if_neg q2]
        rw [small (Int32.not_lt.mp q1) (Int32.not_lt.mp q2)] at hok ⊢
        refine m_e3 (by omega) h hok rfl rfl ⟨fun _ => ?_, fun _ _ => rfl⟩
        show w_cst 1 v.toInt64 = _
        rw [cst, if_neg n1, if_neg n2]; rfl
  have second : ¬ (-1 ≤ v ∧ v ≤ 5) → J1 nt N M w ba pf rf lf c (rX1_intConstant d (22, [some (.ref 0), some (.int v)], [], x)) x lm lv g (w_k 1 v.toInt64 g) := by
    intro n1
    rw [bX1_intConstant_22]
    by_cases q1 : v < -128
    · rw [if_pos q1]; exact third n1 (fun q => absurd q.1 (Int32.not_le.mpr q1))
    · rw [if_neg q1]
      by_cases q2 : 127 < v
      · rw [if_pos q2]; exact third n1 (fun q => absurd q.2 (Int32.not_le.mpr q2))
      · rw [if_neg q2]
        have p1 := Int32.not_lt.mp q1
        have p2 := Int32.not_lt.mp q2
        rw [small (tr (by decide) p1) (tr2 p2 (by decide))] at hok ⊢
        refine m_e2 (by omega) h hok rfl rfl ⟨fun _ => ?_, fun _ _ => rfl⟩
        show w_cst 1 v.toInt64 = _
        rw [cst, if_neg n1, if_pos ⟨p1, p2⟩]
  by_cases q1 : v < -1
  · rw [if_pos q1]; exact second (fun q => absurd q.1 (Int32.not_le.mpr q1))
  · rw [if_neg q1]
    by_cases q2 : 5 < v
    · rw [if_pos q2]; exact second (fun q => absurd q.2 (Int32.not_le.mpr q2))
    · rw [if_neg q2]
      have p1 := Int32.not_lt.mp q1
      have p2 := Int32.not_lt.mp q2
      rw [small (tr (by decide) p1) (tr2 p2 (by decide))] at hok ⊢
      refine J1.end_ (m_e1 (by omega) h hok rfl rfl ⟨fun _ => ?_, fun _ _ => rfl⟩)
      show w_cst 1 v.toInt64 = _
      rw [cst, if_pos ⟨p1, p2⟩]
theorem m_lc {d : Nat} (hd : 5 ≤ d) (a b : Int32) (h : Q1 nt N M w ba pf rf lf c lm lv x g) (hok : g_ok (w_k 2 (w_ll a b) g)) : J1 nt N M w ba pf rf lf c (kX1 d 65 [.ref 0, .int a, .int b] x) x lm lv g (w_k 2 (w_ll a b) g) := by
  obtain ⟨d, rfl⟩ : ∃ c, d = c + 1 := ⟨d - 1, by omega⟩
  rw [eX1_longConstant]
  have pool : ¬ (a = 0 ∧ (b = 0 ∨ b = 1)) → J1 nt N M w ba pf rf lf c (mj_rV (kX1 d 63 [.ref 0, .int (2 : Int32), .int b, .int a] x) fun x1 => some (none, x1)) x lm lv g (w_k 2 (w_ll a b) g) := by
    intro q
    have e : w_k 2 (w_ll a b) g = w_pe 1 2 (w_ll a b) 0 (w_tl 2) g := by
      unfold w_k w_sm
      rw [if_neg (by decide), if_pos rfl]
      have e0 : ¬ w_ll a b = 0 := fun r => q ⟨by rw [← w_ll_hi a b, r]; rfl, Or.inl (by rw [← w_ll_lo a b, r]; rfl)⟩
      have e1 : ¬ w_ll a b = 1 := fun r => q ⟨by rw [← w_ll_hi a b, r]; rfl, Or.inr (by rw [← w_ll_lo a b, r]; rfl)⟩
      rw [decide_eq_false e0, decide_eq_false e1]; rfl
    rw [e] at hok ⊢
    have := m_pooled (d := d) (s := 2) (v := w_ll a b) (by omega) (by omega) (by omega) h hok (fun r => absurd (Or.inl rfl) r)
    rw [w_ll_lo, show z_hi (2, w_ll a b) = a by unfold z_hi; rw [if_pos (Or.inl rfl)]; exact w_ll_hi a b] at this
    exact J1.end_ this
  have sm : ∀ v : Int64, (v = 0 ∨ v = 1) → w_ll a b = v → J1 nt N M w ba pf rf lf c (rX1_longConstant d (13, [some (.ref 0), some (.int a), some (.int b)], [], x)) x lm lv g (w_k 2 (w_ll a b) g) := by
    intro v hv e
    rw [bX1_longConstant_13]
    have e2 : w_k 2 (w_ll a b) g = w_em (0, 2, 0, w_ll a b, []) 0 (w_tl 2) g := by
      unfold w_k w_sm
      rw [if_neg (by decide), if_pos rfl, e]
      rcases hv with rfl | rfl <;> rfl
    rw [e2] at hok ⊢
    refine J1.end_ (m_e1 (by omega) h hok rfl rfl ⟨fun _ => ?_, fun _ _ => rfl⟩)
    show [o8 (9 + (w_ll a b).toInt32)] = _
    rw [w_ll_lo]
  by_cases q1 : a = 0
  · rw [if_pos q1]
    by_cases q2 : b = 0
    · rw [if_pos q2]; exact sm 0 (Or.inl rfl) (by rw [q1, q2]; rfl)
    · rw [if_neg q2]
      by_cases q3 : b = 1
      · rw [if_pos q3]; exact sm 1 (Or.inr rfl) (by rw [q1, q3]; rfl)
      · rw [if_neg q3]; exact pool (fun r => by rcases r.2 with r | r <;> contradiction)
  · rw [if_neg q1]; exact pool (fun r => q1 r.1)
theorem sX1_plainFloat {d : Nat} (hd : 1 ≤ d) (a : Int32) (x : mj_X) : kX1 d 67 [.int a] x = some (some (.int (w_pf32 a)), x) := by
  obtain ⟨d, rfl⟩ : ∃ c, d = c + 1 := ⟨d - 1, by omega⟩
  rw [eX1_plainFloat]
  unfold w_pf32
  by_cases q : a &&& 2147483647 ≤ 2139095040
  · rw [if_pos q, if_pos q]
  · rw [if_neg q, if_neg q]
theorem w_f0 : (0 : Int64) = (0 : Int32).toInt64 := by decide
theorem w_f1 : (0x3F800000 : Int64) = (1065353216 : Int32).toInt64 := by decide
theorem w_f2 : (0x40000000 : Int64) = (1073741824 : Int32).toInt64 := by decide
theorem w_sm3 (u : Int32) : w_sm 3 u.toInt64 = (decide (u = 0) || decide (u = 1065353216) || decide (u = 1073741824)) := by
  have i64e : ∀ k : Int32, (u.toInt64 = k.toInt64) = (u = k) := fun k => propext ⟨fun q => by rw [← i64_i (a := u), q, i64_i], fun q => by rw [q]⟩
  unfold w_sm
  rw [if_neg (by decide), if_neg (by decide), if_pos rfl, w_f0, w_f1, w_f2]
  simp only [i64e]
theorem w_cs3 (u : Int32) : w_cst 3 u.toInt64 = [o8 (if u = 0 then 11 else if u = 1065353216 then 12 else 13)] := by
  have i64e : ∀ k : Int32, (u.toInt64 = k.toInt64) = (u = k) := fun k => propext ⟨fun q => by rw [← i64_i (a := u), q, i64_i], fun q => by rw [q]⟩
  unfold w_cst
  rw [if_neg (by decide), if_neg (by decide), if_pos rfl, w_f0, w_f1]
  simp only [i64e]
theorem w_k3s {u : Int32} (q : u = 0 ∨ u = 1065353216 ∨ u = 1073741824) : w_k 3 u.toInt64 g = w_em (0, 3, 0, u.toInt64, []) 0 (w_tl 3) g := by
  have : (decide (u = 0) || decide (u = 1065353216) || decide (u = 1073741824)) = true := by
    rcases q with q | q | q
    · rw [decide_eq_true q, Bool.true_or, Bool.true_or]
    · rw [decide_eq_true q, Bool.or_true, Bool.true_or]
    · rw [decide_eq_true q, Bool.or_true]
  unfold w_k; rw [w_sm3, this]; rfl
theorem w_k3p {u : Int32} (q1 : ¬ u = 0) (q2 : ¬ u = 1065353216) (q3 : ¬ u = 1073741824) : w_k 3 u.toInt64 g = w_pe 1 3 u.toInt64 0 (w_tl 3) g := by
  unfold w_k; rw [w_sm3, decide_eq_false q1, decide_eq_false q2, decide_eq_false q3]; rfl
theorem w_enc0 (w : Bool) (p t : Nat) (v : Int64) : w_enc w w_z p (0, t, 0, v, []) = w_cst t v := rfl
theorem w_fx0 (w : Bool) (p t : Nat) (v : Int64) (r : List (Nat × Nat × Nat × Bool)) : w_fx w p (0, t, 0, v, []) r = r := rfl
theorem m_fc1 {d : Nat} (hd : 4 ≤ d) (a u : Int32) (q : u = 0 ∨ u = 1065353216 ∨ u = 1073741824) (h : Q1 nt N M w ba pf rf lf c lm lv x g) (hok : g_ok (w_k 3 u.toInt64 g)) : J1 nt N M w ba pf rf lf c (rX1_floatConstant d (23, [some (.ref 0), some (.int a), some (.int u)], [], x)) x lm lv g (w_k 3 u.toInt64 g) := by
  have cs : ∀ cc : Int32, cc = (if u = 0 then 11 else if u = 1065353216 then 12 else 13) → ∀ p, w_enc w w_z p (0, 3, 0, u.toInt64, []) = o8 cc :: [] := by
    intro cc hcc p
    rw [w_enc0, w_cs3, hcc]
  rw [w_k3s q] at hok ⊢
  rw [bX1_floatConstant_23]
  by_cases q1 : u = 0
  · rw [if_pos q1]; exact J1.end_ (m_e1 (by omega) h hok rfl rfl ⟨cs 11 (by rw [if_pos q1]), fun _ _ => w_fx0 _ _ _ _ _⟩)
  · rw [if_neg q1]
    by_cases q2 : u = 1065353216
    · rw [if_pos q2]; exact J1.end_ (m_e1 (by omega) h hok rfl rfl ⟨cs 12 (by rw [if_neg q1, if_pos q2]), fun _ _ => w_fx0 _ _ _ _ _⟩)
    · rw [if_neg q2]; exact J1.end_ (m_e1 (by omega) h hok rfl rfl ⟨cs 13 (by rw [if_neg q1, if_neg q2]), fun _ _ => w_fx0 _ _ _ _ _⟩)
theorem m_fc2 {d : Nat} (hd : 4 ≤ d) (u : Int32) (q1 : ¬ u = 0) (q2 : ¬ u = 1065353216) (q3 : ¬ u = 1073741824) (h : Q1 nt N M w ba pf rf lf c lm lv x g) (hok : g_ok (w_k 3 u.toInt64 g)) : J1 nt N M w ba pf rf lf c (mj_rV (kX1 d 63 [.ref 0, .int (3 : Int32), .int u, .int (0 : Int32)] x) fun x3 => some (none, x3)) x lm lv g (w_k 3 u.toInt64 g) := by
  rw [w_k3p q1 q2 q3] at hok ⊢
  have := m_pooled (d := d) (s := 3) (v := u.toInt64) (by omega) (by omega) (by omega) h hok (fun _ => by rw [i64_i])
  rw [i64_i] at this
  exact J1.end_ this
theorem m_fc {d : Nat} (hd : 5 ≤ d) (a : Int32) (h : Q1 nt N M w ba pf rf lf c lm lv x g) (hok : g_ok (w_k 3 (w_pf32 a).toInt64 g)) : J1 nt N M w ba pf rf lf c (kX1 d 66 [.ref 0, .int a] x) x lm lv g (w_k 3 (w_pf32 a).toInt64 g) := by
  obtain ⟨d, rfl⟩ : ∃ c, d = c + 1 := ⟨d - 1, by omega⟩
  rw [eX1_floatConstant, sX1_plainFloat (by omega), mj_rI_k]
  by_cases q1 : w_pf32 a = 0
  · rw [if_pos q1]; exact m_fc1 (by omega) a _ (Or.inl q1) h hok
  · rw [if_neg q1]
    by_cases q2 : w_pf32 a = 1065353216
    · rw [if_pos q2]; exact m_fc1 (by omega) a _ (Or.inr (Or.inl q2)) h hok
    · rw [if_neg q2]
      by_cases q3 : w_pf32 a = 1073741824
      · rw [if_pos q3]; exact m_fc1 (by omega) a _ (Or.inr (Or.inr q3)) h hok
      · rw [if_neg q3]; exact m_fc2 (by omega) _ q1 q2 q3 h hok
theorem m_dc {d : Nat} (hd : 5 ≤ d) (a b : Int32) (h : Q1 nt N M w ba pf rf lf c lm lv x g) (hok : g_ok (w_k 4 (w_pd64 (w_ll a b)) g)) : J1 nt N M w ba pf rf lf c (kX1 d 68 [.ref 0, .int a, .int b] x) x lm lv g (w_k 4 (w_pd64 (w_ll a b)) g) := by
  obtain ⟨d, rfl⟩ : ∃ c, d = c + 1 := ⟨d - 1, by omega⟩
  obtain ⟨d', rfl⟩ : ∃ d', d = d' + 1 := ⟨d - 1, by omega⟩
  have pl : kX1 (d' + 1) 69 [.long (w_ll a b)] x = some (some (.long (w_pd64 (w_ll a b))), x) := by rw [eX1_plainDouble]; simp only [lg_cmp_le0]; unfold w_pd64; split <;> rfl
  rw [eX1_doubleConstant, show ((a.toInt64 <<< ((32 : Int32).toInt64 &&& 63)) ||| (b.toInt64 &&& (4294967295 : Int64))) = w_ll a b from rfl, pl, mj_rL_k]
  simp only [lg_cmp_eq0]
  generalize w_pd64 (w_ll a b) = u at *
  have small : (u = 0 ∨ u = 0x3FF0000000000000) → w_k 4 u g = w_em (0, 4, 0, u, []) 0 (w_tl 4) g := by
    intro q; unfold w_k w_sm; rcases q with rfl | rfl <;> rfl
  have go : (u = 0 ∨ u = 0x3FF0000000000000) → J1 nt N M w ba pf rf lf c (rX1_doubleConstant (d' + 1) (30, [some (.ref 0), some (.int a), some (.int b), some (.long u), none], [], x)) x lm lv g (w_k 4 u g) := by
    intro q
    rw [small q] at hok ⊢
    rw [bX1_doubleConstant_30]
    simp only [lg_cmp_eq0]
    by_cases q1 : u = 0
    · rw [if_pos q1]; exact J1.end_ (m_e1 (by omega) h hok rfl rfl ⟨fun _ => by show [o8 (if u = 0 then 14 else 15)] = _; rw [if_pos q1], fun _ _ => rfl⟩)
    · rw [if_neg q1]; exact J1.end_ (m_e1 (by omega) h hok rfl rfl ⟨fun _ => by show [o8 (if u = 0 then 14 else 15)] = _; rw [if_neg q1], fun _ _ => rfl⟩)
  by_cases q1 : u = 0
  · rw [if_pos q1]; exact go (Or.inl q1)
  · rw [if_neg q1]
    by_cases q2 : u = 4607182418800017408
    · rw [if_pos q2]; exact go (Or.inr q2)
    · rw [if_neg q2]
      have e : w_k 4 u g = w_pe 1 4 u 0 (w_tl 4) g := by
        unfold w_k w_sm; rw [if_neg (by decide), if_neg (by decide), if_neg (by decide), if_pos rfl, decide_eq_false q1, decide_eq_false (show ¬ u = 0x3FF0000000000000 from q2)]; rfl
      rw [e] at hok ⊢
      have := m_pooled (d := d' + 1) (s := 4) (v := u) (by omega) (by omega) (by omega) h hok (fun r => absurd (Or.inr rfl) r)
      rw [show z_hi (4, u) = (u >>> ((32 : Int32).toInt64 &&& 63)).toInt32 by unfold z_hi; rw [if_pos (Or.inr rfl)]; rfl] at this
      exact J1.end_ this
theorem m_one {d : Nat} (hd : 6 ≤ d) {t : Nat} (h1 : 1 ≤ t) (h4 : t ≤ 4) (h : Q1 nt N M w ba pf rf lf c lm lv x g) (hok : g_ok (w_one t g)) : J1 nt N M w ba pf rf lf c (kX1 d 61 [.ref 0, .int (nI t)] x) x lm lv g (w_one t g) := by
  obtain ⟨d, rfl⟩ : ∃ c, d = c + 1 := ⟨d - 1, by omega⟩
  rw [eX1_oneOf]
  have : t = 1 ∨ t = 2 ∨ t = 3 ∨ t = 4 := by omega
  rcases this with rfl | rfl | rfl | rfl
  · rw [if_pos (by rfl)]; exact J1.end_ (m_ic (by omega) 1 h hok)
  · rw [if_neg (by decide), if_pos (by rfl)]; exact J1.end_ (m_lc (by omega) 0 1 h hok)
  · rw [if_neg (by decide), if_neg (by decide), if_pos (by rfl)]; exact J1.end_ (m_fc (by omega) 1065353216 h hok)
  · rw [if_neg (by decide), if_neg (by decide), if_neg (by decide)]; exact J1.end_ (m_dc (by omega) 1072693248 0 h hok)
end
