/-! CodeWriter: bits of floats and doubles -/
def w_f32 (i : Int32) : UInt32 := if i &&& 2147483647 ≤ 2139095040 then i.toUInt32 else 2143289344
def w_f64 (i : Int64) : UInt64 := if i &&& 9223372036854775807 ≤ 9218868437227405312 then i.toUInt64 else 9221120237041090560
theorem f32_le (i : Int32) : (i &&& 2147483647 ≤ (2139095040 : Int32)) = (i.toUInt32 &&& 0x7fffffff ≤ 0x7f800000) := by
  have h1 : (i &&& 2147483647).toInt = ((i.toBitVec &&& 2147483647#32).toNat : Int) := by
    show (i &&& 2147483647).toBitVec.toInt = _
    rw [Int32.toBitVec_and]
    show (i.toBitVec &&& 2147483647#32).toInt = _
    refine BitVec.toInt_eq_toNat_of_lt ?_
    have : (i.toBitVec &&& 2147483647#32).toNat ≤ 2147483647 := by rw [BitVec.toNat_and]; exact Nat.and_le_right
    omega
  have h2 : (i.toUInt32 &&& 0x7fffffff).toNat = (i.toBitVec &&& 2147483647#32).toNat := rfl
  rw [Int32.le_iff_toInt_le, UInt32.le_iff_toNat_le, h1, h2]
  show ((_ : Int) ≤ 2139095040) = (_ ≤ 2139095040)
  refine propext ⟨fun h => by omega, fun h => by omega⟩
theorem f64_le (i : Int64) : (i &&& 9223372036854775807 ≤ (9218868437227405312 : Int64)) = (i.toUInt64 &&& 0x7fffffffffffffff ≤ 0x7ff0000000000000) := by
  have h1 : (i &&& 9223372036854775807).toInt = ((i.toBitVec &&& 9223372036854775807#64).toNat : Int) := by
    show (i &&& 9223372036854775807).toBitVec.toInt = _
    rw [Int64.toBitVec_and]
    show (i.toBitVec &&& 9223372036854775807#64).toInt = _
    refine BitVec.toInt_eq_toNat_of_lt ?_
    have : (i.toBitVec &&& 9223372036854775807#64).toNat ≤ 9223372036854775807 := by rw [BitVec.toNat_and]; exact Nat.and_le_right
    omega
  have h2 : (i.toUInt64 &&& 0x7fffffffffffffff).toNat = (i.toBitVec &&& 9223372036854775807#64).toNat := rfl
  rw [Int64.le_iff_toInt_le, UInt64.le_iff_toNat_le, h1, h2]
  show ((_ : Int) ≤ 9218868437227405312) = (_ ≤ 9218868437227405312)
  refine propext ⟨fun h => by omega, fun h => by omega⟩
theorem sX0_toFloat {d : Nat} (hd : 1 ≤ d) (v : Int64) (x : mj_X) : kX0 d 59 [.long v] x = some (some (.float (w_f32 v.toInt32)), x) := by
  obtain ⟨d, rfl⟩ : ∃ c, d = c + 1 := ⟨d - 1, by omega⟩
  rw [eX0_toFloat]; unfold w_f32
  by_cases q : v.toInt32 &&& 2147483647 ≤ (2139095040 : Int32)
  · rw [if_pos q, if_pos q]
    have : vn_sni2f v.toInt32 = false := by
      rw [f32_le] at q
      unfold vn_sni2f
      rw [decide_eq_false (UInt32.not_lt.mpr q)]; rfl
    show mj_rF (bif vn_sni2f v.toInt32 then none else some (some (.float v.toInt32.toUInt32), x)) _ = _
    rw [this]; rfl
  · rw [if_neg q, if_neg q]
theorem sX0_toDouble {d : Nat} (hd : 1 ≤ d) (v : Int64) (x : mj_X) : kX0 d 61 [.long v] x = some (some (.double (w_f64 v)), x) := by
  obtain ⟨d, rfl⟩ : ∃ c, d = c + 1 := ⟨d - 1, by omega⟩
  rw [eX0_toDouble]; unfold w_f64
  by_cases q : v &&& 9223372036854775807 ≤ (9218868437227405312 : Int64)
  · rw [if_pos (by rw [lg_cmp_le0]; exact q), if_pos q]
    have : vn_snl2d v = false := by
      rw [f64_le] at q
      unfold vn_snl2d
      rw [decide_eq_false (UInt64.not_lt.mpr q)]; rfl
    show mj_rD (bif vn_snl2d v then none else some (some (.double v.toUInt64), x)) _ = _
    rw [this]; rfl
  · rw [if_neg (by rw [lg_cmp_le0]; exact q), if_neg q]
theorem w_f2b (i : Int32) : mj_f2b (w_f32 i) = w_pf32 i := by
  unfold mj_f2b w_f32 w_pf32
  by_cases q : i &&& 2147483647 ≤ (2139095040 : Int32)
  · rw [if_pos q, if_pos q, if_pos (by rw [← f32_le]; exact q)]; rfl
  · rw [if_neg q, if_neg q, if_neg (by decide)]
theorem w_d2b (i : Int64) : mj_d2b (w_f64 i) = w_pd64 i := by
  unfold mj_d2b w_f64 w_pd64
  by_cases q : i &&& 9223372036854775807 ≤ (9218868437227405312 : Int64)
  · rw [if_pos q, if_pos q, if_pos (by rw [← f64_le]; exact q)]; rfl
  · rw [if_neg q, if_neg q, if_neg (by decide)]
section
variable {nt : sp_NT} {N : Nat} {P : yP} {X : List (Nat × Bool)} {b : Nat} {lm lm' : Nat → Nat} {lv lv' : Nat → Bool} {x y : mj_X} {g h G H : wG}
theorem sX0_bitsOf {d : Nat} (hd : 2 ≤ d) (a : Y1 nt N P X b lm lv x g) {n : Int32} (hn : sp_nd N n = true) (h1 : 1 ≤ nK nt n) (h4 : nK nt n ≤ 4) : kX0 d 58 [.ref 0, .int n] x = some (some (.long (w_bits nt n)), x) := by
  obtain ⟨d, rfl⟩ : ∃ c, d = c + 1 := ⟨d - 1, by omega⟩
  have hk : nK nt n = 1 ∨ nK nt n = 2 ∨ nK nt n = 3 ∨ nK nt n = 4 := by
    have l1 := i_lo h1 (k := 1) rfl
    have l4 := i_hi h4 (k := 4) rfl
    have e := nI_nn (v := nK nt n) (Int32.le_trans (by decide) h1)
    have : (nK nt n).toNatClampNeg = 1 ∨ (nK nt n).toNatClampNeg = 2 ∨ (nK nt n).toNatClampNeg = 3 ∨ (nK nt n).toNatClampNeg = 4 := by omega
    rcases this with q | q | q | q <;> rw [q] at e
    · exact Or.inl e.symm
    · exact Or.inr (Or.inl e.symm)
    · exact Or.inr (Or.inr (Or.inl e.symm))
    · exact Or.inr (Or.inr (Or.inr e.symm))
  rw [eX0_bitsOf, a.nd hn, a.T.1]
  unfold w_bits
  show mj_sw (nK nt n) 1 _ _ _ = _
  rcases hk with hk | hk | hk | hk
  · rw [hk]
    show rX0_bitsOf d (32, [some (.ref 0), some (.int n)], [], x) = _
    rw [bX0_bitsOf_32, a.nd hn, a.T.2.1]; rfl
  · rw [hk]
    show rX0_bitsOf d (54, [some (.ref 0), some (.int n)], [], x) = _
    rw [bX0_bitsOf_54, a.nd hn, a.nd hn, a.T.2.1, a.T.2.2.1]; rfl
  · rw [hk]
    show rX0_bitsOf d (40, [some (.ref 0), some (.int n)], [], x) = _
    obtain ⟨d', rfl⟩ : ∃ e, d = e + 1 := ⟨d - 1, by omega⟩
    rw [bX0_bitsOf_40, a.nd hn, sX0_toFloat (by omega), mj_rF_k, eX0_ofFloat, mj_rL_k, a.T.2.1, i64_i, w_f2b]; rfl
  · rw [hk]
    show rX0_bitsOf d (77, [some (.ref 0), some (.int n)], [], x) = _
    obtain ⟨d', rfl⟩ : ∃ e, d = e + 1 := ⟨d - 1, by omega⟩
    rw [bX0_bitsOf_77, a.nd hn, a.nd hn, sX0_toDouble (by omega), mj_rD_k, eX0_ofDouble, mj_rL_k, a.T.2.1, a.T.2.2.1, w_d2b]; rfl
/-! constants -/
theorem w_em_n {i : wI} {off : Nat} {on : List Nat} : g_nl (w_em i off on g) = g_nl g ∧ g_pl (w_em i off on g) = g_pl g := by
  unfold w_em w_es; cases hq : w_q g <;> exact ⟨rfl, rfl⟩
theorem w_k_n {t : Nat} {v : Int64} : g_nl (w_k t v g) = g_nl g ∧ g_pl (w_k t v g) = g_pl g := by
  unfold w_k; cases w_sm t v
  · exact w_pe_n
  · exact w_em_n
theorem w_k_q {t : Nat} {v : Int64} (hq : w_q g = true) : w_k t v g = g := by
  unfold w_k; cases w_sm t v
  · exact w_pe_q hq
  · exact w_em_q' hq
/-- nothing is written: what comes behind S's quiet state -/
theorem KJ.quiet {n : Nat} {r : mj_R} (a : Y1 nt N P X b lm lv x g) (hl : yq x) (e : r = some (none, x)) (hm : wM g G) (hp : g_pl G = g_pl g) (hq : w_q g = true → G = g) (hn : n ≤ g_nl g) : KJ nt N P X b n g r x lm lv G := by
  rw [e]
  by_cases h0 : x.1 0 29 = 0
  · rw [hq (a.dead hl h0).2.2]; exact KJ.id_ a
  · exact KJ.skip a h0 hm hp hn
theorem c_pe {d n tag s off : Nat} {v : Int64} {on : List Nat} (hd : 2 ≤ d) {cc : Int32} {bs : List Int32} {k : Int32 → mj_X → mj_R} (a : Y1 nt N P X b lm lv x g) (h29 : x.1 0 29 = 0) (hq : w_q g = false) (hok : g_ok (w_pe tag s v off on g)) (hs : s < 100)
    (hk : w_px s v (g_po g) ≤ 201 → ∃ k', (∀ z, k (nI (w_px s v (g_po g))) z = mj_rV (kX0 d 37 [.ref 0, .int cc] z) k') ∧ EK (p_w P) (p_M P) (p_cf P) bs k' ∧ w_in1 (p_w P) (tag, s, w_px s v (g_po g), v, []) cc bs) : KJ nt N P X b n g (mj_rI (kX0 d 51 [.ref 0, .int (nI s), .long v] x) k) x lm lv (w_pe tag s v off on g) := by
  have e : w_pe tag s v off on g = w_em (tag, s, w_px s v (g_po g), v, []) off on (s_ok ((w_pn s v (g_po g)).length ≤ 100) (s_po (w_pn s v (g_po g)) g)) := by unfold w_pe; rw [hq]; rfl
  rw [e] at hok ⊢
  have hlen : (w_pn s v (g_po g)).length ≤ 100 := (((wM.rf (s_ok ((w_pn s v (g_po g)).length ≤ 100) (s_po (w_pn s v (g_po g)) g))).em _ _ _).1 hok).2
  obtain ⟨x', e1, q, f, z29, t⟩ := c_pool hd a h29 hs hlen
  have hpx : w_px s v (g_po g) ≤ 201 := by
    have h1 := w_px_le s v (g_po g)
    have h2 := (a.ex h29).2.2.2.2.2.2.2.2.1.2.2.1
    omega
  obtain ⟨k', k1, k2, k3⟩ := hk hpx
  have q' : Y1 nt N P X b lm lv x' (s_ok ((w_pn s v (g_po g)).length ≤ 100) (s_po (w_pn s v (g_po g)) g)) := q
  have j := c_em (n := n) (off := off) (on := on) hd q' k3 k2
  rw [e1, mj_rI_k, k1]
  obtain ⟨lm2, lv2, x2, e2, q2, l2, f2, t2⟩ := j
  refine ⟨lm2, lv2, x2, e2, q2, l2, f.tr f2, fun z => ?_⟩
  obtain ⟨u1, u2⟩ := t2 z
  exact ⟨h29, yT.tr (h := s_po (w_pn s v (g_po g)) g) t u2⟩
theorem sX0_isIn' {d : Nat} (hd : 1 ≤ d) (v lo hi : Int64) (x : mj_X) {k : Int32 → mj_X → mj_R} : mj_rI (kX0 d 2 [.long v, .long lo, .long hi] x) k = k (sp_b (sp_in v lo hi)) x := by rw [sX0_isIn hd, mj_rI_k]
/-- much: whatever is tried -/
theorem c_kM {d : Nat} (hd : 4 ≤ d) {t : Nat} (h1 : 1 ≤ t) (h4 : t ≤ 4) {v : Int64} (a : Y1 nt N P X b lm lv x g) (h29 : ¬ x.1 0 29 = 0) : ∃ x', kX0 d 50 [.ref 0, .int (nI t), .long v] x = some (none, x') ∧ Y1 nt N P X b lm lv x' g ∧ yfr (yw (p_pf P) (p_lf P)) (p_pf P) x x' ∧ ¬ x'.1 0 29 = 0 := by
  obtain ⟨d, rfl⟩ : ∃ c, d = c + 1 := ⟨d - 1, by omega⟩
  have yqx : ∀ {z : mj_X}, ¬ z.1 0 29 = 0 → yq z := fun h => Or.inr h
  have E1 : ∀ (cc u : Int32) (z : mj_X), ¬ z.1 0 29 = 0 → mj_rV (kX0 d 37 [.ref 0, .int cc] z) (fun x5 => mj_rV (kX0 d 38 [.ref 0, .int u] x5) fun x6 => some (none, x6)) = some (none, z) := fun cc u z h => by
    rw [c_codeq (by omega) (yqx h), mj_rV_k, e38 (d := d) (by omega) u z (yqx h), mj_rV_k]
  have E2 : ∀ (cc u : Int32) (z : mj_X), ¬ z.1 0 29 = 0 → mj_rV (kX0 d 37 [.ref 0, .int cc] z) (fun x5 => mj_rV (kX0 d 42 [.ref 0, .int u] x5) fun x6 => some (none, x6)) = some (none, z) := fun cc u z h => by
    rw [c_codeq (by omega) (yqx h), mj_rV_k, e42 (d := d) (by omega) u z (yqx h), mj_rV_k]
  have E0 : ∀ (cc : Int32) (z : mj_X), ¬ z.1 0 29 = 0 → mj_rV (kX0 d 37 [.ref 0, .int cc] z) (fun x5 => some (none, x5)) = some (none, z) := fun cc z h => by
    rw [c_codeq (by omega) (yqx h), mj_rV_k]
  have done : ∀ r : mj_R, r = some (none, x) → ∃ x', r = some (none, x') ∧ Y1 nt N P X b lm lv x' g ∧ yfr (yw (p_pf P) (p_lf P)) (p_pf P) x x' ∧ ¬ x'.1 0 29 = 0 := fun r hr => ⟨x, hr, a, yfr.rf _ _ _, h29⟩
  have at218 : ∀ o4 : Option Value, ∃ x', rX0_constant d (218, [some (.ref 0), some (.int (nI t)), some (.long v), none, o4], [], x) = some (none, x') ∧ Y1 nt N P X b lm lv x' g ∧ yfr (yw (p_pf P) (p_lf P)) (p_pf P) x x' ∧ ¬ x'.1 0 29 = 0 := by
    intro o4
    obtain ⟨i, x1, e1, q1, f1, z1⟩ := c_poolM (d := d) (by omega) (s := nI t) (v := v) a h29
    refine ⟨x1, ?_, q1, f1, z1⟩
    rw [bX0_constant_218, e1, mj_rI_k, sX0_isWide (by omega), mj_rI_k]
    split
    · split
      · exact E2 _ _ _ z1
      · exact E1 _ _ _ z1
    · exact E2 _ _ _ z1
  have at151 : ∀ s0 : Int32, ∃ x', rX0_constant d (151, [some (.ref 0), some (.int (nI t)), some (.long v), none, none], [.int s0], x) = some (none, x') ∧ Y1 nt N P X b lm lv x' g ∧ yfr (yw (p_pf P) (p_lf P)) (p_pf P) x x' ∧ ¬ x'.1 0 29 = 0 := by
    intro s0
    rw [bX0_constant_151]
    split
    · exact at218 _
    · exact done _ (E0 _ _ h29)
  have at200 : ∀ s0 : Int32, ∃ x', rX0_constant d (200, [some (.ref 0), some (.int (nI t)), some (.long v), none, none], [.int s0], x) = some (none, x') ∧ Y1 nt N P X b lm lv x' g ∧ yfr (yw (p_pf P) (p_lf P)) (p_pf P) x x' ∧ ¬ x'.1 0 29 = 0 := by
    intro s0
    rw [bX0_constant_200]
    split
    · exact at218 _
    · exact done _ (E0 _ _ h29)
  have at111 : ∃ x', rX0_constant d (111, [some (.ref 0), some (.int (nI t)), some (.long v), none, none], [], x) = some (none, x') ∧ Y1 nt N P X b lm lv x' g ∧ yfr (yw (p_pf P) (p_lf P)) (p_pf P) x x' ∧ ¬ x'.1 0 29 = 0 := by
    rw [bX0_constant_111]
    repeat' split
    all_goals first | exact at151 _ | exact at200 _ | exact at218 _
  rw [eX0_constant]
  split
  · exact done _ rfl
  · split
    · rw [sX0_isIn' (by omega)]
      split
      · rw [sX0_isIn' (by omega)]
        split
        · rw [sX0_isIn' (by omega)]
          split
          · exact at218 _
          · exact done _ (E2 _ _ _ h29)
        · exact done _ (E1 _ _ _ h29)
      · exact done _ (E0 _ _ h29)
    · split
      · rw [sX0_isIn' (by omega)]
        split
        · exact at111
        · exact done _ (E0 _ _ h29)
      · exact at111
theorem w_in_k0 {t : Nat} {v : Int64} {cc : Int32} {bs : List Int32} (h : w_cst t v = o8 cc :: bs) : w_in1 (p_w P) (0, t, 0, v, []) cc bs := ⟨fun _ => h, fun _ _ => rfl⟩
theorem c_k {d n t : Nat} {v : Int64} (hd : 5 ≤ d) (h1 : 1 ≤ t) (h4 : t ≤ 4) (hn : n ≤ g_nl g) (a : Y1 nt N P X b lm lv x g) (hok : g_ok (w_k t v g)) : KJ nt N P X b n g (kX0 d 50 [.ref 0, .int (nI t), .long v] x) x lm lv (w_k t v g) := by
  by_cases hl : yq x
  · by_cases h29 : x.1 0 29 = 0
    · obtain ⟨h30, -, hq⟩ := a.dead hl h29
      rw [w_k_q hq]
      obtain ⟨d, rfl⟩ : ∃ c, d = c + 1 := ⟨d - 1, by omega⟩
      rw [eX0_constant, if_pos h30]; exact KJ.id_ a
    · obtain ⟨x', e, q, f, z⟩ := c_kM (d := d) (by omega) h1 h4 (v := v) a h29
      obtain ⟨lm2, lv2, x2, e2, q2, l2, f2, t2⟩ := KJ.skip (n := n) q z ((wM.rf g).k t v) w_k_n.2 hn
      injection e2 with e2
      injection e2 with e2 e3
      subst e3
      exact ⟨lm2, lv2, x', e, q2, l2, f, fun w => absurd w z⟩
  · obtain ⟨h29, h30, hq⟩ := a.live hl
    obtain ⟨d, rfl⟩ : ∃ c, d = c + 1 := ⟨d - 1, by omega⟩
    have at218 : ∀ o4 : Option Value, w_sm t v = false → KJ nt N P X b n g (rX0_constant d (218, [some (.ref 0), some (.int (nI t)), some (.long v), none, o4], [], x)) x lm lv (w_k t v g) := by
      intro o4 hsm
      have ek : w_k t v g = w_pe 1 t v 0 (w_tl t) g := by unfold w_k; rw [hsm]; rfl
      rw [ek] at hok ⊢
      rw [bX0_constant_218]
      by_cases h2 : t = 2 ∨ t = 4
      · refine c_pe (cc := 20) (bs := o16 (nI (w_px t v (g_po g)))) (by omega) a h29 hq hok (by omega) (fun _ => ⟨fun z => mj_rV (kX0 d 42 [.ref 0, .int (nI (w_px t v (g_po g)))] z) fun z => some (none, z), fun z => ?_, ?_, ?_⟩)
        · show mj_rI (kX0 d 27 [.int (nI t)] z) _ = _
          rw [sX0_isWide (by omega), mj_rI_k, sp_bi, if_neg (by rw [sp_wide_n (by omega), decide_eq_true h2]; decide)]
        · have := (EK.two (w := p_w P) (M := p_M P) (cf := p_cf P) (d := d) (by omega) (nI (w_px t v (g_po g)))).seq (EK.id_ _ _ _)
          rw [List.append_nil] at this; exact this
        · refine ⟨fun p => ?_, fun _ _ => rfl⟩
          show (if t = 2 ∨ t = 4 then [o8 20] ++ o16 _ else _) = _
          rw [if_pos h2]; rfl
      · refine c_pe (cc := 18) (bs := [o8 (nI (w_px t v (g_po g)))]) (by omega) a h29 hq hok (by omega) (fun hp => ⟨fun z => mj_rV (kX0 d 38 [.ref 0, .int (nI (w_px t v (g_po g)))] z) fun z => some (none, z), fun z => ?_, ?_, ?_⟩)
        · show mj_rI (kX0 d 27 [.int (nI t)] z) _ = _
          rw [sX0_isWide (by omega), mj_rI_k, sp_bi, if_pos (by rw [sp_wide_n (by omega), decide_eq_false h2]), if_neg (show ¬ (256 : Int32) ≤ nI _ from nI_ge (b := 256) (by omega) (by omega))]
        · exact (EK.emit (w := p_w P) (M := p_M P) (cf := p_cf P) (d := d) (by omega) (nI (w_px t v (g_po g)))).seq (EK.id_ _ _ _)
        · refine ⟨fun p => ?_, fun _ _ => rfl⟩
          show (if t = 2 ∨ t = 4 then _ else if w_px t v (g_po g) < 256 then [o8 18, o8 _] else _) = _
          rw [if_neg h2, if_pos (by omega)]
    have small : ∀ {cc : Int32} {bs : List Int32} {k : mj_X → mj_R}, w_sm t v = true → w_cst t v = o8 cc :: bs → EK (p_w P) (p_M P) (p_cf P) bs k → KJ nt N P X b n g (mj_rV (kX0 d 37 [.ref 0, .int cc] x) k) x lm lv (w_k t v g) := by
      intro cc bs k hsm hc hk
      have ek : w_k t v g = w_em (0, t, 0, v, []) 0 (w_tl t) g := by unfold w_k; rw [hsm]; rfl
      rw [ek]
      exact c_em (by omega) a (w_in_k0 hc) hk
    have sb0 : ∀ {c : Bool} {α : Type} {p q : α}, (if sp_b c = 0 then p else q) = (bif c then q else p) := by
      intro c α p q; cases c <;> rfl
    rw [eX0_constant, if_neg (by rw [h30]; decide)]
    have ht : t = 1 ∨ t = 2 ∨ t = 3 ∨ t = 4 := by omega
    rcases ht with rfl | rfl | rfl | rfl
    · rw [if_pos (by rfl), sX0_isIn' (by omega), sb0]
      have c1 : w_cst 1 v = (if -1 ≤ v ∧ v ≤ 5 then [o8 (3 + v.toInt32)] else if -128 ≤ v ∧ v ≤ 127 then [o8 16, o8 v.toInt32] else [o8 17] ++ o16 v.toInt32) := rfl
      have sm1 : w_sm 1 v = (decide (-32768 ≤ v) && decide (v ≤ 32767)) := rfl
      have le3 : ∀ {p q r : Int64}, p ≤ q → q ≤ r → p ≤ r := fun h1 h2 => Int64.le_trans h1 h2
      by_cases q1 : -1 ≤ v ∧ v ≤ 5
      · have : sp_in v (-1) 5 = true := by unfold sp_in; rw [decide_eq_true q1.1, decide_eq_true q1.2]; rfl
        rw [this]
        exact small (by rw [sm1, decide_eq_true (le3 (by decide) q1.1), decide_eq_true (le3 q1.2 (by decide))]; rfl) (by rw [c1, if_pos q1]) (EK.id_ _ _ _)
      · have : sp_in v (-1) 5 = false := by
          unfold sp_in; rw [Bool.and_eq_false_iff]
          by_cases z : -1 ≤ v
          · exact Or.inr (decide_eq_false (fun w => q1 ⟨z, w⟩))
          · exact Or.inl (decide_eq_false z)
        rw [this]
        simp only [cond_false]
        rw [sX0_isIn' (by omega), sb0]
        by_cases q2 : -128 ≤ v ∧ v ≤ 127
        · have : sp_in v (-128) 127 = true := by unfold sp_in; rw [decide_eq_true q2.1, decide_eq_true q2.2]; rfl
          rw [this]
          exact small (by rw [sm1, decide_eq_true (le3 (by decide) q2.1), decide_eq_true (le3 q2.2 (by decide))]; rfl) (by rw [c1, if_neg q1, if_pos q2]; rfl) ((EK.emit (d := d) (by omega) v.toInt32).seq (EK.id_ _ _ _))
        · have : sp_in v (-128) 127 = false := by
            unfold sp_in; rw [Bool.and_eq_false_iff]
            by_cases z : -128 ≤ v
            · exact Or.inr (decide_eq_false (fun w => q2 ⟨z, w⟩))
            · exact Or.inl (decide_eq_false z)
          rw [this]
          simp only [cond_false]
          rw [sX0_isIn' (by omega), sb0]
          by_cases q3 : -32768 ≤ v ∧ v ≤ 32767
          · have : sp_in v (-32768) 32767 = true := by unfold sp_in; rw [decide_eq_true q3.1, decide_eq_true q3.2]; rfl
            rw [this]
            have e2 := (EK.two (w := p_w P) (M := p_M P) (cf := p_cf P) (d := d) (by omega) v.toInt32).seq (EK.id_ _ _ _)
            rw [List.append_nil] at e2
            exact small (by rw [sm1, decide_eq_true q3.1, decide_eq_true q3.2]; rfl) (by rw [c1, if_neg q1, if_neg q2]; rfl) e2
          · have : sp_in v (-32768) 32767 = false := by
              unfold sp_in; rw [Bool.and_eq_false_iff]
              by_cases z : -32768 ≤ v
              · exact Or.inr (decide_eq_false (fun w => q3 ⟨z, w⟩))
              · exact Or.inl (decide_eq_false z)
            rw [this]
            exact at218 none (by rw [sm1]; exact this)
    · rw [if_neg (by decide), if_pos (by rfl), sX0_isIn' (by omega), sb0]
      have in01 : sp_in v 0 1 = (decide (v = 0) || decide (v = 1)) := by
        unfold sp_in
        rw [Bool.eq_iff_iff]
        simp only [Bool.and_eq_true, Bool.or_eq_true, decide_eq_true_eq, Int64.le_iff_toInt_le]
        constructor
        · rintro ⟨z1, z2⟩
          have z1 : (0 : Int) ≤ v.toInt := z1
          have z2 : v.toInt ≤ 1 := z2
          have : v.toInt = 0 ∨ v.toInt = 1 := by omega
          rcases this with z | z
          · exact Or.inl (Int64.toInt_inj.mp z)
          · exact Or.inr (Int64.toInt_inj.mp z)
        · rintro (rfl | rfl) <;> decide
      have sm2 : w_sm 2 v = sp_in v 0 1 := by rw [in01]; rfl
      cases hs : sp_in v 0 1
      · simp only [cond_false]
        rw [bX0_constant_111, if_neg (by decide), if_neg (by decide)]
        exact at218 none (by rw [sm2, hs])
      · exact small (by rw [sm2, hs]) rfl (EK.id_ _ _ _)
    · rw [if_neg (by decide), if_neg (by decide), bX0_constant_111, if_pos (by rfl), lg_if, lg_if, lg_if]
      have sm3 : w_sm 3 v = (decide (v = 0) || decide (v = 0x3F800000) || decide (v = 0x40000000)) := rfl
      have c3 : w_cst 3 v = [o8 (if v = 0 then 11 else if v = 0x3F800000 then 12 else 13)] := rfl
      by_cases q1 : v = 0
      · rw [if_pos q1, bX0_constant_151, if_neg (by decide)]
        exact small (by rw [sm3, decide_eq_true q1]; rfl) (by rw [c3, if_pos q1]; rfl) (EK.id_ _ _ _)
      · rw [if_neg q1]
        by_cases q2 : v = 0x3F800000
        · rw [if_pos q2, bX0_constant_151, if_neg (by decide)]
          exact small (by rw [sm3, decide_eq_true q2, Bool.or_true]; rfl) (by rw [c3, if_neg q1, if_pos q2]; rfl) (EK.id_ _ _ _)
        · rw [if_neg q2]
          by_cases q3 : v = 0x40000000
          · rw [if_pos q3, bX0_constant_151, if_neg (by decide)]
            exact small (by rw [sm3, decide_eq_true q3, Bool.or_true]) (by rw [c3, if_neg q1, if_neg q2]; rfl) (EK.id_ _ _ _)
          · rw [if_neg q3, bX0_constant_151, if_pos (by rfl)]
            exact at218 _ (by rw [sm3, decide_eq_false q1, decide_eq_false q2, decide_eq_false q3]; rfl)
    · rw [if_neg (by decide), if_neg (by decide), bX0_constant_111, if_neg (by decide), if_pos (by rfl), lg_if, lg_if]
      have sm4 : w_sm 4 v = (decide (v = 0) || decide (v = 0x3FF0000000000000)) := rfl
      have c4 : w_cst 4 v = [o8 (if v = 0 then 14 else 15)] := rfl
      by_cases q1 : v = 0
      · rw [if_pos q1, bX0_constant_200, if_neg (by decide)]
        exact small (by rw [sm4, decide_eq_true q1]; rfl) (by rw [c4, if_pos q1]; rfl) (EK.id_ _ _ _)
      · rw [if_neg q1]
        by_cases q2 : v = 0x3FF0000000000000
        · rw [if_pos q2, bX0_constant_200, if_neg (by decide)]
          exact small (by rw [sm4, decide_eq_true q2, Bool.or_true]) (by rw [c4, if_neg q1]; rfl) (EK.id_ _ _ _)
        · rw [if_neg q2, bX0_constant_200, if_pos (by rfl)]
          exact at218 _ (by rw [sm4, decide_eq_false q1, decide_eq_false q2]; rfl)
theorem c_one {d n t : Nat} (hd : 6 ≤ d) (h1 : 1 ≤ t) (h4 : t ≤ 4) (hn : n ≤ g_nl g) (a : Y1 nt N P X b lm lv x g) (hok : g_ok (w_one t g)) : KJ nt N P X b n g (kX0 d 49 [.ref 0, .int (nI t)] x) x lm lv (w_one t g) := by
  obtain ⟨d, rfl⟩ : ∃ c, d = c + 1 := ⟨d - 1, by omega⟩
  rw [eX0_one]
  have ht : t = 1 ∨ t = 2 ∨ t = 3 ∨ t = 4 := by omega
  rcases ht with rfl | rfl | rfl | rfl
  · rw [if_neg (by decide), if_neg (by decide)]; exact (c_k (t := 1) (v := 1) (by omega) h1 h4 hn a hok).end_
  · rw [if_neg (by decide), if_neg (by decide)]; exact (c_k (t := 2) (v := 1) (by omega) h1 h4 hn a hok).end_
  · rw [if_pos (by rfl)]; exact (c_k (t := 3) (v := 0x3F800000) (by omega) h1 h4 hn a hok).end_
  · rw [if_neg (by decide), if_pos (by rfl)]; exact (c_k (t := 4) (v := 0x3FF0000000000000) (by omega) h1 h4 hn a hok).end_
end
