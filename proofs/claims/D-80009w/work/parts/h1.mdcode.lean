/-! codes and their operands -/
section
variable {nt : sp_NT} {N M : Nat} {w : Bool} {ba pf rf lf c : Nat}
theorem w_es_f {i : wI} {F : wF} {g : wG} (hq : w_q g = false) : g_it (w_es i F g) = (i, (g_L g, g_st g)) :: g_it g ∧ g_al (w_es i F g) = g_al g ∧ g_ov (w_es i F g) = g_ov g ∧ g_L (w_es i F g) = F.1 ∧ g_st (w_es i F g) = F.2 ∧ g_ms (w_es i F g) = max (g_ms g) F.2.length ∧ g_ln (w_es i F g) = w_told (g_it g).length (g_pn g) (g_ln g) ∧ g_pn (w_es i F g) = -1 ∧ (w_es i F g).2.2.2.2.2.2.1 = g.2.2.2.2.2.2.1 ∧ (w_es i F g).2.2.2.2.2.2.2.1 = g.2.2.2.2.2.2.2.1 ∧ (w_es i F g).2.2.2.2.2.2.2.2.1 = g.2.2.2.2.2.2.2.2.1 ∧ g_cx (w_es i F g) = g_cx g ∧ g_pl (w_es i F g) = g_pl g := by
  unfold w_es; rw [hq]; exact ⟨rfl, rfl, rfl, rfl, rfl, rfl, rfl, rfl, rfl, rfl, rfl, rfl, rfl⟩
theorem w_es_q {i : wI} {F : wF} {g : wG} (hq : w_q g = true) : w_es i F g = g := by unfold w_es; rw [hq]; rfl
theorem w_es_ok {i : wI} {F : wF} {g : wG} (hq : w_q g = false) (h : g_ok (w_es i F g)) : w_ty i (g_L g, g_st g) F ∧ (g_L g).length ≤ g_mx g ∧ F.2.length < 3370 := by
  unfold w_es at h; rw [hq] at h; exact h.2
/-- a code begins -/
theorem m_code {d : Nat} (hd : 3 ≤ d) {lm : Nat → Nat} {lv : Nat → Bool} {x : mj_X} {g : wG} {i : wI} {F : wF} {cc a2 a3 : Int32} (h : Q1 nt N M w ba pf rf lf c lm lv x g) (hok : g_ok (w_es i F g))
    (hs : w_q g = false → nI (g_st g).length + (a3 - a2) = nI F.2.length) (hc : 1 ≤ (w_enc w w_z (w_by_ w w_z (g_it g)).length i).length) :
    ∃ x', kX1 d 42 [.ref 0, .int cc, .int a2, .int a3] x = some (none, x') ∧ zfr (zw ba pf lf) x x' ∧ Z1 nt N M w ba pf rf lf c lm lv (w_by_ w w_z (g_it g) ++ [o8 cc]) (w_fxs w w_z (g_it g)) x' g (w_es i F g) := by
  obtain ⟨d, rfl⟩ : ∃ c, d = c + 1 := ⟨d - 1, by omega⟩
  obtain ⟨he, hlm, h⟩ := h
  have hmono : wM g (w_es i F g) := (wM.rf g).es i F
  have hba : ba ≤ 90000 := he.2.2.2.2.2.2.2.1
  have hpl : g_pl (w_es i F g) = g_pl g := by
    cases hq : w_q g
    · exact (w_es_f hq).2.2.2.2.2.2.2.2.2.2.2.2
    · rw [w_es_q hq]
  have hnl : g_nl (w_es i F g) = g_nl g := by
    cases hq : w_q g
    · exact congrArg Prod.fst (w_es_f (i := i) (F := F) hq).2.2.2.2.2.2.2.2.2.2.1
    · rw [w_es_q hq]
  have he' : z_env nt N M ba pf lf (g_pl (w_es i F g)) x := by rw [hpl]; exact he
  have hlm' : ∀ l, l < g_nl (w_es i F g) → lm l < 300000 := by rw [hnl]; exact hlm
  rw [eX1_code]
  rcases h with ⟨hov, h⟩ | ⟨h, ho⟩
  · have hs35 : x.1 0 35 = sp_b (g_al g) := h.2.2.2.2.2.2.1
    cases ha : g_al g
    · rw [ha] at hs35
      rw [if_pos (by rw [hs35]; rfl)]
      have hq : w_q g = true := by unfold w_q; rw [ha]; rfl
      exact ⟨x, rfl, zfr.rf _ x, he', hlm', Or.inr (Or.inr ⟨ha, w_es_q hq, hov, h⟩)⟩
    · rw [ha] at hs35
      have hq : w_q g = false := (w_q_iff g).mpr ⟨ha, hov⟩
      obtain ⟨k1, k2, k3, k4, k5, k6, k7, k8, k9, k10, k11, k12, k13⟩ := w_es_f (i := i) (F := F) hq
      obtain ⟨-, -, hst⟩ := w_es_ok hq hok
      rw [if_neg (by rw [hs35]; decide), if_pos h.1]
      -- behind the line
      have rest : ∀ y, zfr (zw ba pf lf) x y → (z1 w ba pf lf c lm lv (w_by_ w w_z (g_it g)) (w_fxs w w_z (g_it g)) (g_it g) y (s_ln (w_told (g_it g).length (g_pn g) (g_ln g)) (-1) g) ∨ (m1 ba lf c y ∧ w_over w rf lf (w_es i F g))) →
          ∃ x', rX1_code d (35, [some (.ref 0), some (.int cc), some (.int a2), some (.int a3)], [], y) = some (none, x') ∧ zfr (zw ba pf lf) x x' ∧ Z1 nt N M w ba pf rf lf c lm lv (w_by_ w w_z (g_it g) ++ [o8 cc]) (w_fxs w w_z (g_it g)) x' g (w_es i F g) := by
        intro y fy hy
        obtain ⟨y1, e1, f1, r1⟩ := m_oct (d := d) (by omega) cc hba hy (fun q => by
          right; left; rw [k1]
          show 65535 < (w_by_ w w_z (g_it g) ++ w_enc w w_z (w_by_ w w_z (g_it g)).length i).length
          rw [List.length_append]; omega)
        rw [bX1_code_35, e1, mj_rV_k, sX1_max (by omega), mj_rI_k]
        have ff := (((fy.tr f1).w (k := 0) (j := 36) ((y1.1 0 36) + (a3 - a2)) rfl).w (k := 0) (j := 37) (mj_max (y1.1 0 37) ((y1.1 0 36) + (a3 - a2))) rfl)
        refine ⟨_, rfl, ff, he'.fr ff, hlm', ?_⟩
        rcases r1 with r1 | ⟨r1, r2⟩
        · left
          refine ⟨hq, by rw [k2]; exact ha, by rw [k3]; exact hov, ?_⟩
          obtain ⟨z1_, z2, z3, z4, z5, z6, s1, s2, s3, s4⟩ := r1
          have s2 : y1.1 0 36 = nI (g_st g).length := s2 ha
          have s3 : y1.1 0 37 = nI (g_ms g) := s3
          have s4 : g_ms g < 3370 := s4
          refine ⟨z1_, z2, ?_, ?_, ?_, ?_, ?_⟩
          · rw [hnl]; exact z3
          · rw [k11]; exact z4
          · show z_p pf _ _ _ _ _ _ (w_es i F g).2.2.2.2.2.2.1
            rw [k9]; exact z5
          · rw [k7, k8]; exact z6
          · refine ⟨by rw [k2]; exact s1, fun _ => ?_, ?_, ?_⟩
            · show (y1.1 0 36) + (a3 - a2) = _
              rw [s2, hs hq, k5]
            · show mj_max (y1.1 0 37) ((y1.1 0 36) + (a3 - a2)) = _
              rw [s2, s3, hs hq, nI_max (by omega) (by omega), k6]
            · rw [k6]; exact Nat.max_lt.mpr ⟨s4, by omega⟩
        · exact Or.inr (Or.inl ⟨r1, r2⟩)
      obtain ⟨n1, n2, n3, -⟩ := h.2.2.2.2.2.1
      rcases n3 with n3 | n3
      · rw [if_pos (by rw [n2, n3]; decide)]
        refine rest x (zfr.rf _ x) (Or.inl ?_)
        have : w_told (g_it g).length (g_pn g) (g_ln g) = g_ln g := by unfold w_told; rw [if_pos n3]
        rw [this]
        obtain ⟨z1_, z2, z3, z4, z5, z6, z7⟩ := h
        exact ⟨z1_, z2, z3, z4, z5, n3 ▸ z6, z7⟩
      · rw [if_neg (by rw [n2]; exact Int32.not_lt.mpr n3), n2]
        obtain ⟨x1, e1, f1, r1⟩ := m_line (d := d) (P := w_over w rf lf (w_es i F g)) (by omega) he h n3 (fun q => by right; right; right; rw [k7]; exact q)
        rw [e1, mj_rV_k]
        refine rest _ (f1.w _ rfl) ?_
        rcases r1 with r1 | ⟨r1, r2⟩
        · left
          obtain ⟨z1_, z2, z3, z4, z5, ⟨p1, p2, p3, p4⟩, z7⟩ := r1
          exact ⟨z1_, z2, z3, z4, z5, ⟨p1, rfl, Or.inl rfl, p4⟩, z7⟩
        · exact Or.inr ⟨r1.of (fun j hj => by rw [mj_wI_1, if_pos rfl, if_neg (fun q => by rw [q] at hj; simp at hj)]) rfl, r2⟩
  · have hr : (if (x.1 0 35) = 0 then some (none, x) else if (x.1 0 34) = 0 then if (x.1 0 46) < 0 then rX1_code d (35, [some (.ref 0), some (.int cc), some (.int a2), some (.int a3)], [], x) else mj_rV (kX1 d 43 [.ref 0, .int (x.1 0 46)] x) fun x1 => rX1_code d (35, [some (.ref 0), some (.int cc), some (.int a2), some (.int a3)], [], (mj_wI x1 0 46 (-1 : Int32))) else some (none, x)) = (some (none, x) : mj_R) := by
      rw [if_neg (show ¬ (x.1 0 34) = 0 by rw [h.1]; decide)]
      split <;> rfl
    exact ⟨x, hr, zfr.rf _ x, he', hlm', Or.inr (Or.inl ⟨h, ho.mono hmono⟩)⟩
/-- an item is whole -/
theorem Z1.fin {lm : Nat → Nat} {lv : Nat → Bool} {x : mj_X} {g : wG} {i : wI} {F : wF} (h : Z1 nt N M w ba pf rf lf c lm lv (w_by_ w w_z ((i, (g_L g, g_st g)) :: g_it g)) (w_fxs w w_z ((i, (g_L g, g_st g)) :: g_it g)) x g (w_es i F g)) : Q1 nt N M w ba pf rf lf c lm lv x (w_es i F g) := by
  obtain ⟨he, hlm, h⟩ := h
  refine ⟨he, hlm, ?_⟩
  rcases h with ⟨hq, -, hov, h⟩ | h | ⟨ha, hG, hov, h⟩
  · left
    obtain ⟨k1, -⟩ := w_es_f (i := i) (F := F) hq
    refine ⟨hov, ?_⟩
    rw [k1]
    obtain ⟨z1_, z2, z3, ⟨fr, l1, l2, l3, l4, l5, l6, l7, l8, l9, l10, l11, l12, l13⟩, z5, ⟨n1, n2, n3, n4, n5, n6⟩, z7⟩ := h
    refine ⟨z1_, z2, z3, ⟨fr, l1, l2, l3, l4, l5, l6, l7, l8, fun l hl hv => ?_, l10, l11, fun l k hl hk => ?_, l13⟩, z5, ⟨n1, n2, n3, n4, fun e h => ?_, ?_⟩, z7⟩
    · obtain ⟨q1, q2, q3, q4⟩ := l9 l hl hv
      refine ⟨q1, q2, ?_, q4⟩
      rw [q3]
      cases hh : (w_es i F g).2.2.2.2.2.2.2.2.1.2.1 l with
      | none => rfl
      | some k => show nI _ = nI _; rw [w_at_cons w _ _ (l12 l k hl hh)]
    · have := l12 l k hl hk; simp only [List.length_cons]; omega
    · have := n5 e h; simp only [List.length_cons]; omega
    · refine n6.mono (fun k e _ he h => ?_)
      rw [w_at_cons w _ _ (n5 e he)]; exact h
  · exact Or.inr h
  · left; rw [hG]; exact ⟨hov, h⟩
/-- a byte behind a code -/
theorem m_byte {d : Nat} (hd : 1 ≤ d) {lm : Nat → Nat} {lv : Nat → Bool} {B : List Int32} {F : List (Nat × Nat × Nat × Bool)} {x : mj_X} {g G : wG} (v : Int32) (h : Z1 nt N M w ba pf rf lf c lm lv B F x g G) (ha : x.1 0 35 ≠ 0 ∨ w_q g = false) (hB : w_q g = false → B.length < (w_by_ w w_z (g_it G)).length) :
    ∃ x', kX1 d 44 [.ref 0, .int v] x = some (none, x') ∧ zfr (zw ba pf lf) x x' ∧ x'.1 0 35 = x.1 0 35 ∧ Z1 nt N M w ba pf rf lf c lm lv (B ++ [o8 v]) F x' g G := by
  obtain ⟨he, hlm, h⟩ := h
  have hba : ba ≤ 90000 := he.2.2.2.2.2.2.2.1
  have h35 : ∀ {x' : mj_X}, kX1 d 44 [.ref 0, .int v] x = some (none, x') → x'.1 0 35 = x.1 0 35 := by
    intro x' e
    obtain ⟨d, rfl⟩ : ∃ c, d = c + 1 := ⟨d - 1, by omega⟩
    rw [eX1_octetOf] at e
    unfold mj_g at e
    split at e
    · injection e with e; injection e with _ e; rw [← e, mj_wI_1]; rfl
    · cases hq : mj_in ((x.1 0 31) + (x.1 0 32)) 160000
      · rw [hq] at e; simp at e
      · rw [hq] at e; injection e with e; injection e with _ e; rw [← e]; rfl
  rcases h with ⟨hq, hga, hov, h⟩ | ⟨h, ho⟩ | ⟨hal, hG, hov, h⟩
  · obtain ⟨x', e, f, r⟩ := m_oct (P := w_over w rf lf G) hd v hba (Or.inl h) (fun q => by right; left; have := hB hq; omega)
    refine ⟨x', e, f, h35 e, he.fr f, hlm, ?_⟩
    rcases r with r | r
    · exact Or.inl ⟨hq, hga, hov, r⟩
    · exact Or.inr (Or.inl r)
  · obtain ⟨x', e, f, r⟩ := m_octM (pf := pf) hd v hba h
    exact ⟨x', e, f, h35 e, he.fr f, hlm, Or.inr (Or.inl ⟨r, ho⟩)⟩
  · rcases ha with ha | ha
    · exact absurd (by rw [h.2.2.2.2.2.2.1, hal]; rfl) ha
    · rw [(w_q_iff g)] at ha; rw [ha.1] at hal; simp at hal
/-- operands of one, two, four bytes -/
theorem Z1.opd {d : Nat} {lm : Nat → Nat} {lv : Nat → Bool} {B : List Int32} {F : List (Nat × Nat × Nat × Bool)} {x : mj_X} {g G : wG} (v n : Int32) (bs : List Int32) (h : Z1 nt N M w ba pf rf lf c lm lv B F x g G)
    (hk : x.1 0 35 ≠ 0 → ∃ x', rX1_operand d (19, [some (.ref 0), some (.int v), some (.int n), some (.int (n - (1 : Int32)))], [], x) = some (none, x') ∧ zfr (zw ba pf lf) x x' ∧ Z1 nt N M w ba pf rf lf c lm lv (B ++ bs) F x' g G) :
    ∃ x', kX1 (d + 1) 49 [.ref 0, .int v, .int n] x = some (none, x') ∧ zfr (zw ba pf lf) x x' ∧ Z1 nt N M w ba pf rf lf c lm lv (B ++ bs) F x' g G := by
  rw [eX1_operand]
  by_cases h0 : x.1 0 35 = 0
  · rw [if_pos h0]
    refine ⟨x, rfl, zfr.rf _ x, h.1, h.2.1, ?_⟩
    rcases h.2.2 with ⟨hq, hga, hov, h3⟩ | h3 | h3
    · exact absurd (h3.2.2.2.2.2.2.1.symm.trans h0) (by rw [hga]; decide)
    · exact Or.inr (Or.inl h3)
    · exact Or.inr (Or.inr h3)
  · rw [if_neg h0]
    by_cases h1 : x.1 0 34 = 0
    · rw [if_pos h1]; exact hk h0
    · rw [if_neg h1]
      refine ⟨x, rfl, zfr.rf _ x, h.1, h.2.1, ?_⟩
      rcases h.2.2 with ⟨hq, hga, hov, h3⟩ | h3 | h3
      · exact absurd h3.1 h1
      · exact Or.inr (Or.inl h3)
      · exact absurd h3.2.2.2.1 h1
theorem m_op1 {d : Nat} (hd : 2 ≤ d) {lm : Nat → Nat} {lv : Nat → Bool} {B : List Int32} {F : List (Nat × Nat × Nat × Bool)} {x : mj_X} {g G : wG} (v : Int32) (h : Z1 nt N M w ba pf rf lf c lm lv B F x g G) (hB : w_q g = false → B.length < (w_by_ w w_z (g_it G)).length) :
    ∃ x', kX1 d 49 [.ref 0, .int v, .int 1] x = some (none, x') ∧ zfr (zw ba pf lf) x x' ∧ Z1 nt N M w ba pf rf lf c lm lv (B ++ [o8 v]) F x' g G := by
  obtain ⟨d, rfl⟩ : ∃ c, d = c + 1 := ⟨d - 1, by omega⟩
  refine h.opd v 1 [o8 v] (fun h0 => ?_)
  obtain ⟨x1, e1, f1, -, r1⟩ := m_byte (d := d) (by omega) v h (Or.inl h0) hB
  refine ⟨x1, ?_, f1, r1⟩
  rw [show (1 : Int32) - 1 = 0 from rfl, bX1_operand_19, if_neg (by decide), show v >>> (((8 : Int32) * 0) &&& 31) = v from Int32.shiftRight_zero, e1, mj_rV_k, bX1_operand_19, if_pos (by decide)]
theorem m_op2 {d : Nat} (hd : 2 ≤ d) {lm : Nat → Nat} {lv : Nat → Bool} {B : List Int32} {F : List (Nat × Nat × Nat × Bool)} {x : mj_X} {g G : wG} (v : Int32) (h : Z1 nt N M w ba pf rf lf c lm lv B F x g G) (hB : w_q g = false → B.length + 1 < (w_by_ w w_z (g_it G)).length) :
    ∃ x', kX1 d 49 [.ref 0, .int v, .int 2] x = some (none, x') ∧ zfr (zw ba pf lf) x x' ∧ Z1 nt N M w ba pf rf lf c lm lv (B ++ o16 v) F x' g G := by
  obtain ⟨d, rfl⟩ : ∃ c, d = c + 1 := ⟨d - 1, by omega⟩
  refine h.opd v 2 (o16 v) (fun h0 => ?_)
  obtain ⟨x1, e1, f1, g1, r1⟩ := m_byte (d := d) (by omega) (v >>> 8) h (Or.inl h0) (fun q => by have := hB q; omega)
  obtain ⟨x2, e2, f2, g2, r2⟩ := m_byte (d := d) (by omega) v r1 (Or.inl (by rw [g1]; exact h0)) (fun q => by have := hB q; simp only [List.length_append, List.length_cons, List.length_nil]; omega)
  refine ⟨x2, ?_, f1.tr f2, by rw [List.append_assoc] at r2; exact r2⟩
  rw [show (2 : Int32) - 1 = 1 from rfl, bX1_operand_19, if_neg (by decide), show v >>> (((8 : Int32) * 1) &&& 31) = v >>> 8 from rfl, e1, mj_rV_k, show (1 : Int32) + -1 = 0 from rfl, bX1_operand_19, if_neg (by decide), show v >>> (((8 : Int32) * 0) &&& 31) = v from Int32.shiftRight_zero, e2, mj_rV_k, bX1_operand_19, if_pos (by decide)]
theorem m_op4 {d : Nat} (hd : 2 ≤ d) {lm : Nat → Nat} {lv : Nat → Bool} {B : List Int32} {F : List (Nat × Nat × Nat × Bool)} {x : mj_X} {g G : wG} (v : Int32) (h : Z1 nt N M w ba pf rf lf c lm lv B F x g G) (hB : w_q g = false → B.length + 3 < (w_by_ w w_z (g_it G)).length) :
    ∃ x', kX1 d 49 [.ref 0, .int v, .int 4] x = some (none, x') ∧ zfr (zw ba pf lf) x x' ∧ Z1 nt N M w ba pf rf lf c lm lv (B ++ o32 v) F x' g G := by
  obtain ⟨d, rfl⟩ : ∃ c, d = c + 1 := ⟨d - 1, by omega⟩
  refine h.opd v 4 (o32 v) (fun h0 => ?_)
  obtain ⟨x1, e1, f1, g1, r1⟩ := m_byte (d := d) (by omega) (v >>> 24) h (Or.inl h0) (fun q => by have := hB q; omega)
  obtain ⟨x2, e2, f2, g2, r2⟩ := m_byte (d := d) (by omega) (v >>> 16) r1 (Or.inl (by rw [g1]; exact h0)) (fun q => by have := hB q; simp only [List.length_append, List.length_cons, List.length_nil]; omega)
  obtain ⟨x3, e3, f3, g3, r3⟩ := m_byte (d := d) (by omega) (v >>> 8) r2 (Or.inl (by rw [g2, g1]; exact h0)) (fun q => by have := hB q; simp only [List.length_append, List.length_cons, List.length_nil]; omega)
  obtain ⟨x4, e4, f4, g4, r4⟩ := m_byte (d := d) (by omega) v r3 (Or.inl (by rw [g3, g2, g1]; exact h0)) (fun q => by have := hB q; simp only [List.length_append, List.length_cons, List.length_nil]; omega)
  refine ⟨x4, ?_, ((f1.tr f2).tr f3).tr f4, by simp only [List.append_assoc] at r4; exact r4⟩
  rw [show (4 : Int32) - 1 = 3 from rfl, bX1_operand_19, if_neg (by decide), show v >>> (((8 : Int32) * 3) &&& 31) = v >>> 24 from rfl, e1, mj_rV_k, show (3 : Int32) + -1 = 2 from rfl, bX1_operand_19, if_neg (by decide), show v >>> (((8 : Int32) * 2) &&& 31) = v >>> 16 from rfl, e2, mj_rV_k, show (2 : Int32) + -1 = 1 from rfl, bX1_operand_19, if_neg (by decide), show v >>> (((8 : Int32) * 1) &&& 31) = v >>> 8 from rfl, e3, mj_rV_k, show (1 : Int32) + -1 = 0 from rfl, bX1_operand_19, if_neg (by decide), show v >>> (((8 : Int32) * 0) &&& 31) = v from Int32.shiftRight_zero, e4, mj_rV_k, bX1_operand_19, if_pos (by decide)]
/-! whole items -/
/-- an item that is no jump: its bytes, its code -/
def w_in (w : Bool) (i : wI) (cc : Int32) (bs : List Int32) : Prop := (∀ p, w_enc w w_z p i = o8 cc :: bs) ∧ ∀ p r, w_fx w p i r = r
theorem w_in.by {i : wI} {cc : Int32} {bs : List Int32} (h : w_in w i cc bs) (F : wF) (l : List (wI × wF)) : w_by_ w w_z ((i, F) :: l) = w_by_ w w_z l ++ [o8 cc] ++ bs ∧ w_fxs w w_z ((i, F) :: l) = w_fxs w w_z l := by
  refine ⟨?_, h.2 _ _⟩
  show w_by_ w w_z l ++ w_enc w w_z _ i = _
  rw [h.1, List.append_assoc]; rfl
theorem m_i1 {d : Nat} (hd : 3 ≤ d) {lm : Nat → Nat} {lv : Nat → Bool} {x : mj_X} {g : wG} {i : wI} {F : wF} {cc a2 a3 : Int32} (h : Q1 nt N M w ba pf rf lf c lm lv x g) (hok : g_ok (w_es i F g))
    (hs : w_q g = false → nI (g_st g).length + (a3 - a2) = nI F.2.length) (hi : w_in w i cc []) : J1 nt N M w ba pf rf lf c (kX1 d 42 [.ref 0, .int cc, .int a2, .int a3] x) x lm lv g (w_es i F g) := by
  obtain ⟨x1, e1, f1, r1⟩ := m_code (cc := cc) (a2 := a2) (a3 := a3) hd h hok hs (by rw [hi.1]; simp)
  obtain ⟨b1, b2⟩ := hi.by (g_L g, g_st g) (g_it g)
  refine ⟨lm, lv, x1, e1, Z1.fin ?_, fun _ _ => ⟨rfl, rfl⟩, f1⟩
  rw [b1, b2, List.append_nil]; exact r1
theorem m_i2 {d : Nat} (hd : 3 ≤ d) {lm : Nat → Nat} {lv : Nat → Bool} {x : mj_X} {g : wG} {i : wI} {F : wF} {cc a2 a3 v : Int32} (h : Q1 nt N M w ba pf rf lf c lm lv x g) (hok : g_ok (w_es i F g))
    (hs : w_q g = false → nI (g_st g).length + (a3 - a2) = nI F.2.length) (hi : w_in w i cc [o8 v]) : J1 nt N M w ba pf rf lf c (mj_rV (kX1 d 42 [.ref 0, .int cc, .int a2, .int a3] x) fun x1 => mj_rV (kX1 d 49 [.ref 0, .int v, .int (1 : Int32)] x1) fun x2 => some (none, x2)) x lm lv g (w_es i F g) := by
  obtain ⟨x1, e1, f1, r1⟩ := m_code (cc := cc) (a2 := a2) (a3 := a3) hd h hok hs (by rw [hi.1]; simp)
  obtain ⟨b1, b2⟩ := hi.by (g_L g, g_st g) (g_it g)
  obtain ⟨x2, e2, f2, r2⟩ := m_op1 (d := d) (by omega) v r1 (fun q => by rw [(w_es_f q).1, b1]; simp only [List.length_append, List.length_cons, List.length_nil]; omega)
  refine ⟨lm, lv, x2, by rw [e1, mj_rV_k, e2, mj_rV_k], Z1.fin ?_, fun _ _ => ⟨rfl, rfl⟩, f1.tr f2⟩
  rw [b1, b2]; exact r2
theorem m_i3 {d : Nat} (hd : 3 ≤ d) {lm : Nat → Nat} {lv : Nat → Bool} {x : mj_X} {g : wG} {i : wI} {F : wF} {cc a2 a3 v : Int32} (h : Q1 nt N M w ba pf rf lf c lm lv x g) (hok : g_ok (w_es i F g))
    (hs : w_q g = false → nI (g_st g).length + (a3 - a2) = nI F.2.length) (hi : w_in w i cc (o16 v)) : J1 nt N M w ba pf rf lf c (mj_rV (kX1 d 42 [.ref 0, .int cc, .int a2, .int a3] x) fun x1 => mj_rV (kX1 d 49 [.ref 0, .int v, .int (2 : Int32)] x1) fun x2 => some (none, x2)) x lm lv g (w_es i F g) := by
  obtain ⟨x1, e1, f1, r1⟩ := m_code (cc := cc) (a2 := a2) (a3 := a3) hd h hok hs (by rw [hi.1]; simp)
  obtain ⟨b1, b2⟩ := hi.by (g_L g, g_st g) (g_it g)
  obtain ⟨x2, e2, f2, r2⟩ := m_op2 (d := d) (by omega) v r1 (fun q => by rw [(w_es_f q).1, b1]; simp only [List.length_append, List.length_cons, List.length_nil, o16]; omega)
  refine ⟨lm, lv, x2, by rw [e1, mj_rV_k, e2, mj_rV_k], Z1.fin ?_, fun _ _ => ⟨rfl, rfl⟩, f1.tr f2⟩
  rw [b1, b2]; exact r2
/-- an item that takes from the stack and puts on it -/
theorem w_em_J {r : mj_R} {x : mj_X} {lm : Nat → Nat} {lv : Nat → Bool} {g : wG} {i : wI} {off : Nat} {on : List Nat} (hok : g_ok (w_em i off on g)) (h : w_q g = true → Q1 nt N M w ba pf rf lf c lm lv x g)
    (hk : g_ok (w_es i (g_L g, on ++ (g_st g).drop off) g) → (w_q g = false → off ≤ (g_st g).length) → J1 nt N M w ba pf rf lf c r x lm lv g (w_es i (g_L g, on ++ (g_st g).drop off) g)) : J1 nt N M w ba pf rf lf c r x lm lv g (w_em i off on g) := by
  cases hq : w_q g
  · have e : w_em i off on g = s_ok (off ≤ (g_st g).length) (w_es i (g_L g, on ++ (g_st g).drop off) g) := by unfold w_em; rw [hq]; rfl
    rw [e] at hok ⊢
    exact hk hok.1 (fun _ => hok.2)
  · have e : w_es i (g_L g, on ++ (g_st g).drop off) g = g := w_es_q hq
    have e2 : w_em i off on g = g := by unfold w_em; rw [hq]; rfl
    rw [e2] at hok ⊢
    rw [e] at hk
    exact hk hok (fun q => by rw [hq] at q; simp at q)
end
