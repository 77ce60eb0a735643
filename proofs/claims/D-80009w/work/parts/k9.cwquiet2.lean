/-! CodeWriter: values where nothing is written, by induction -/
theorem e45 {d : Nat} (hd : 1 ≤ d) (t : Int32) (x : mj_X) : ∃ v, kX0 d 45 [.int t] x = some (some (.int v), x) := by
  obtain ⟨d, rfl⟩ : ∃ c, d = c + 1 := ⟨d - 1, by omega⟩
  rw [eX0_arrayLetter]; repeat' split
  all_goals exact ⟨_, rfl⟩
theorem e41 {d : Nat} (hd : 1 ≤ d) (t : Int32) (x : mj_X) : ∃ v, kX0 d 41 [.int t] x = some (some (.int v), x) := by
  obtain ⟨d, rfl⟩ : ∃ c, d = c + 1 := ⟨d - 1, by omega⟩
  rw [eX0_letterOf]; repeat' split
  all_goals exact ⟨_, rfl⟩
theorem e52 {d : Nat} (hd : 1 ≤ d) (k t : Int32) (x : mj_X) : ∃ v, kX0 d 52 [.int k, .int t] x = some (some (.int v), x) := by
  obtain ⟨d, rfl⟩ : ∃ c, d = c + 1 := ⟨d - 1, by omega⟩
  rw [eX0_opOf]; repeat' split
  all_goals exact ⟨_, rfl⟩
theorem k_rest {k : Int32} (hE : sp_E k = true) (k4 : 4 < k) (c6 : ¬ k = 6) (c7 : ¬ k = 7) (c8 : ¬ k = 8) (c9 : ¬ k = 9) (c21 : ¬ k = 21) (c22 : ¬ k = 22) (c32 : ¬ k = 32) (c34 : ¬ k = 34) (c46 : ¬ k = 46) (c47 : ¬ k = 47) (c48 : ¬ k = 48) (c51 : ¬ k = 51) (k1 : ¬ (10 ≤ k ∧ k ≤ 20)) (hk : ¬ (23 ≤ k ∧ k ≤ 31)) (k3 : ¬ (35 ≤ k ∧ k ≤ 45)) : False := by
  have q := sp_E_iff.mp hE
  have ne : ∀ {c : Int32}, ¬ k = c → ¬ k.toInt = c.toInt := fun h e => h (Int32.toInt_inj.mp e)
  have e6 : ¬ k.toInt = 6 := ne c6
  have e7 : ¬ k.toInt = 7 := ne c7
  have e8 : ¬ k.toInt = 8 := ne c8
  have e9 : ¬ k.toInt = 9 := ne c9
  have e21 : ¬ k.toInt = 21 := ne c21
  have e22 : ¬ k.toInt = 22 := ne c22
  have e32 : ¬ k.toInt = 32 := ne c32
  have e34 : ¬ k.toInt = 34 := ne c34
  have e46 : ¬ k.toInt = 46 := ne c46
  have e47 : ¬ k.toInt = 47 := ne c47
  have e48 : ¬ k.toInt = 48 := ne c48
  have e51 : ¬ k.toInt = 51 := ne c51
  have r1 : ¬ (10 ≤ k.toInt ∧ k.toInt ≤ 20) := fun z => k1 ⟨Int32.le_iff_toInt_le.mpr z.1, Int32.le_iff_toInt_le.mpr z.2⟩
  have r2 : ¬ (23 ≤ k.toInt ∧ k.toInt ≤ 31) := fun z => hk ⟨Int32.le_iff_toInt_le.mpr z.1, Int32.le_iff_toInt_le.mpr z.2⟩
  have r3 : ¬ (35 ≤ k.toInt ∧ k.toInt ≤ 45) := fun z => k3 ⟨Int32.le_iff_toInt_le.mpr z.1, Int32.le_iff_toInt_le.mpr z.2⟩
  have r4 : (4 : Int) < k.toInt := Int32.lt_iff_toInt_lt.mp k4
  clear c6 c7 c8 c9 c21 c22 c32 c34 c46 c47 c48 c51 k1 hk k3 k4 ne hE
  generalize k.toInt = z at *
  omega
section
variable {nt : sp_NT} {N M : Nat} {P : yP} {X : List (Nat × Bool)} {b : Nat} {lm lm' : Nat → Nat} {lv lv' : Nat → Bool} {x y : mj_X} {g h G H : wG} {res par : Nat → Int32} {f : Nat} {n : Int32}
theorem QR.code {d : Nat} (hd : 2 ≤ d) {k : mj_X → mj_R} {X' : List (Nat × Bool)} {b' : Nat} (hl : yq x) {cc : Int32} (a : QR nt N P X' b' lm lv g (k x) x) : QR nt N P X' b' lm lv g (mj_rV (kX0 d 37 [.ref 0, .int cc] x) k) x := QR.e (c_codeq hd hl cc) a
theorem Q_twice {d : Nat} (hd : 6 * f + 14 ≤ d) (hT : wTb nt N M res par) (Rv : QV nt N f) {tg : Int32} (h1 : sp_nd N tg = true) (ea : wE nt N f (nA nt tg)) (eb : wE nt N f (nB nt tg)) (hb : b + 4 * f + 2 ≤ 49900) (a : Y1 nt N P X b lm lv x g) (hl : yq x) : QR nt N P X b lm lv g (kX0 d 53 [.ref 0, .int tg] x) x := by
  obtain ⟨d, rfl⟩ : ∃ c, d = c + 1 := ⟨d - 1, by omega⟩
  rw [eX0_twice, a.nd h1, a.T.2.1]
  refine QR.bi (Rv _ P X b lm lv x g d 1 ea (by omega) hb a hl) (fun x1 q1 l1 => ?_)
  rw [q1.nd h1, q1.T.2.2.1]
  refine QR.bi (Rv _ P X b lm lv x1 g d 1 eb (by omega) hb q1 l1) (fun x2 q2 l2 => QR.code (by omega) l2 ?_)
  obtain ⟨v, hv⟩ := e45 (d := d) (by omega) (x2.1 4 (x2.1 2 tg.toNatClampNeg).toNatClampNeg) x2
  rw [q2.nd h1, hv, mj_rI_k, q2.T.2.1, q2.nd ea.1]
  exact QR.code (by omega) l2 (QR.id_ q2 l2)
theorem Q_step {d : Nat} {w b0 : Int32} (hd : 6 * f + 15 ≤ d) (hT : wTb nt N M res par) (Rv : QV nt N f) {tg : Int32} (hn : sp_nd N n = true) (h1 : sp_nd N tg = true) (hk : nK nt tg = 6 ∨ nK nt tg = 8) (h6 : nK nt tg = 6 → sp_nd N (nA nt tg) = true) (h8 : nK nt tg = 8 → wE nt N f (nA nt tg) ∧ wE nt N f (nB nt tg)) (ht : ∃ t, nt 3 n.toNatClampNeg = nI t ∧ 1 ≤ t ∧ t ≤ 4) (hb : b + 4 * f + 2 ≤ 49900) (a : Y1 nt N P X b lm lv x g) (hl : yq x) : QR nt N P X b lm lv g (kX0 d 46 [.ref 0, .int n, .int tg, .int b0, .int w] x) x := by
  obtain ⟨d, rfl⟩ : ∃ c, d = c + 1 := ⟨d - 1, by omega⟩
  obtain ⟨t, t0, t1, t4⟩ := ht
  rw [eX0_step, a.nd hn, a.T.2.2.2.1, t0]
  have c243 : ∀ (s0 s1 : Int32) (z : mj_X), Y1 nt N P X b lm lv z g → yq z → nK nt tg = 8 → QR nt N P X b lm lv g (rX0_step d (243, [some (.ref 0), some (.int n), some (.int tg), some (.int b0), some (.int w), some (.int (nI t)), some (.int s0), some (.int s1), none], [], z)) z := by
    intro s0 s1 z q l k8
    obtain ⟨v, hv⟩ := e45 (d := d) (by omega) (z.1 4 (z.1 2 tg.toNatClampNeg).toNatClampNeg) z
    rw [bX0_step_243, q.nd h1, hv, mj_rI_k, q.T.2.1, q.nd (h8 k8).1.1]
    exact QR.code (by omega) l (QR.id_ q l)
  have c205 : ∀ (s0 s1 : Int32) (z : mj_X), Y1 nt N P X b lm lv z g → yq z → nK nt tg = 8 → QR nt N P X b lm lv g (rX0_step d (205, [some (.ref 0), some (.int n), some (.int tg), some (.int b0), some (.int w), some (.int (nI t)), some (.int s0), some (.int s1), none], [], z)) z := by
    intro s0 s1 z q l k8
    rw [bX0_step_205]
    refine QR.bi (QR.one (by omega) t1 t4 q l) (fun x1 q1 l1 => ?_)
    obtain ⟨v, hv⟩ := e52 (d := d) (by omega) s0 (nI t) x1
    rw [hv, mj_rI_k]
    refine QR.code (by omega) l1 (QR.e (c_cutq (by omega) h1 (h8 k8).1.1 q1 l1) ?_)
    split
    · exact c243 _ _ _ q1 l1 k8
    · split
      · exact QR.e (c_dupq (by omega) l1 _).2.1 (c243 _ _ _ q1 l1 k8)
      · exact c243 _ _ _ q1 l1 k8
  have c142 : ∀ (s0 s1 s2 : Int32) (z : mj_X), Y1 nt N P X b lm lv z g → yq z → QR nt N P X b lm lv g (rX0_step d (142, [some (.ref 0), some (.int n), some (.int tg), some (.int b0), some (.int w), some (.int (nI t)), some (.int s0), some (.int s1), some (.int s2)], [], z)) z := by
    intro s0 s1 s2 z q l
    rw [bX0_step_142]
    refine QR.bi (QR.one (by omega) t1 t4 q l) (fun x1 q1 l1 => ?_)
    obtain ⟨v, hv⟩ := e52 (d := d) (by omega) s0 (nI t) x1
    rw [hv, mj_rI_k]
    refine QR.code (by omega) l1 ?_
    have e := c_stq (d := d) (by omega) l1 (nI t) s2
    split
    · exact QR.e e (QR.id_ q1 l1)
    · split
      · exact QR.e (c_dupq (by omega) l1 _).1 (QR.e e (QR.id_ q1 l1))
      · exact QR.e e (QR.id_ q1 l1)
  have c97 : ∀ (s0 s1 s2 u1 u2 : Int32), QR nt N P X b lm lv g (rX0_step d (97, [some (.ref 0), some (.int n), some (.int tg), some (.int b0), some (.int w), some (.int (nI t)), some (.int s0), some (.int s1), some (.int s2)], [.int u2, .int u1, .ref 0], x)) x := by
    intro s0 s1 s2 u1 u2
    rw [bX0_step_97]
    refine QR.e (c_growq (by omega) hl _ _) ?_
    split
    · exact QR.id_ a hl
    · split
      · exact QR.e (c_ldq (by omega) hl _ _) (QR.id_ a hl)
      · exact QR.id_ a hl
  have c82 : ∀ (s0 s1 s2 : Int32), QR nt N P X b lm lv g (rX0_step d (82, [some (.ref 0), some (.int n), some (.int tg), some (.int b0), some (.int w), some (.int (nI t)), some (.int s0), some (.int s1), some (.int s2)], [], x)) x := by
    intro s0 s1 s2
    rw [bX0_step_82]; split
    · exact c97 _ _ _ _ _
    · exact c97 _ _ _ _ _
  have c33 : ∀ (s0 s1 : Int32), QR nt N P X b lm lv g (rX0_step d (33, [some (.ref 0), some (.int n), some (.int tg), some (.int b0), some (.int w), some (.int (nI t)), some (.int s0), none, none], [.int s1], x)) x := by
    intro s0 s1
    rw [bX0_step_33, a.nd h1, a.T.1]
    rcases hk with k | k
    · rw [if_pos k, a.nd h1, a.T.2.1, a.nd (h6 k)]
      split
      · split
        · exact c82 _ _ _
        · split
          · exact c82 _ _ _
          · exact QR.e (c_ldq (by omega) hl _ _) (c82 _ _ _)
      · refine QR.e (c_ldq (by omega) hl _ _) ?_
        split
        · exact c142 _ _ _ _ a hl
        · split
          · exact c142 _ _ _ _ a hl
          · exact QR.e (c_dupq (by omega) hl _).1 (c142 _ _ _ _ a hl)
    · rw [if_neg (show ¬ nt 0 tg.toNatClampNeg = 6 from fun z => absurd (k.symm.trans z) (by decide))]
      refine QR.bi (Q_twice (by omega) hT Rv h1 (h8 k).1 (h8 k).2 hb a hl) (fun x1 q1 l1 => ?_)
      split
      · exact c205 _ _ _ q1 l1 k
      · split
        · exact c205 _ _ _ q1 l1 k
        · exact QR.e (c_dupq (by omega) l1 _).2.1 (c205 _ _ _ q1 l1 k)
  have c21 : ∀ s0 : Int32, QR nt N P X b lm lv g (rX0_step d (21, [some (.ref 0), some (.int n), some (.int tg), some (.int b0), some (.int w), some (.int (nI t)), none, none, none], [.int s0], x)) x := by
    intro s0
    rw [bX0_step_21]; split
    · exact c33 _ _
    · exact c33 _ _
  split
  · exact c21 _
  · exact c21 _
theorem Q_comp {d : Nat} {w : Int32} (hd : 6 * f + 15 ≤ d) (hT : wTb nt N M res par) (Rv : QV nt N f) {tg e0 : Int32} (hn : sp_nd N n = true) (h1 : sp_nd N tg = true) (hk : nK nt tg = 6 ∨ nK nt tg = 8) (h6 : nK nt tg = 6 → sp_nd N (nA nt tg) = true) (h8 : nK nt tg = 8 → wE nt N f (nA nt tg) ∧ wE nt N f (nB nt tg)) (he : wE nt N f e0) (hb : b + 4 * f + 2 ≤ 49900) (a : Y1 nt N P X b lm lv x g) (hl : yq x) : QR nt N P X b lm lv g (kX0 d 56 [.ref 0, .int n, .int tg, .int e0, .int w] x) x := by
  obtain ⟨d, rfl⟩ : ∃ c, d = c + 1 := ⟨d - 1, by omega⟩
  rw [eX0_compound, a.nd hn, a.nd hn, a.nd h1]
  have c130 : ∀ (s1 s2 s3 s4 : Int32), QR nt N P X b lm lv g (rX0_compound d (130, [some (.ref 0), some (.int n), some (.int tg), some (.int e0), some (.int w), some (.int s1), some (.int s2), some (.int s3), some (.int s4)], [], x)) x := by
    intro s1 s2 s3 s4
    rw [bX0_compound_130]
    refine QR.e (c_ldq (by omega) hl _ _) (QR.bi (Rv _ P X b lm lv x g d 1 he (by omega) hb a hl) (fun x1 q1 l1 => ?_))
    obtain ⟨v, hv⟩ := e52 (d := d) (by omega) s2 s1 x1
    rw [hv, mj_rI_k]
    refine QR.code (by omega) l1 ?_
    have e := c_stq (d := d) (by omega) l1 s1 s3
    split
    · exact QR.e e (QR.id_ q1 l1)
    · exact QR.e (c_dupq (by omega) l1 _).1 (QR.e e (QR.id_ q1 l1))
  have c69 : ∀ (s1 s2 s3 s4 : Int32), QR nt N P X b lm lv g (rX0_compound d (69, [some (.ref 0), some (.int n), some (.int tg), some (.int e0), some (.int w), some (.int s1), some (.int s2), some (.int s3), none], [.int s4], x)) x := by
    intro s1 s2 s3 s4
    rw [bX0_compound_69, a.nd he.1]
    split
    · split
      · exact c130 _ _ _ _
      · split
        · rw [sX0_isIn' (by omega)]
          split
          · exact c130 _ _ _ _
          · refine QR.e (c_growq (by omega) hl _ _) ?_
            split
            · exact QR.id_ a hl
            · exact QR.e (c_ldq (by omega) hl _ _) (QR.id_ a hl)
        · exact c130 _ _ _ _
    · exact c130 _ _ _ _
  rw [a.T.1]
  rcases hk with k | k
  · rw [if_pos (show nt 0 tg.toNatClampNeg = 6 from k), a.nd h1, a.T.2.1, a.nd (h6 k), a.nd he.1, a.nd he.1]
    split
    · exact c69 _ _ _ _
    · exact c69 _ _ _ _
  · rw [if_neg (show ¬ nt 0 tg.toNatClampNeg = 6 by rw [show nt 0 tg.toNatClampNeg = 8 from k]; decide)]
    refine QR.bi (Q_twice (by omega) hT Rv h1 (h8 k).1 (h8 k).2 hb a hl) (fun x1 q1 l1 => ?_)
    refine QR.bi (Rv _ P X b lm lv x1 g d 1 he (by omega) hb q1 l1) (fun x2 q2 l2 => ?_)
    obtain ⟨v, hv⟩ := e52 (d := d) (by omega) (nt 0 n.toNatClampNeg - 35 + 10) (x.1 4 n.toNatClampNeg) x2
    rw [hv, mj_rI_k]
    refine QR.code (by omega) l2 (QR.e (c_cutq (by omega) h1 (h8 k).1.1 q2 l2) ?_)
    have c213 : ∀ s1 s2 : Int32, QR nt N P X b lm lv g (rX0_compound d (213, [some (.ref 0), some (.int n), some (.int tg), some (.int e0), some (.int w), some (.int s1), some (.int s2), none, none], [], x2)) x2 := by
      intro s1 s2
      obtain ⟨v, hv⟩ := e45 (d := d) (by omega) (x2.1 4 (x2.1 2 tg.toNatClampNeg).toNatClampNeg) x2
      rw [bX0_compound_213, q2.nd h1, hv, mj_rI_k, q2.T.2.1, q2.nd (h8 k).1.1]
      exact QR.code (by omega) l2 (QR.id_ q2 l2)
    split
    · exact c213 _ _
    · exact QR.e (c_dupq (by omega) l2 _).2.1 (c213 _ _)
set_option maxHeartbeats 4000000 in
/-- a value that is no truth -/
theorem Q_v0 {d : Nat} {w : Int32} (hd : 6 * (f + 1) + 10 ≤ d) (hT : wTb nt N M res par) (Rv : QV nt N f) (Rc : QC nt N f) (hE : wE nt N (f + 1) n) (hk : ¬ (23 ≤ nK nt n ∧ nK nt n ≤ 31)) (hb : b + 4 * (f + 1) ≤ 49900) (a : Y1 nt N P X b lm lv x g) (hl : yq x) : QR nt N P X b lm lv g (kX0 d 35 [.ref 0, .int n, .int w] x) x := by
  obtain ⟨d, rfl⟩ : ∃ c, d = c + 1 := ⟨d - 1, by omega⟩
  obtain ⟨hn, hEx, hdp⟩ := hE
  have hb' : b + 4 * f + 2 ≤ 49900 := by omega
  have V : ∀ {m : Int32} {d : Nat} {b' : Nat} {X' : List (Nat × Bool)} {z : mj_X} {u : Int32}, wE nt N f m → 6 * f + 13 ≤ d → b' + 4 * f + 2 ≤ 49900 → Y1 nt N P X' b' lm lv z g → yq z → QR nt N P X' b' lm lv g (kX0 d 35 [.ref 0, .int m, .int u] z) z := fun h1 h2 h3 h4 h5 => Rv _ P _ _ lm lv _ g _ _ h1 h2 h3 h4 h5
  rw [eX0_value_2, a.nd hn, a.nd hn, a.nd hn, a.T.1, a.T.2.1, a.T.2.2.1]
  show QR nt N P X b lm lv g (mj_lk (nK nt n) 225 _ _) x
  by_cases c7 : nK nt n = 7
  · obtain ⟨v1, v2, eb, -, -⟩ := wE_store hT hn hdp c7
    rw [c7]
    show QR nt N P X b lm lv g (rX0_value_2 d (64, [some (.ref 0), some (.int n), some (.int w), some (.int (nA nt n)), some (.int (nB nt n)), none], [], x)) x
    have c85 : ∀ z : mj_X, Y1 nt N P X b lm lv z g → yq z → QR nt N P X b lm lv g (rX0_value_2 d (85, [some (.ref 0), some (.int n), some (.int w), some (.int (nA nt n)), some (.int (nB nt n)), none], [], z)) z := by
      intro z q l
      rw [bX0_value_2_85, q.nd hn, q.nd v1]
      exact QR.e (c_stq (by omega) l _ _) (QR.id_ q l)
    rw [bX0_value_2_64]
    refine QR.bi (V eb (by omega) hb' a hl) (fun x1 q1 l1 => ?_)
    split
    · exact c85 _ q1 l1
    · rw [q1.nd hn]
      exact QR.e (c_dupq (by omega) l1 _).1 (c85 _ q1 l1)
  by_cases c9 : nK nt n = 9
  · obtain ⟨t1, t2, t3, eb, -, -⟩ := wE_put hT hn hdp c9
    have hf1 : 1 ≤ f := by have := (hT.d t1).1; omega
    obtain ⟨f', rfl⟩ : ∃ e, f = e + 1 := ⟨f - 1, by omega⟩
    obtain ⟨ea, ec, -, -, -, -⟩ := wE_at hT t1 t2 t3
    have ea := ea.mono (Nat.le_succ f')
    have ec := ec.mono (Nat.le_succ f')
    rw [c9]
    show QR nt N P X b lm lv g (rX0_value_2 d (104, [some (.ref 0), some (.int n), some (.int w), some (.int (nA nt n)), some (.int (nB nt n)), none], [], x)) x
    have c152 : ∀ z : mj_X, Y1 nt N P X b lm lv z g → yq z → QR nt N P X b lm lv g (rX0_value_2 d (152, [some (.ref 0), some (.int n), some (.int w), some (.int (nA nt n)), some (.int (nB nt n)), none], [], z)) z := by
      intro z q l
      obtain ⟨v, hv⟩ := e45 (d := d) (by omega) (z.1 4 (z.1 2 (nA nt n).toNatClampNeg).toNatClampNeg) z
      rw [bX0_value_2_152, q.nd t1, hv, mj_rI_k, q.T.2.1, q.nd ea.1]
      exact QR.code (by omega) l (QR.id_ q l)
    rw [bX0_value_2_104, a.nd t1, a.T.2.1]
    refine QR.bi (V ea (by omega) hb' a hl) (fun x1 q1 l1 => ?_)
    rw [q1.nd t1, q1.T.2.2.1]
    refine QR.bi (V ec (by omega) hb' q1 l1) (fun x2 q2 l2 => ?_)
    refine QR.bi (V eb (by omega) hb' q2 l2) (fun x3 q3 l3 => ?_)
    refine QR.e (c_cutq (by omega) t1 ea.1 q3 l3) ?_
    split
    · exact c152 _ q3 l3
    · rw [q3.nd hn]
      exact QR.e (c_dupq (by omega) l3 _).2.1 (c152 _ q3 l3)
  by_cases c34 : nK nt n = 34
  · obtain ⟨t1, t2, t3, t4, t5, b1, b2, t6⟩ := wE_stp hT hn hdp c34
    have hf1 : 1 ≤ f := by have := (hT.d t1).1; omega
    obtain ⟨f', rfl⟩ : ∃ e, f = e + 1 := ⟨f - 1, by omega⟩
    rw [c34]
    show QR nt N P X b lm lv g (rX0_value_2 d (176, [some (.ref 0), some (.int n), some (.int w), some (.int (nA nt n)), some (.int (nB nt n)), none], [], x)) x
    rw [bX0_value_2_176]
    exact (Q_step (by omega) hT Rv hn t1 t3 (fun q => (wE_load hT t1 t2 q).1) (fun q => by obtain ⟨ea, ec, -⟩ := wE_at hT t1 t2 q; exact ⟨ea.mono (Nat.le_succ _), ec.mono (Nat.le_succ _)⟩) ⟨nT nt n, hT.ty hn, by omega, by omega⟩ hb' a hl).end_
  by_cases c48 : nK nt n = 48
  · obtain ⟨m1, m2, -, -⟩ := wE_call hT hn hdp c48
    rw [c48]
    show QR nt N P X b lm lv g (rX0_value_2 d (188, [some (.ref 0), some (.int n), some (.int w), some (.int (nA nt n)), some (.int (nB nt n)), none], [], x)) x
    rw [bX0_value_2_188]
    obtain ⟨l, l1, l2⟩ := hT.chain (Or.inl rfl) (p := nB nt n) (K := 49) (by rcases m2 with q | q; exact Or.inl q; exact Or.inr ⟨q.1, q.2.2⟩)
    have hch : wCh nt N f 49 l := by rw [← l2]; exact hT.ch (Or.inl rfl) 4001 m2
    have loop : ∀ (l : List Int32) (p : Int32) (z : mj_X), sp_Ch nt N 49 l p → wCh nt N f 49 l → Y1 nt N P X b lm lv z g → yq z → QR nt N P X b lm lv g (rX0_value_2 d (192, [some (.ref 0), some (.int n), some (.int w), some (.int (nA nt n)), some (.int (nB nt n)), some (.int p)], [], z)) z := by
      intro l
      induction l with
      | nil =>
        intro p z hp _ q l
        have hp : p = -1 := hp
        rw [bX0_value_2_192, if_pos hp]
        refine QR.bi (QR.inv (by omega) q l) (fun x1 q1 l1 => ?_)
        split
        · rw [q1.nd hn]
          exact QR.e (c_dupq (by omega) l1 _).2.2 (QR.id_ q1 l1)
        · exact QR.id_ q1 l1
      | cons k r ih =>
        intro p z hp hc q l
        obtain ⟨e1, e2, e3, e4, e5⟩ := hp
        subst e1
        obtain ⟨-, hdq, -⟩ := hc p (List.mem_cons_self ..)
        have hf1 : 1 ≤ f := by have := (hT.d e2).1; omega
        obtain ⟨f', rfl⟩ : ∃ e, f = e + 1 := ⟨f - 1, by omega⟩
        obtain ⟨⟨ea, -, -⟩, -⟩ := wE_given hT e2 hdq e3
        rw [bX0_value_2_192, if_neg (nd_n1 e2), q.nd e2, q.T.2.1]
        refine QR.bi (V (ea.mono (Nat.le_succ _)) (by omega) hb' q l) (fun x1 q1 l1 => ?_)
        rw [q1.nd e2, q1.T.2.2.1]
        exact ih _ _ e5 (fun k hk => hc k (List.mem_cons_of_mem _ hk)) q1 l1
    exact loop l (nB nt n) x l1 hch a hl
  -- compound, plain
  rw [lk4 c7 c9 c34 c48]
  show QR nt N P X b lm lv g (rX0_value_2 d (246, [some (.ref 0), some (.int n), some (.int w), some (.int (nA nt n)), some (.int (nB nt n)), none], [], x)) x
  rw [bX0_value_2_246, a.nd hn, a.T.1, sX0_isIn' (by omega), sp_bi, show sp_in (nt 0 n.toNatClampNeg).toInt64 35 45 = sp_i (nK nt n) 35 45 from sp_in_i _ 35 45]
  by_cases k3 : 35 ≤ nK nt n ∧ nK nt n ≤ 45
  · have : sp_i (nK nt n) 35 45 = true := by unfold sp_i; rw [decide_eq_true k3.1, decide_eq_true k3.2]; rfl
    rw [if_neg (by rw [this]; decide)]
    obtain ⟨t1, t2, t3, t4, t5, eb, -, -⟩ := wE_chg hT hn hdp k3.1 k3.2
    have hf1 : 1 ≤ f := by have := (hT.d t1).1; omega
    obtain ⟨f', rfl⟩ : ∃ e, f = e + 1 := ⟨f - 1, by omega⟩
    exact (Q_comp (by omega) hT Rv hn t1 t3 (fun q => (wE_load hT t1 t2 q).1) (fun q => by obtain ⟨ea, ec, -⟩ := wE_at hT t1 t2 q; exact ⟨ea.mono (Nat.le_succ _), ec.mono (Nat.le_succ _)⟩) eb hb' a hl).end_
  have : sp_i (nK nt n) 35 45 = false := by
    unfold sp_i; rw [Bool.and_eq_false_iff]
    by_cases z : 35 ≤ nK nt n
    · exact Or.inr (decide_eq_false (fun w => k3 ⟨z, w⟩))
    · exact Or.inl (decide_eq_false z)
  rw [if_pos this]
  have plain : QR nt N P X b lm lv g (kX0 d 57 [.ref 0, .int n, .int (nA nt n), .int (nB nt n)] x) x := by
    obtain ⟨d, rfl⟩ : ∃ e, d = e + 1 := ⟨d - 1, by omega⟩
    rw [eX0_plain, a.nd hn, a.T.1]
    by_cases k4 : 4 < nK nt n
    · rw [if_pos (show (4 : Int32) < nt 0 n.toNatClampNeg from k4)]
      by_cases c51 : nK nt n = 51
      · rw [if_pos (show nt 0 n.toNatClampNeg = 51 from c51)]; exact QR.code (by omega) hl (QR.id_ a hl)
      rw [if_neg (show ¬ nt 0 n.toNatClampNeg = 51 from c51)]
      by_cases c6 : nK nt n = 6
      · obtain ⟨v1, -, -⟩ := wE_load hT hn hdp c6
        rw [if_pos (show nt 0 n.toNatClampNeg = 6 from c6), a.nd hn, a.nd v1]
        exact QR.e (c_ldq (by omega) hl _ _) (QR.id_ a hl)
      rw [if_neg (show ¬ nt 0 n.toNatClampNeg = 6 from c6)]
      by_cases c8 : nK nt n = 8
      · obtain ⟨ea, eb, -⟩ := wE_at hT hn hdp c8
        rw [if_pos (show nt 0 n.toNatClampNeg = 8 from c8)]
        refine QR.bi (V ea (by omega) hb' a hl) (fun x1 q1 l1 => QR.bi (V eb (by omega) hb' q1 l1) (fun x2 q2 l2 => ?_))
        obtain ⟨v, hv⟩ := e45 (d := d) (by omega) (x2.1 4 (nA nt n).toNatClampNeg) x2
        rw [q2.nd ea.1, hv, mj_rI_k]
        exact QR.code (by omega) l2 (QR.id_ q2 l2)
      rw [if_neg (show ¬ nt 0 n.toNatClampNeg = 8 from c8), sX0_isIn' (by omega), sp_bi, show sp_in (nt 0 n.toNatClampNeg).toInt64 10 20 = sp_i (nK nt n) 10 20 from sp_in_i _ 10 20]
      by_cases k1 : 10 ≤ nK nt n ∧ nK nt n ≤ 20
      · have : sp_i (nK nt n) 10 20 = true := by unfold sp_i; rw [decide_eq_true k1.1, decide_eq_true k1.2]; rfl
        rw [if_neg (by rw [this]; decide)]
        obtain ⟨ea, eb, -⟩ := wE_bin hT hn hdp k1.1 k1.2
        refine QR.bi (V ea (by omega) hb' a hl) (fun x1 q1 l1 => QR.bi (V eb (by omega) hb' q1 l1) (fun x2 q2 l2 => ?_))
        obtain ⟨v, hv⟩ := e52 (d := d) (by omega) (nt 0 n.toNatClampNeg) (x2.1 4 n.toNatClampNeg) x2
        rw [q2.nd hn, hv, mj_rI_k]
        exact QR.code (by omega) l2 (QR.id_ q2 l2)
      have : sp_i (nK nt n) 10 20 = false := by
        unfold sp_i; rw [Bool.and_eq_false_iff]
        by_cases z : 10 ≤ nK nt n
        · exact Or.inr (decide_eq_false (fun w => k1 ⟨z, w⟩))
        · exact Or.inl (decide_eq_false z)
      rw [if_pos this]
      by_cases c21 : nK nt n = 21
      · obtain ⟨ea, -⟩ := wE_neg hT hn hdp c21
        rw [if_pos (show nt 0 n.toNatClampNeg = 21 from c21)]
        refine QR.bi (V ea (by omega) hb' a hl) (fun x1 q1 l1 => ?_)
        obtain ⟨v, hv⟩ := e41 (d := d) (by omega) (x1.1 4 n.toNatClampNeg) x1
        rw [q1.nd hn, hv, mj_rI_k]
        exact QR.code (by omega) l1 (QR.id_ q1 l1)
      rw [if_neg (show ¬ nt 0 n.toNatClampNeg = 21 from c21)]
      by_cases c22 : nK nt n = 22
      · obtain ⟨eb, -⟩ := wE_cast hT hn hdp c22
        rw [if_pos (show nt 0 n.toNatClampNeg = 22 from c22)]
        refine QR.bi (V eb (by omega) hb' a hl) (fun x1 q1 l1 => ?_)
        rw [q1.nd eb.1]
        exact QR.e (c_castq (by omega) l1 _ _) (QR.id_ q1 l1)
      rw [if_neg (show ¬ nt 0 n.toNatClampNeg = 22 from c22)]
      by_cases c32 : nK nt n = 32
      · obtain ⟨ea, ta, t1, t2, t3, -⟩ := wE_choose hT hn hdp c32
        have hf1 : 1 ≤ f := by have := (hT.d t1).1; omega
        obtain ⟨f', rfl⟩ : ∃ e, f = e + 1 := ⟨f - 1, by omega⟩
        obtain ⟨p1, p2, -⟩ := wE_pair hT t1 t2 t3
        rw [if_pos (show nt 0 n.toNatClampNeg = 32 from c32)]
        refine QR.lb (by omega) a hl (by omega) (fun i x1 q1 l1 => ?_)
        refine QR.lb (by omega) q1 l1 (by omega) (fun j x2 q2 l2 => ?_)
        refine QR.bi (Rc _ P _ _ lm lv x2 g d 0 (nI i) ea ta (by omega) (by omega) q2 l2) (fun x3 q3 l3 => ?_)
        rw [q3.nd t1, q3.T.2.1]
        refine QR.bi (V (p1.mono (Nat.le_succ _)) (by omega) (by omega) q3 l3) (fun x4 q4 l4 => ?_)
        refine QR.bi (QR.go (by omega) q4 l4 _) (fun x5 q5 l5 => ?_)
        -- the older label is put first
        have sw : ∀ {z : mj_X}, Y1 nt N P ((j, true) :: (i, true) :: X) (b + 1 + 1) lm lv z g → Y1 nt N P ((i, true) :: (j, true) :: X) (b + 1 + 1) lm lv z g := by
          intro z q
          have hp : ((j, true) :: (i, true) :: X).Perm ((i, true) :: (j, true) :: X) := List.Perm.swap _ _ _
          have yl : ∀ {nl u : Nat}, yL ((j, true) :: (i, true) :: X) nl lm lv z u → yL ((i, true) :: (j, true) :: X) nl lm lv z u := by
            intro nl u hL
            obtain ⟨fr, L, l1, l2, l3, l4, l5, l6, l7, l8, l9⟩ := hL
            have pm := (hp.map Prod.fst).append_left fr
            exact ⟨fr, L, l1, l2, l3, (pm.nodup_iff).mp l4, fun k hk => l5 k (pm.mem_iff.mpr hk), l6, fun k hk hv => ⟨(l7 k hk hv).1, fun w => (l7 k hk hv).2 (pm.mem_iff.mpr w)⟩, l8, fun p hpp => l9 p (hp.mem_iff.mpr hpp)⟩
          refine ⟨q.1, q.2.1, q.2.2.1, ?_⟩
          rcases q.2.2.2 with ⟨h0, hL, o1, o2, o3, o4, o5, o6, ⟨v1, v2, v3, v4⟩, o8⟩ | ⟨m, hL, ho⟩
          · exact Or.inl ⟨h0, yl hL, o1, o2, o3, o4, o5, o6, ⟨v1, v2, v3, fun p hpp => v4 p (hp.mem_iff.mpr hpp)⟩, o8⟩
          · exact Or.inr ⟨m, yl hL, ho⟩
        refine QR.bi (QR.pl (by omega) (sw q5) l5) (fun x6 q6 l6 => ?_)
        rw [q6.nd t1, q6.T.2.2.1]
        refine QR.bi (V (p2.mono (Nat.le_succ _)) (by omega) (by omega) q6 l6) (fun x7 q7 l7 => ?_)
        exact (QR.pl (by omega) q7 l7).end_
      rw [if_neg (show ¬ nt 0 n.toNatClampNeg = 32 from c32)]
      by_cases c46 : nK nt n = 46
      · obtain ⟨-, -, -, eb, -⟩ := wE_make hT hn hdp c46
        rw [if_pos (show nt 0 n.toNatClampNeg = 46 from c46)]
        refine QR.bi (V eb (by omega) hb' a hl) (fun x1 q1 l1 => QR.code (by omega) l1 ?_)
        have c340 : ∀ s1 s4 : Int32, QR nt N P X b lm lv g (rX0_plain d (340, [some (.ref 0), some (.int n), some (.int (nA nt n)), some (.int (nB nt n)), some (.int s4), none, none], [.int s1, .ref 0], x1)) x1 := by
          intro s1 s4
          rw [bX0_plain_340]
          exact QR.e (e38 (d := d) (by omega) s1 x1 l1) (QR.id_ q1 l1)
        repeat' split
        all_goals exact c340 _ _
      rw [if_neg (show ¬ nt 0 n.toNatClampNeg = 46 from c46)]
      by_cases c47 : nK nt n = 47
      · obtain ⟨ea, -⟩ := wE_len hT hn hdp c47
        rw [if_pos (show nt 0 n.toNatClampNeg = 47 from c47)]
        exact QR.bi (V ea (by omega) hb' a hl) (fun x1 q1 l1 => QR.code (by omega) l1 (QR.id_ q1 l1))
      · exact (k_rest hEx k4 c6 c7 c8 c9 c21 c22 c32 c34 c46 c47 c48 c51 k1 hk k3).elim
    · rw [if_neg (show ¬ (4 : Int32) < nt 0 n.toNatClampNeg from k4), a.nd hn]
      have k4 : nK nt n ≤ 4 := Int32.not_lt.mp k4
      have k0 : 1 ≤ nK nt n := by
        have q := sp_E_iff.mp hEx
        have r := Int32.le_iff_toInt_le.mp k4
        have r : (nK nt n).toInt ≤ 4 := r
        refine Int32.le_iff_toInt_le.mpr ?_
        show (1 : Int) ≤ _
        generalize (nK nt n).toInt = z at *
        omega
      have ht := wE_con hT hn hdp k0 k4
      rw [sX0_bitsOf (by omega) a hn k0 k4, mj_rL_k, a.T.2.2.2.1, hT.ty hn]
      have l1 := i_lo k0 (k := 1) rfl
      have l4 := i_hi k4 (k := 4) rfl
      exact (QR.k (by omega) (by omega) (by omega) a hl).end_
  refine QR.bi plain (fun x1 q1 l1 => ?_)
  split
  · rw [q1.nd hn]
    exact QR.e (c_dupq (by omega) l1 _).2.2 (QR.id_ q1 l1)
  · exact QR.id_ q1 l1
/-- a condition -/
theorem Q_cd {d : Nat} {so l : Int32} (hd : 6 * (f + 1) + 11 ≤ d) (hT : wTb nt N M res par) (Rv : QV nt N f) (Rc : QC nt N f) (hE : wE nt N (f + 1) n) (ht : nT nt n = 1) (hb : b + 4 * (f + 1) ≤ 49900) (a : Y1 nt N P X b lm lv x g) (hl : yq x) : QR nt N P X b lm lv g (kX0 d 65 [.ref 0, .int n, .int so, .int l] x) x := by
  have hE' := hE
  obtain ⟨hn, hEx, hdp⟩ := hE
  have hb' : b + 4 * f + 2 ≤ 49900 := by omega
  have V0 := fun (hk : ¬ (23 ≤ nK nt n ∧ nK nt n ≤ 31)) => Q_v0 (d := d - 1) (w := 1) (by omega) hT Rv Rc hE' hk hb a hl
  obtain ⟨d, rfl⟩ : ∃ c, d = c + 1 := ⟨d - 1, by omega⟩
  rw [Nat.add_sub_cancel] at V0
  have V : ∀ {m : Int32} {X' : List (Nat × Bool)} {b' : Nat} {z : mj_X} {u : Int32}, wE nt N f m → b' + 4 * f + 2 ≤ 49900 → Y1 nt N P X' b' lm lv z g → yq z → QR nt N P X' b' lm lv g (kX0 d 35 [.ref 0, .int m, .int u] z) z := fun h1 h3 h4 h5 => Rv _ P _ _ lm lv _ g _ _ h1 (by omega) h3 h4 h5
  have C : ∀ {m : Int32} {X' : List (Nat × Bool)} {b' : Nat} {z : mj_X} {u l : Int32}, wE nt N f m → nT nt m = 1 → b' + 4 * f + 2 ≤ 49900 → Y1 nt N P X' b' lm lv z g → yq z → QR nt N P X' b' lm lv g (kX0 d 65 [.ref 0, .int m, .int u, .int l] z) z := fun h1 h2 h3 h4 h5 => Rc _ P _ _ lm lv _ g _ _ _ h1 h2 (by omega) (by omega) h4 h5
  rw [eX0_condition, a.nd hn, a.nd hn, a.nd hn, a.T.1, a.T.2.1, a.T.2.2.1]
  have J2_ : ∀ {z : mj_X} {l : Int32}, Y1 nt N P X b lm lv z g → yq z → QR nt N P X b lm lv g (mj_rV (kX0 d 66 [.ref 0, .int l] z) fun x1 => some (none, x1)) z := fun q h => (QR.go (by omega) q h _).end_
  by_cases c1 : nK nt n = 1
  · rw [if_pos (show nt 0 n.toNatClampNeg = 1 from c1)]
    repeat' split
    all_goals first | exact J2_ a hl | exact QR.id_ a hl
  rw [if_neg (show ¬ nt 0 n.toNatClampNeg = 1 from c1)]
  by_cases c31 : nK nt n = 31
  · obtain ⟨ea, ta, -⟩ := wE_not hT hn hdp c31
    rw [if_pos (show nt 0 n.toNatClampNeg = 31 from c31)]
    split
    · exact (C ea ta hb' a hl).end_
    · exact (C ea ta hb' a hl).end_
  rw [if_neg (show ¬ nt 0 n.toNatClampNeg = 31 from c31)]
  have c126 : ∀ (s1 s2 i u4 : Int32) (i0 : Nat) (z : mj_X), i = nI i0 → wE nt N f s1 → nT nt s1 = 1 → wE nt N f (nB nt n) → nT nt (nB nt n) = 1 → Y1 nt N P ((i0, true) :: X) (b + 1) lm lv z g → yq z → QR nt N P X b lm lv g (rX0_condition d (126, [some (.ref 0), some (.int n), some (.int so), some (.int l), some (.int u4), some (.int (nA nt n)), some (.int (nB nt n)), some (.int i), none, none, none], [.int s2, .int s1, .ref 0], z)) z := by
    intro s1 s2 i u4 i0 z hi e1 t1 e2 t2 q hz
    subst hi
    rw [bX0_condition_126]
    refine QR.bi (C e1 t1 (by omega) q hz) (fun x1 q1 l1 => QR.bi (C e2 t2 (by omega) q1 l1) (fun x2 q2 l2 => (QR.pl (by omega) q2 l2).end_))
  have c104 : ∀ s0 u4 : Int32, wE nt N f (nA nt n) → nT nt (nA nt n) = 1 → wE nt N f (nB nt n) → nT nt (nB nt n) = 1 → QR nt N P X b lm lv g (rX0_condition d (104, [some (.ref 0), some (.int n), some (.int so), some (.int l), some (.int u4), some (.int (nA nt n)), some (.int (nB nt n)), none, none, none, none], [.int s0], x)) x := by
    intro s0 u4 e1 t1 e2 t2
    rw [bX0_condition_104]
    split
    · refine QR.lb (by omega) a hl (by omega) (fun i x1 q1 l1 => ?_)
      split
      · exact c126 _ _ _ _ i _ rfl e1 t1 e2 t2 q1 l1
      · exact c126 _ _ _ _ i _ rfl e1 t1 e2 t2 q1 l1
    · exact QR.bi (C e1 t1 hb' a hl) (fun x1 q1 l1 => (C e2 t2 hb' q1 l1).end_)
  rw [bX0_condition_78]
  by_cases c29 : nK nt n = 29
  · obtain ⟨e1, t1, e2, t2, -⟩ := wE_both hT hn hdp c29
    rw [if_pos (show nt 0 n.toNatClampNeg = 29 from c29)]
    split
    · exact c104 _ _ e1 t1 e2 t2
    · exact c104 _ _ e1 t1 e2 t2
  rw [if_neg (show ¬ nt 0 n.toNatClampNeg = 29 from c29)]
  by_cases c30 : nK nt n = 30
  · obtain ⟨e1, t1, e2, t2, -⟩ := wE_either hT hn hdp c30
    rw [if_pos (show nt 0 n.toNatClampNeg = 30 from c30)]
    split
    · exact c104 _ _ e1 t1 e2 t2
    · exact c104 _ _ e1 t1 e2 t2
  rw [if_neg (show ¬ nt 0 n.toNatClampNeg = 30 from c30), bX0_condition_167, sX0_isIn' (by omega), sp_bi, show sp_in (nt 0 n.toNatClampNeg).toInt64 23 28 = sp_i (nK nt n) 23 28 from sp_in_i _ 23 28]
  by_cases k2 : 23 ≤ nK nt n ∧ nK nt n ≤ 28
  · have : sp_i (nK nt n) 23 28 = true := by unfold sp_i; rw [decide_eq_true k2.1, decide_eq_true k2.2]; rfl
    rw [if_neg (by rw [this]; decide)]
    obtain ⟨ea, eb, -⟩ := wE_cmp hT hn hdp k2.1 k2.2
    have c322 : ∀ (u4 u7 u8 u9 : Int32) (o10 : Option Value) (z : mj_X), Y1 nt N P X b lm lv z g → yq z → QR nt N P X b lm lv g (rX0_condition d (322, [some (.ref 0), some (.int n), some (.int so), some (.int l), some (.int u4), some (.int (nA nt n)), some (.int (nB nt n)), some (.int u7), some (.int u8), some (.int u9), o10], [], z)) z := by
      intro u4 u7 u8 u9 o10 z q hz
      obtain ⟨d', rfl⟩ : ∃ e, d = e + 1 := ⟨d - 1, by omega⟩
      rw [bX0_condition_322]
      split
      · rw [eX0_contrary, mj_rI_k]
        exact QR.e (QR.br (by omega) hz _ _) (QR.id_ q hz)
      · exact QR.e (QR.br (by omega) hz _ _) (QR.id_ q hz)
    have c308 : ∀ (u4 u7 u8 u9 u10 s1 : Int32) (z : mj_X), Y1 nt N P X b lm lv z g → yq z → QR nt N P X b lm lv g (rX0_condition d (308, [some (.ref 0), some (.int n), some (.int so), some (.int l), some (.int u4), some (.int (nA nt n)), some (.int (nB nt n)), some (.int u7), some (.int u8), some (.int u9), some (.int u10)], [.int s1, .ref 0], z)) z := by
      intro u4 u7 u8 u9 u10 s1 z q hz
      rw [bX0_condition_308]
      split
      · exact QR.code (by omega) hz (c322 _ _ _ _ _ _ q hz)
      · exact QR.code (by omega) hz (c322 _ _ _ _ _ _ q hz)
    have c278 : ∀ (u4 u7 u8 u9 s0 : Int32) (z : mj_X), Y1 nt N P X b lm lv z g → yq z → QR nt N P X b lm lv g (rX0_condition d (278, [some (.ref 0), some (.int n), some (.int so), some (.int l), some (.int u4), some (.int (nA nt n)), some (.int (nB nt n)), some (.int u7), some (.int u8), some (.int u9), none], [.int s0], z)) z := by
      intro u4 u7 u8 u9 s0 z q hz
      rw [bX0_condition_278]
      split
      · exact QR.code (by omega) hz (c322 _ _ _ _ _ _ q hz)
      · split
        · exact c308 _ _ _ _ _ _ _ q hz
        · exact c308 _ _ _ _ _ _ _ q hz
    rw [a.nd ea.1]
    refine QR.bi (V ea hb' a hl) (fun x1 q1 l1 => ?_)
    have vb : ∀ k : mj_X → mj_R, (∀ z, Y1 nt N P X b lm lv z g → yq z → QR nt N P X b lm lv g (k z) z) → QR nt N P X b lm lv g (mj_rV (kX0 d 35 [.ref 0, .int (nB nt n), .int (1 : Int32)] x1) k) x1 := fun k hk => QR.bi (V eb hb' q1 l1) hk
    rw [q1.nd eb.1, q1.nd eb.1]
    split
    · split
      · split
        · exact c322 _ _ _ _ _ _ q1 l1
        · exact vb _ (fun z q h => c322 _ _ _ _ _ _ q h)
      · exact vb _ (fun z q h => c322 _ _ _ _ _ _ q h)
    · refine vb _ (fun z q h => ?_)
      repeat' split
      all_goals exact c278 _ _ _ _ _ _ q h
  · have : sp_i (nK nt n) 23 28 = false := by
      unfold sp_i; rw [Bool.and_eq_false_iff]
      by_cases z : 23 ≤ nK nt n
      · exact Or.inr (decide_eq_false (fun w => k2 ⟨z, w⟩))
      · exact Or.inl (decide_eq_false z)
    rw [if_pos this]
    have nk : ¬ (23 ≤ nK nt n ∧ nK nt n ≤ 31) := by
      intro z
      have ne : ∀ {c : Int32}, ¬ nK nt n = c → ¬ (nK nt n).toInt = c.toInt := fun h e => h (Int32.toInt_inj.mp e)
      have e29 : ¬ (nK nt n).toInt = 29 := ne c29
      have e30 : ¬ (nK nt n).toInt = 30 := ne c30
      have e31 : ¬ (nK nt n).toInt = 31 := ne c31
      have r1 : (23 : Int) ≤ (nK nt n).toInt := Int32.le_iff_toInt_le.mp z.1
      have r2 : (nK nt n).toInt ≤ 31 := Int32.le_iff_toInt_le.mp z.2
      exact k2 ⟨z.1, Int32.le_iff_toInt_le.mpr (by show (nK nt n).toInt ≤ 28; omega)⟩
    refine QR.bi (V0 nk) (fun x1 q1 l1 => ?_)
    split
    · exact QR.e (QR.br (by omega) l1 _ _) (QR.id_ q1 l1)
    · exact QR.e (QR.br (by omega) l1 _ _) (QR.id_ q1 l1)
theorem Q_all (hT : wTb nt N M res par) : ∀ f : Nat, QV nt N f ∧ QC nt N f := by
  intro f
  induction f with
  | zero => exact ⟨fun n _ _ _ _ _ _ _ _ _ hE => by have := (hT.d hE.1).1; have := hE.2.2; omega, fun n _ _ _ _ _ _ _ _ _ _ hE => by have := (hT.d hE.1).1; have := hE.2.2; omega⟩
  | succ f ih =>
    obtain ⟨Rv, Rc⟩ := ih
    refine ⟨fun n P X b lm lv x g d w hE hd hb a hl => ?_, fun n P X b lm lv x g d so l hE ht hd hb a hl => Q_cd hd hT Rv Rc hE ht hb a hl⟩
    by_cases hk : 23 ≤ nK nt n ∧ nK nt n ≤ 31
    · have hE' := hE
      obtain ⟨hn, hEx, hdp⟩ := hE
      have ht := nT_b hT hE' hk
      obtain ⟨d, rfl⟩ : ∃ c, d = c + 1 := ⟨d - 1, by omega⟩
      have ge : ∀ {c : Int32}, c.toInt < 23 ∨ 31 < c.toInt → ¬ nK nt n = c := by
        intro c hc e
        have r1 : (23 : Int) ≤ (nK nt n).toInt := Int32.le_iff_toInt_le.mp hk.1
        have r2 : (nK nt n).toInt ≤ 31 := Int32.le_iff_toInt_le.mp hk.2
        rw [e] at r1 r2; omega
      rw [eX0_value_2, a.nd hn, a.nd hn, a.nd hn, a.T.1, a.T.2.1, a.T.2.2.1]
      show QR nt N P X b lm lv g (mj_lk (nK nt n) 225 _ _) x
      rw [lk4 (ge (by decide)) (ge (by decide)) (ge (by decide)) (ge (by decide))]
      show QR nt N P X b lm lv g (rX0_value_2 d (246, [some (.ref 0), some (.int n), some (.int w), some (.int (nA nt n)), some (.int (nB nt n)), none], [], x)) x
      rw [bX0_value_2_246, a.nd hn, a.T.1, sX0_isIn' (by omega), sp_bi, show sp_in (nt 0 n.toNatClampNeg).toInt64 35 45 = sp_i (nK nt n) 35 45 from sp_in_i _ 35 45, if_pos (by unfold sp_i; rw [decide_eq_false (fun z => absurd (Int32.le_trans z hk.2) (by decide))]; rfl)]
      have plain : QR nt N P X b lm lv g (kX0 d 57 [.ref 0, .int n, .int (nA nt n), .int (nB nt n)] x) x := by
        obtain ⟨d, rfl⟩ : ∃ e, d = e + 1 := ⟨d - 1, by omega⟩
        rw [eX0_plain, a.nd hn, a.T.1, if_pos (show (4 : Int32) < nt 0 n.toNatClampNeg from Int32.lt_of_lt_of_le (by decide) hk.1), if_neg (show ¬ nt 0 n.toNatClampNeg = 51 from ge (by decide)), if_neg (show ¬ nt 0 n.toNatClampNeg = 6 from ge (by decide)), if_neg (show ¬ nt 0 n.toNatClampNeg = 8 from ge (by decide)), sX0_isIn' (by omega), sp_bi, show sp_in (nt 0 n.toNatClampNeg).toInt64 10 20 = sp_i (nK nt n) 10 20 from sp_in_i _ 10 20, if_pos (by unfold sp_i; rw [Bool.and_eq_false_iff]; exact Or.inr (decide_eq_false (fun z => absurd (Int32.le_trans hk.1 z) (by decide)))), if_neg (show ¬ nt 0 n.toNatClampNeg = 21 from ge (by decide)), if_neg (show ¬ nt 0 n.toNatClampNeg = 22 from ge (by decide)), if_neg (show ¬ nt 0 n.toNatClampNeg = 32 from ge (by decide)), if_neg (show ¬ nt 0 n.toNatClampNeg = 46 from ge (by decide)), if_neg (show ¬ nt 0 n.toNatClampNeg = 47 from ge (by decide))]
        refine QR.lb (by omega) a hl (by omega) (fun i x1 q1 l1 => ?_)
        refine QR.lb (by omega) q1 l1 (by omega) (fun j x2 q2 l2 => ?_)
        have sw : ∀ {z : mj_X}, Y1 nt N P ((j, true) :: (i, true) :: X) (b + 1 + 1) lm lv z g → Y1 nt N P ((i, true) :: (j, true) :: X) (b + 1 + 1) lm lv z g := by
          intro z q
          have hp : ((j, true) :: (i, true) :: X).Perm ((i, true) :: (j, true) :: X) := List.Perm.swap _ _ _
          have yl : ∀ {nl u : Nat}, yL ((j, true) :: (i, true) :: X) nl lm lv z u → yL ((i, true) :: (j, true) :: X) nl lm lv z u := by
            intro nl u hL
            obtain ⟨fr, L, l1, l2, l3, l4, l5, l6, l7, l8, l9⟩ := hL
            have pm := (hp.map Prod.fst).append_left fr
            exact ⟨fr, L, l1, l2, l3, (pm.nodup_iff).mp l4, fun k hk => l5 k (pm.mem_iff.mpr hk), l6, fun k hk hv => ⟨(l7 k hk hv).1, fun w => (l7 k hk hv).2 (pm.mem_iff.mpr w)⟩, l8, fun p hpp => l9 p (hp.mem_iff.mpr hpp)⟩
          refine ⟨q.1, q.2.1, q.2.2.1, ?_⟩
          rcases q.2.2.2 with ⟨h0, hL, o1, o2, o3, o4, o5, o6, ⟨v1, v2, v3, v4⟩, o8⟩ | ⟨m, hL, ho⟩
          · exact Or.inl ⟨h0, yl hL, o1, o2, o3, o4, o5, o6, ⟨v1, v2, v3, fun p hpp => v4 p (hp.mem_iff.mpr hpp)⟩, o8⟩
          · exact Or.inr ⟨m, yl hL, ho⟩
        -- the condition may hold two labels more
        refine QR.bi (Q_cd (d := d) (by omega) hT Rv Rc hE' ht ?_ q2 l2) (fun x3 q3 l3 => ?_)
        · omega
        refine QR.code (by omega) l3 ?_
        refine QR.bi (QR.go (by omega) q3 l3 _) (fun x5 q5 l5 => ?_)
        refine QR.bi (QR.pl (by omega) (sw q5) l5) (fun x6 q6 l6 => QR.code (by omega) l6 ?_)
        exact (QR.pl (by omega) q6 l6).end_
      refine QR.bi plain (fun x1 q1 l1 => ?_)
      split
      · rw [q1.nd hn]
        exact QR.e (c_dupq (by omega) l1 _).2.2 (QR.id_ q1 l1)
      · exact QR.id_ q1 l1
    · exact Q_v0 (by omega) hT Rv Rc hE hk (by omega) a hl
end
