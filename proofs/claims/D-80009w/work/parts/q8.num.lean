/-! NUMBERS: both classes' arithmetic -/
abbrev nFl (v : Int64) : UInt32 := w_f32 v.toInt32
abbrev nDl (v : Int64) : UInt64 := w_f64 v
def oF (b : UInt32) : Int64 := (mj_f2b b).toInt64
def oD (b : UInt64) : Int64 := mj_d2b b
theorem mj_n32_k {b : UInt32} (h : fN b) (r : mj_R) : mj_n32 b r = r := if_pos h
theorem mj_n64_k {b : UInt64} (h : dN b) (r : mj_R) : mj_n64 b r = r := if_pos h
theorem sX0_ofFloat {d : Nat} (hd : 1 ≤ d) (b : UInt32) (x : mj_X) : kX0 d 60 [.float b] x = some (some (.long (oF b)), x) := by
  obtain ⟨d, rfl⟩ : ∃ c, d = c + 1 := ⟨d - 1, by omega⟩
  rw [eX0_ofFloat]; rfl
theorem sX0_ofDouble {d : Nat} (hd : 1 ≤ d) (b : UInt64) (x : mj_X) : kX0 d 62 [.double b] x = some (some (.long (oD b)), x) := by
  obtain ⟨d, rfl⟩ : ∃ c, d = c + 1 := ⟨d - 1, by omega⟩
  rw [eX0_ofDouble]; rfl
theorem sX1_floatOf {d : Nat} (hd : 1 ≤ d) (v : Int64) (x : mj_X) : kX1 d 123 [.long v] x = some (some (.float (nFl v)), x) := by
  obtain ⟨d, rfl⟩ : ∃ c, d = c + 1 := ⟨d - 1, by omega⟩
  rw [eX1_floatOf]; unfold nFl w_f32
  by_cases q : v.toInt32 &&& 2147483647 ≤ (2139095040 : Int32)
  · rw [if_pos q, if_pos q]
    have : vn_sni2f v.toInt32 = false := by
      rw [f32_le] at q
      unfold vn_sni2f
      rw [decide_eq_false (UInt32.not_lt.mpr q)]; rfl
    show mj_rF (bif vn_sni2f v.toInt32 then none else some (some (.float v.toInt32.toUInt32), x)) _ = _
    rw [this]; rfl
  · rw [if_neg q, if_neg q]
    have : vn_sni2f (2143289344 : Int32) = false := by decide
    show mj_rF (bif vn_sni2f (2143289344 : Int32) then none else some (some (.float (2143289344 : Int32).toUInt32), x)) _ = _
    rw [this]; rfl
theorem sX1_doubleOf {d : Nat} (hd : 1 ≤ d) (v : Int64) (x : mj_X) : kX1 d 124 [.long v] x = some (some (.double (nDl v)), x) := by
  obtain ⟨d, rfl⟩ : ∃ c, d = c + 1 := ⟨d - 1, by omega⟩
  rw [eX1_doubleOf]; unfold nDl w_f64
  by_cases q : v &&& 9223372036854775807 ≤ (9218868437227405312 : Int64)
  · rw [if_pos (by rw [lg_cmp_le0]; exact q), if_pos q]
    have : vn_snl2d v = false := by
      rw [f64_le] at q
      unfold vn_snl2d
      rw [decide_eq_false (UInt64.not_lt.mpr q)]; rfl
    show mj_rD (bif vn_snl2d v then none else some (some (.double v.toUInt64), x)) _ = _
    rw [this]; rfl
  · rw [if_neg (by rw [lg_cmp_le0]; exact q), if_neg q]
    have : vn_snl2d (9221120237041090560 : Int64) = false := by decide
    show mj_rD (bif vn_snl2d (9221120237041090560 : Int64) then none else some (some (.double (9221120237041090560 : Int64).toUInt64), x)) _ = _
    rw [this]; rfl
theorem sX1_bitsOf {d : Nat} (hd : 1 ≤ d) (b : UInt32) (x : mj_X) : kX1 d 125 [.float b] x = some (some (.long (oF b)), x) := by
  obtain ⟨d, rfl⟩ : ∃ c, d = c + 1 := ⟨d - 1, by omega⟩
  rw [eX1_bitsOf]; unfold oF
  by_cases q : fN b
  · rw [if_pos ((fcmp_self b).mpr q)]
  · rw [if_neg (fun z => q ((fcmp_self b).mp z))]
    unfold mj_f2b; unfold fN at q; rw [if_neg q]; rfl
theorem sX1_bitsOf_2 {d : Nat} (hd : 1 ≤ d) (b : UInt64) (x : mj_X) : kX1 d 126 [.double b] x = some (some (.long (oD b)), x) := by
  obtain ⟨d, rfl⟩ : ∃ c, d = c + 1 := ⟨d - 1, by omega⟩
  rw [eX1_bitsOf_2]; unfold oD
  by_cases q : dN b
  · rw [if_pos ((dcmp_self b).mpr q)]
  · rw [if_neg (fun z => q ((dcmp_self b).mp z))]
    unfold mj_d2b; unfold dN at q; rw [if_neg q]
theorem sX0_isFinite {d : Nat} (hd : 1 ≤ d) (A : UInt64) (x : mj_X) : kX0 d 138 [.double A] x = some (some (.int (sp_b (kFin A))), x) := by
  obtain ⟨d, rfl⟩ : ∃ c, d = c + 1 := ⟨d - 1, by omega⟩
  rw [eX0_isFinite]; unfold kFin
  by_cases q : Op.cmpValue (FP.dcmp A (18442240474082181119 : UInt64)) .l < 0
  · rw [if_pos q, decide_eq_true q]; rfl
  · rw [if_neg q, decide_eq_false q]
    by_cases q2 : 0 < Op.cmpValue (FP.dcmp A (9218868437227405311 : UInt64)) .g
    · rw [if_pos q2, decide_eq_true q2]; rfl
    · rw [if_neg q2, decide_eq_false q2]; rfl
def nOps (op : Int32) : Prop := op = 10 ∨ op = 11 ∨ op = 12 ∨ op = 13 ∨ op = 14
theorem kEq_if {α : Type} {A B : UInt64} {p q : α} : (if Op.cmpValue (FP.dcmp A B) .l = 0 then p else q) = bif kEq A B then p else q := by
  unfold kEq
  by_cases h : Op.cmpValue (FP.dcmp A B) .l = 0
  · rw [if_pos h, decide_eq_true h]; rfl
  · rw [if_neg h, decide_eq_false h]; rfl
theorem kPos_if {α : Type} {A : UInt64} {p q : α} : (if Op.cmpValue (FP.dcmp A FP.dconst0) .l ≤ 0 then p else q) = bif kPos A then q else p := by
  unfold kPos
  by_cases h : Op.cmpValue (FP.dcmp A FP.dconst0) .l ≤ 0
  · rw [if_pos h, decide_eq_true h]; rfl
  · rw [if_neg h, decide_eq_false h]; rfl
theorem sX0_isNone {d : Nat} (hd : 2 ≤ d) {op : Int32} (ho : nOps op) (A B : UInt64) (x : mj_X) : kX0 d 137 [.int op, .double A, .double B] x = some (some (.int (sp_b (hN0 op A B))), x) := by
  obtain ⟨d, rfl⟩ : ∃ c, d = c + 1 := ⟨d - 1, by omega⟩
  rw [eX0_isNone, sX0_isFinite (by omega), mj_rI_k]
  rcases ho with rfl | rfl | rfl | rfl | rfl
  · show _ = some (some (Value.int (sp_b ((!kFin A && !kFin B) && !kEq A B))), x)
    cases a : kFin A
    · rw [if_pos (by rfl), sX0_isFinite (by omega), mj_rI_k]
      cases b : kFin B
      · rw [if_pos (by rfl)]
        show rX0_isNone d (52, _, _, _) = _
        rw [bX0_isNone_52, if_neg (by decide), kEq_if]
        cases kEq A B <;> rfl
      · rw [if_neg (by decide), bX0_isNone_18]
        show rX0_isNone d (52, _, _, _) = _
        rw [bX0_isNone_52, if_pos (by rfl)]; rfl
    · rw [if_neg (by decide), bX0_isNone_18]
      show rX0_isNone d (52, _, _, _) = _
      rw [bX0_isNone_52, if_pos (by rfl)]; rfl
  · show _ = some (some (Value.int (sp_b ((!kFin A && !kFin B) && kEq A B))), x)
    cases a : kFin A
    · rw [if_pos (by rfl), sX0_isFinite (by omega), mj_rI_k]
      cases b : kFin B
      · rw [if_pos (by rfl)]
        show rX0_isNone d (69, _, _, _) = _
        rw [bX0_isNone_69, if_neg (by decide), kEq_if]
        cases kEq A B <;> rfl
      · rw [if_neg (by decide), bX0_isNone_18]
        show rX0_isNone d (69, _, _, _) = _
        rw [bX0_isNone_69, if_pos (by rfl)]; rfl
    · rw [if_neg (by decide), bX0_isNone_18]
      show rX0_isNone d (69, _, _, _) = _
      rw [bX0_isNone_69, if_pos (by rfl)]; rfl
  · show _ = some (some (Value.int (sp_b ((kEq A FP.dconst0 && !kFin B) || (kEq B FP.dconst0 && !kFin A)))), x)
    have go : ∀ v : Int32, rX0_isNone d (86, [some (.int 12), some (.double A), none, some (.double B), none, some (.int v)], [], x) = some (some (.int (sp_b ((kEq A FP.dconst0 && !kFin B) || (kEq B FP.dconst0 && !kFin A)))), x) := fun v => by
      have n99 : rX0_isNone d (99, [some (.int 12), some (.double A), none, some (.double B), none, some (.int v)], [], x) = some (some (.int (sp_b (kEq B FP.dconst0 && !kFin A))), x) := by
        rw [bX0_isNone_99, kEq_if, sX0_isFinite (by omega), mj_rI_k]
        cases kEq B FP.dconst0 <;> cases kFin A <;> rfl
      rw [bX0_isNone_86, n99, kEq_if, sX0_isFinite (by omega), mj_rI_k, n99]
      cases kEq A FP.dconst0
      · rfl
      · cases kFin B
        · rfl
        · rw [cond_true, if_neg (by decide)]; rfl
    cases a : kFin A
    · rw [if_pos (by rfl), sX0_isFinite (by omega), mj_rI_k]
      cases b : kFin B
      · rw [if_pos (by rfl)]; have g := go 1; rw [a, b] at g; exact g
      · rw [if_neg (by decide), bX0_isNone_18]; have g := go 0; rw [a, b] at g; exact g
    · rw [if_neg (by decide), bX0_isNone_18]; have g := go 0; rw [a] at g; exact g
  · show _ = some (some (Value.int (sp_b ((!kFin A && !kFin B) || (kEq A FP.dconst0 && kEq B FP.dconst0)))), x)
    have go : ∀ b : Bool, rX0_isNone d (118, [some (.int 13), some (.double A), none, some (.double B), none, some (.int (sp_b b))], [], x) = some (some (.int (sp_b (b || (kEq A FP.dconst0 && kEq B FP.dconst0)))), x) := fun b => by
      rw [bX0_isNone_118]
      cases b
      · rw [if_pos (by rfl), kEq_if, kEq_if]
        cases kEq A FP.dconst0 <;> cases kEq B FP.dconst0 <;> rfl
      · rw [if_neg (by decide)]; rfl
    cases a : kFin A
    · rw [if_pos (by rfl), sX0_isFinite (by omega), mj_rI_k]
      cases b : kFin B
      · rw [if_pos (by rfl)]; exact go true
      · rw [if_neg (by decide), bX0_isNone_18]; exact go false
    · rw [if_neg (by decide), bX0_isNone_18]; exact go false
  · show _ = some (some (Value.int (sp_b (!kFin A || kEq B FP.dconst0))), x)
    have go : ∀ v : Int32, rX0_isNone d (141, [some (.int 14), some (.double A), none, some (.double B), none, some (.int v)], [], x) = some (some (.int (sp_b (!kFin A || kEq B FP.dconst0))), x) := fun v => by
      rw [bX0_isNone_141, sX0_isFinite (by omega), mj_rI_k, kEq_if]
      cases kFin A
      · rfl
      · rw [if_neg (by decide)]; cases kEq B FP.dconst0 <;> rfl
    cases a : kFin A
    · rw [if_pos (by rfl), sX0_isFinite (by omega), mj_rI_k]
      cases b : kFin B
      · rw [if_pos (by rfl)]; have g := go 1; rw [a] at g; exact g
      · rw [if_neg (by decide), bX0_isNone_18]; have g := go 0; rw [a] at g; exact g
    · rw [if_neg (by decide), bX0_isNone_18]; have g := go 0; rw [a] at g; exact g
theorem sX1_hasNone {d : Nat} (hd : 1 ≤ d) {op : Int32} (ho : nOps op) (A B : UInt64) (x : mj_X) : kX1 d 128 [.int (op - 10), .double A, .double B] x = some (some (.int (sp_b (hN1 op A B))), x) := by
  obtain ⟨d, rfl⟩ : ∃ c, d = c + 1 := ⟨d - 1, by omega⟩
  have fa : ∀ C : UInt64, ∀ k : Int32 → mj_R, (if 0 < Op.cmpValue (FP.dcmp C (9218868437227405311 : UInt64)) .l then k 1 else if 0 ≤ Op.cmpValue (FP.dcmp C (18442240474082181119 : UInt64)) .g then k 0 else k 1) = k (sp_b (kFar C)) := fun C k => by
    unfold kFar
    by_cases q : 0 < Op.cmpValue (FP.dcmp C (9218868437227405311 : UInt64)) .l
    · rw [if_pos q, decide_eq_true q]; rfl
    · rw [if_neg q, decide_eq_false q]
      by_cases q2 : 0 ≤ Op.cmpValue (FP.dcmp C (18442240474082181119 : UInt64)) .g
      · rw [if_pos q2, decide_eq_false (Int32.not_lt.mpr q2)]; rfl
      · rw [if_neg q2, decide_eq_true (Int32.not_le.mp q2)]; rfl
  rw [eX1_hasNone, fa A (fun v => rX1_hasNone d (21, [some (.int (op - 10)), some (.double A), none, some (.double B), none, none, none], [.int v], x)), bX1_hasNone_21,
    fa B (fun v => rX1_hasNone d (44, [some (.int (op - 10)), some (.double A), none, some (.double B), none, some (.int (sp_b (kFar A))), none], [.int v], x)), bX1_hasNone_44]
  rcases ho with rfl | rfl | rfl | rfl | rfl
  · show rX1_hasNone d (80, _, _, _) = some (some (Value.int (sp_b ((kFar A && kFar B) && (kPos A != kPos B)))), x)
    rw [bX1_hasNone_80, kPos_if, bX1_hasNone_101, bX1_hasNone_101, kPos_if, kPos_if]
    cases kFar A <;> cases kFar B <;> cases kPos A <;> cases kPos B <;> rfl
  · show rX1_hasNone d (121, _, _, _) = some (some (Value.int (sp_b ((kFar A && kFar B) && (kPos A == kPos B)))), x)
    rw [bX1_hasNone_121, kPos_if, bX1_hasNone_142, bX1_hasNone_142, kPos_if, kPos_if]
    cases kFar A <;> cases kFar B <;> cases kPos A <;> cases kPos B <;> rfl
  · show rX1_hasNone d (162, _, _, _) = some (some (Value.int (sp_b ((kFar A && kEq B FP.dconst0) || (kEq A FP.dconst0 && kFar B)))), x)
    rw [bX1_hasNone_162, bX1_hasNone_173, kEq_if, kEq_if]
    cases kFar A <;> cases kFar B <;> cases kEq A FP.dconst0 <;> cases kEq B FP.dconst0 <;> rfl
  · show rX1_hasNone d (190, _, _, _) = some (some (Value.int (sp_b ((kFar A && kFar B) || (kEq A FP.dconst0 && kEq B FP.dconst0)))), x)
    rw [bX1_hasNone_190, bX1_hasNone_200, kEq_if, kEq_if]
    cases kFar A <;> cases kFar B <;> cases kEq A FP.dconst0 <;> cases kEq B FP.dconst0 <;> rfl
  · show rX1_hasNone d (218, _, _, _) = some (some (Value.int (sp_b (kFar A || kEq B FP.dconst0))), x)
    rw [bX1_hasNone_218, kEq_if]
    cases kFar A <;> cases kEq B FP.dconst0 <;> rfl
