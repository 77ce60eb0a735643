/-! what comes to no number: both classes' questions -/
theorem fp_fin64 (a : UInt64) {s : Bool} {c : Nat} {q : Int} (h : vD a = .fin s c q) : c < 9007199254740992 ∧ q ≤ 971 := by
  unfold vD FP.Core.decode at h
  have e1 : FP.Core.fieldE FP.Core.b64 a.toNat = a.toNat / 4503599627370496 % 2048 := rfl
  have e2 : FP.Core.fieldT FP.Core.b64 a.toNat = a.toNat % 4503599627370496 := rfl
  have e3 : FP.Core.b64.exps - 1 = 2047 := by decide
  have e4 : FP.Core.b64.tails = 4503599627370496 := by decide
  have e5 : FP.Core.b64.qmin = -1074 := by decide
  rw [e1, e2, e3, e4, e5] at h
  by_cases h1 : a.toNat / 4503599627370496 % 2048 = 2047
  · rw [if_pos h1] at h
    split at h <;> cases h
  · rw [if_neg h1] at h
    by_cases h2 : a.toNat / 4503599627370496 % 2048 = 0
    · rw [if_pos h2] at h
      injection h with _ hc hq
      omega
    · rw [if_neg h2] at h
      injection h with _ hc hq
      omega
theorem fp_inf64 (a : UInt64) {s : Bool} (h : vD a = .inf s) : a = 0x7ff0000000000000 ∨ a = 0xfff0000000000000 := by
  unfold vD FP.Core.decode at h
  have e1 : FP.Core.fieldE FP.Core.b64 a.toNat = a.toNat / 4503599627370496 % 2048 := rfl
  have e2 : FP.Core.fieldT FP.Core.b64 a.toNat = a.toNat % 4503599627370496 := rfl
  have e3 : FP.Core.b64.exps - 1 = 2047 := by decide
  rw [e1, e2, e3] at h
  by_cases h1 : a.toNat / 4503599627370496 % 2048 = 2047
  · rw [if_pos h1] at h
    by_cases h2 : a.toNat % 4503599627370496 = 0
    · have := a.toNat_lt
      have c : a.toNat = 9218868437227405312 ∨ a.toNat = 18442240474082181120 := by omega
      rcases c with c | c
      · exact Or.inl (UInt64.toNat_inj.mp c)
      · exact Or.inr (UInt64.toNat_inj.mp c)
    · rw [if_neg h2] at h; cases h
  · rw [if_neg h1] at h
    split at h <;> cases h
theorem fp_zero64 (a : UInt64) {s : Bool} {q : Int} (h : vD a = .fin s 0 q) : a = 0 ∨ a = 0x8000000000000000 := by
  unfold vD FP.Core.decode at h
  have e1 : FP.Core.fieldE FP.Core.b64 a.toNat = a.toNat / 4503599627370496 % 2048 := rfl
  have e2 : FP.Core.fieldT FP.Core.b64 a.toNat = a.toNat % 4503599627370496 := rfl
  have e3 : FP.Core.b64.exps - 1 = 2047 := by decide
  have e4 : FP.Core.b64.tails = 4503599627370496 := by decide
  rw [e1, e2, e3, e4] at h
  by_cases h1 : a.toNat / 4503599627370496 % 2048 = 2047
  · rw [if_pos h1] at h
    split at h <;> cases h
  · rw [if_neg h1] at h
    by_cases h2 : a.toNat / 4503599627370496 % 2048 = 0
    · rw [if_pos h2] at h
      injection h with _ hc hq
      have := a.toNat_lt
      have c : a.toNat = 0 ∨ a.toNat = 9223372036854775808 := by omega
      rcases c with c | c
      · exact Or.inl (UInt64.toNat_inj.mp c)
      · exact Or.inr (UInt64.toNat_inj.mp c)
    · rw [if_neg h2] at h
      injection h with _ hc hq
      omega
theorem fp_inf32 (a : UInt32) {s : Bool} (h : vF a = .inf s) : a = 0x7f800000 ∨ a = 0xff800000 := by
  unfold vF FP.Core.decode at h
  have e1 : FP.Core.fieldE FP.Core.b32 a.toNat = a.toNat / 8388608 % 256 := rfl
  have e2 : FP.Core.fieldT FP.Core.b32 a.toNat = a.toNat % 8388608 := rfl
  have e3 : FP.Core.b32.exps - 1 = 255 := by decide
  rw [e1, e2, e3] at h
  by_cases h1 : a.toNat / 8388608 % 256 = 255
  · rw [if_pos h1] at h
    by_cases h2 : a.toNat % 8388608 = 0
    · have := a.toNat_lt
      have c : a.toNat = 2139095040 ∨ a.toNat = 4286578688 := by omega
      rcases c with c | c
      · exact Or.inl (UInt32.toNat_inj.mp c)
      · exact Or.inr (UInt32.toNat_inj.mp c)
    · rw [if_neg h2] at h; cases h
  · rw [if_neg h1] at h
    split at h <;> cases h
theorem fp_zero32 (a : UInt32) {s : Bool} {q : Int} (h : vF a = .fin s 0 q) : a = 0 ∨ a = 0x80000000 := by
  unfold vF FP.Core.decode at h
  have e1 : FP.Core.fieldE FP.Core.b32 a.toNat = a.toNat / 8388608 % 256 := rfl
  have e2 : FP.Core.fieldT FP.Core.b32 a.toNat = a.toNat % 8388608 := rfl
  have e3 : FP.Core.b32.exps - 1 = 255 := by decide
  have e4 : FP.Core.b32.tails = 8388608 := by decide
  rw [e1, e2, e3, e4] at h
  by_cases h1 : a.toNat / 8388608 % 256 = 255
  · rw [if_pos h1] at h
    split at h <;> cases h
  · rw [if_neg h1] at h
    by_cases h2 : a.toNat / 8388608 % 256 = 0
    · rw [if_pos h2] at h
      injection h with _ hc hq
      have := a.toNat_lt
      have c : a.toNat = 0 ∨ a.toNat = 2147483648 := by omega
      rcases c with c | c
      · exact Or.inl (UInt32.toNat_inj.mp c)
      · exact Or.inr (UInt32.toNat_inj.mp c)
    · rw [if_neg h2] at h
      injection h with _ hc hq
      omega
/-- is finite, as CodeWriter asks; is far, as CodeWriterModel does -/
def kFin (A : UInt64) : Bool := !decide (Op.cmpValue (FP.dcmp A (18442240474082181119 : UInt64)) .l < 0) && !decide (0 < Op.cmpValue (FP.dcmp A (9218868437227405311 : UInt64)) .g)
def kFar (A : UInt64) : Bool := decide (0 < Op.cmpValue (FP.dcmp A (9218868437227405311 : UInt64)) .l) || decide (Op.cmpValue (FP.dcmp A (18442240474082181119 : UInt64)) .g < 0)
def kEq (A B : UInt64) : Bool := decide (Op.cmpValue (FP.dcmp A B) .l = 0)
def kPos (A : UInt64) : Bool := !decide (Op.cmpValue (FP.dcmp A FP.dconst0) .l ≤ 0)
theorem fp_dcmp {A B : UInt64} (h : dN A) (h' : dN B) (c : ClassFile.CmpOp) : Op.cmpValue (FP.dcmp A B) c = Op.cmpValue (FP.dcmp A B) .l := by
  obtain ⟨o, ho⟩ := fp_order_some ((dN_iff A).mp h) ((dN_iff B).mp h')
  have e : FP.dcmp A B = some o := ho
  rw [e]; cases o <;> rfl
theorem kFar_eq {A : UInt64} (h : dN A) : kFar A = !kFin A := by
  unfold kFar kFin
  rw [fp_dcmp h (show dN (18442240474082181119 : UInt64) by unfold dN; decide) .g, fp_dcmp h (show dN (9218868437227405311 : UInt64) by unfold dN; decide) .g, Bool.not_and, Bool.not_not, Bool.not_not, Bool.or_comm]
/-- what is not finite is infinite -/
theorem kFin_inf {A : UInt64} (h : dN A) (hf : kFin A = false) : A = 0x7ff0000000000000 ∨ A = 0xfff0000000000000 := by
  cases hv : vD A with
  | nan => exact absurd hv ((dN_iff A).mp h)
  | inf s => exact fp_inf64 A hv
  | fin s c q =>
    exfalso
    obtain ⟨h1, h2⟩ := fp_fin64 A hv
    have m1 : vD (18442240474082181119 : UInt64) = .fin true 9007199254740991 971 := by decide
    have m2 : vD (9218868437227405311 : UInt64) = .fin false 9007199254740991 971 := by decide
    have o1 : FP.dcmp A (18442240474082181119 : UInt64) = FP.Core.order (vD A) (vD (18442240474082181119 : UInt64)) := rfl
    have o2 : FP.dcmp A (9218868437227405311 : UInt64) = FP.Core.order (vD A) (vD (9218868437227405311 : UInt64)) := rfl
    unfold kFin at hf
    rw [o1, o2, hv, m1, m2] at hf
    have mq : min q 971 = q := by omega
    have pw : 9007199254740991 ≤ 9007199254740991 * 2 ^ (971 - q).toNat := Nat.le_mul_of_pos_right _ (Nat.two_pow_pos _)
    have u1 : FP.Core.inUnits c q q = c := by unfold FP.Core.inUnits; rw [Int.sub_self]; show c * 2 ^ 0 = c; rw [Nat.pow_zero, Nat.mul_one]
    have u2 : 9007199254740991 ≤ FP.Core.inUnits 9007199254740991 971 q := pw
    have r1 : FP.Core.order (.fin s c q) (.fin true 9007199254740991 971) = some (compare (FP.Core.signed s c) (FP.Core.signed true (FP.Core.inUnits 9007199254740991 971 q))) := by
      show some (compare (FP.Core.signed s (FP.Core.inUnits c q (min q 971))) _) = _
      rw [mq, u1]
    have r2 : FP.Core.order (.fin s c q) (.fin false 9007199254740991 971) = some (compare (FP.Core.signed s c) (FP.Core.signed false (FP.Core.inUnits 9007199254740991 971 q))) := by
      show some (compare (FP.Core.signed s (FP.Core.inUnits c q (min q 971))) _) = _
      rw [mq, u1]
    rw [r1, r2] at hf
    generalize FP.Core.inUnits 9007199254740991 971 q = U at *
    have s1 : FP.Core.signed true U = -(U : Int) := rfl
    have s2 : FP.Core.signed false U = (U : Int) := rfl
    have s3 : -(U : Int) ≤ FP.Core.signed s c ∧ FP.Core.signed s c ≤ (U : Int) := by
      cases s
      · have e : FP.Core.signed false c = (c : Int) := rfl
        rw [e]; omega
      · have e : FP.Core.signed true c = -(c : Int) := rfl
        rw [e]; omega
    rw [s1, s2] at hf
    have c1 : compare (FP.Core.signed s c) (-(U : Int)) ≠ .lt := fun z => by
      have := Int.compare_eq_lt.mp z; omega
    have c2 : compare (FP.Core.signed s c) (U : Int) ≠ .gt := fun z => by
      have := Int.compare_eq_gt.mp z; omega
    have d1 : decide (Op.cmpValue (some (compare (FP.Core.signed s c) (-(U : Int)))) .l < 0) = false := by
      cases k : compare (FP.Core.signed s c) (-(U : Int))
      · exact absurd k c1
      · decide
      · decide
    have d2 : decide (0 < Op.cmpValue (some (compare (FP.Core.signed s c) (U : Int))) .g) = false := by
      cases k : compare (FP.Core.signed s c) (U : Int)
      · decide
      · decide
      · exact absurd k c2
    rw [d1, d2] at hf
    cases hf
/-- comes to no number: op 10 .. 14 -/
def hN0 (op : Int32) (A B : UInt64) : Bool :=
  if op = 10 then (!kFin A && !kFin B) && !kEq A B else if op = 11 then (!kFin A && !kFin B) && kEq A B
  else if op = 12 then (kEq A FP.dconst0 && !kFin B) || (kEq B FP.dconst0 && !kFin A) else if op = 13 then (!kFin A && !kFin B) || (kEq A FP.dconst0 && kEq B FP.dconst0)
  else !kFin A || kEq B FP.dconst0
def hN1 (op : Int32) (A B : UInt64) : Bool :=
  if op = 10 then (kFar A && kFar B) && (kPos A != kPos B) else if op = 11 then (kFar A && kFar B) && (kPos A == kPos B)
  else if op = 12 then (kFar A && kEq B FP.dconst0) || (kEq A FP.dconst0 && kFar B) else if op = 13 then (kFar A && kFar B) || (kEq A FP.dconst0 && kEq B FP.dconst0)
  else kFar A || kEq B FP.dconst0
theorem fp_4 : ∀ a, a ∈ [(0x7ff0000000000000 : UInt64), 0xfff0000000000000] → ∀ b, b ∈ [(0x7ff0000000000000 : UInt64), 0xfff0000000000000] → (!kEq a b) = (kPos a != kPos b) ∧ kEq a b = (kPos a == kPos b) := by decide
theorem hN_eq (op : Int32) {A B : UInt64} (h : dN A) (h' : dN B) : hN0 op A B = hN1 op A B := by
  unfold hN0 hN1
  rw [kFar_eq h, kFar_eq h']
  have key : kFin A = false → kFin B = false → (!kEq A B) = (kPos A != kPos B) ∧ kEq A B = (kPos A == kPos B) := fun a b => by
    have m : ∀ {x : UInt64}, (x = 0x7ff0000000000000 ∨ x = 0xfff0000000000000) → x ∈ [(0x7ff0000000000000 : UInt64), 0xfff0000000000000] := fun q => by
      rcases q with q | q <;> rw [q] <;> simp
    exact fp_4 A (m (kFin_inf h a)) B (m (kFin_inf h' b))
  split
  · cases a : kFin A
    · cases b : kFin B
      · rw [(key a b).1]
      · rfl
    · rfl
  · split
    · cases a : kFin A
      · cases b : kFin B
        · rw [← (key a b).2]
        · rfl
      · rfl
    · split
      · rw [Bool.or_comm, Bool.and_comm (kEq B _)]
      · rfl
