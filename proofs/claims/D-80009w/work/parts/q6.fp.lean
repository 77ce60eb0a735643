/-! FLOATS: what is no number -/
theorem fp_nan (f : FP.Core.Fmt) (n : Nat) : FP.Core.decode f n = .nan ↔ FP.Core.fieldE f n = f.exps - 1 ∧ ¬ FP.Core.fieldT f n = 0 := by
  unfold FP.Core.decode
  by_cases h1 : FP.Core.fieldE f n = f.exps - 1
  · rw [if_pos h1]
    by_cases h2 : FP.Core.fieldT f n = 0
    · rw [if_pos h2]; exact ⟨fun h => (by cases h), fun h => absurd h2 h.2⟩
    · rw [if_neg h2]; exact ⟨fun _ => ⟨h1, h2⟩, fun _ => rfl⟩
  · rw [if_neg h1]
    refine ⟨fun h => ?_, fun h => absurd h.1 h1⟩
    split at h <;> cases h
theorem fp_nan32 (n : Nat) : FP.Core.decode FP.Core.b32 n = .nan ↔ 2139095040 < n % 2147483648 := by
  have e1 : FP.Core.fieldE FP.Core.b32 n = n / 8388608 % 256 := rfl
  have e2 : FP.Core.fieldT FP.Core.b32 n = n % 8388608 := rfl
  have e3 : FP.Core.b32.exps - 1 = 255 := by decide
  rw [fp_nan, e1, e2, e3]; omega
theorem fp_nan64 (n : Nat) : FP.Core.decode FP.Core.b64 n = .nan ↔ 9218868437227405312 < n % 9223372036854775808 := by
  have e1 : FP.Core.fieldE FP.Core.b64 n = n / 4503599627370496 % 2048 := rfl
  have e2 : FP.Core.fieldT FP.Core.b64 n = n % 4503599627370496 := rfl
  have e3 : FP.Core.b64.exps - 1 = 2047 := by decide
  rw [fp_nan, e1, e2, e3]; omega
theorem fp_and32 (b : UInt32) : (b &&& 0x7fffffff).toNat = b.toNat % 2147483648 := by
  rw [UInt32.toNat_and]; exact Nat.and_two_pow_sub_one_eq_mod b.toNat 31
theorem fp_and64 (b : UInt64) : (b &&& 0x7fffffffffffffff).toNat = b.toNat % 9223372036854775808 := by
  rw [UInt64.toNat_and]; exact Nat.and_two_pow_sub_one_eq_mod b.toNat 63
/-- a number, as the machine asks it -/
def fN (b : UInt32) : Prop := b &&& 0x7fffffff ≤ 0x7f800000
def dN (b : UInt64) : Prop := b &&& 0x7fffffffffffffff ≤ 0x7ff0000000000000
abbrev vF (b : UInt32) : FP.Core.Datum := FP.Core.decode FP.Core.b32 b.toNat
abbrev vD (b : UInt64) : FP.Core.Datum := FP.Core.decode FP.Core.b64 b.toNat
theorem fN_iff (b : UInt32) : fN b ↔ vF b ≠ .nan := by
  unfold fN vF
  rw [UInt32.le_iff_toNat_le, fp_and32, show (0x7f800000 : UInt32).toNat = 2139095040 from rfl, ne_eq, fp_nan32]; omega
theorem dN_iff (b : UInt64) : dN b ↔ vD b ≠ .nan := by
  unfold dN vD
  rw [UInt64.le_iff_toNat_le, fp_and64, show (0x7ff0000000000000 : UInt64).toNat = 9218868437227405312 from rfl, ne_eq, fp_nan64]; omega
/-! data that fit are numbers when encoded -/
def fp_ok (f : FP.Core.Fmt) : FP.Core.Datum → Prop
  | .nan => False
  | .inf _ => True
  | .fin _ c q => c < 2 ^ f.p ∧ q ≤ f.qmax
theorem fp_bound (f : FP.Core.Fmt) (s : Bool) (c : Nat) (q : Int) (h : c < 2 ^ f.p) : fp_ok f (FP.Core.bound f s c q) := by
  unfold FP.Core.bound
  split
  · rename_i q1; exact ⟨h, q1⟩
  · trivial
theorem fp_settle (f : FP.Core.Fmt) (hf : f.tails < 2 ^ f.p) (s : Bool) (c : Nat) (q : Int) : fp_ok f (FP.Core.settle f s c q) := by
  unfold FP.Core.settle
  split
  · rename_i h; exact fp_bound f s c q h
  · exact fp_bound f s _ _ hf
theorem fp_rr (f : FP.Core.Fmt) (hf : f.tails < 2 ^ f.p) (h0 : f.qmin ≤ f.qmax) (s : Bool) (a b : Nat) (e : Int) : fp_ok f (FP.Core.roundRatio f s a b e) := by
  unfold FP.Core.roundRatio
  split
  · exact ⟨Nat.two_pow_pos _, h0⟩
  · unfold FP.Core.roundAt; exact fp_settle f hf _ _ _
theorem fp_round (f : FP.Core.Fmt) (hf : f.tails < 2 ^ f.p) (h0 : f.qmin ≤ f.qmax) {d : FP.Core.Datum} (h : d ≠ .nan) : fp_ok f (FP.Core.round f d) := by
  cases d with
  | nan => exact absurd rfl h
  | inf s => trivial
  | fin s c q => exact fp_rr f hf h0 s c 1 q
theorem fp_enc32 {d : FP.Core.Datum} (h : fp_ok FP.Core.b32 d) : FP.Core.encode FP.Core.b32 d % 2147483648 ≤ 2139095040 := by
  cases d with
  | nan => exact h.elim
  | inf s => cases s <;> decide
  | fin s c q =>
    obtain ⟨h1, h2⟩ := h
    have h1 : c < 16777216 := h1
    have h2 : q ≤ 104 := h2
    unfold FP.Core.encode FP.Core.assemble
    show (if c < 8388608 then (s.toNat * 256 + 0) * 8388608 + c else (s.toNat * 256 + ((q - -149).toNat + 1)) * 8388608 + (c - 8388608)) % 2147483648 ≤ _
    have hs : s.toNat ≤ 1 := by cases s <;> decide
    split <;> omega
theorem fp_enc64 {d : FP.Core.Datum} (h : fp_ok FP.Core.b64 d) : FP.Core.encode FP.Core.b64 d % 9223372036854775808 ≤ 9218868437227405312 := by
  cases d with
  | nan => exact h.elim
  | inf s => cases s <;> decide
  | fin s c q =>
    obtain ⟨h1, h2⟩ := h
    have h1 : c < 9007199254740992 := h1
    have h2 : q ≤ 971 := h2
    unfold FP.Core.encode FP.Core.assemble
    show (if c < 4503599627370496 then (s.toNat * 2048 + 0) * 4503599627370496 + c else (s.toNat * 2048 + ((q - -1074).toNat + 1)) * 4503599627370496 + (c - 4503599627370496)) % 9223372036854775808 ≤ _
    have hs : s.toNat ≤ 1 := by cases s <;> decide
    split <;> omega
theorem fp_mod32 (n : Nat) : (UInt32.ofNat n).toNat % 2147483648 = n % 2147483648 := by
  show n % 4294967296 % 2147483648 = _; omega
theorem fp_mod64 (n : Nat) : (UInt64.ofNat n).toNat % 9223372036854775808 = n % 9223372036854775808 := by
  show n % 18446744073709551616 % 9223372036854775808 = _; omega
theorem fN_enc {d : FP.Core.Datum} (h : fp_ok FP.Core.b32 d) : fN (.ofNat (FP.Core.encode FP.Core.b32 d)) := by
  rw [fN_iff, ne_eq, fp_nan32, fp_mod32]
  have := fp_enc32 h; omega
theorem dN_enc {d : FP.Core.Datum} (h : fp_ok FP.Core.b64 d) : dN (.ofNat (FP.Core.encode FP.Core.b64 d)) := by
  rw [dN_iff, ne_eq, fp_nan64, fp_mod64]
  have := fp_enc64 h; omega
theorem fp_h32 : FP.Core.b32.tails < 2 ^ FP.Core.b32.p ∧ FP.Core.b32.qmin ≤ FP.Core.b32.qmax := by decide
theorem fp_h64 : FP.Core.b64.tails < 2 ^ FP.Core.b64.p ∧ FP.Core.b64.qmin ≤ FP.Core.b64.qmax := by decide
theorem fp_r32 {d : FP.Core.Datum} (h : d ≠ .nan) : fN (.ofNat (FP.Core.encode FP.Core.b32 (FP.Core.round FP.Core.b32 d))) := fN_enc (fp_round _ fp_h32.1 fp_h32.2 h)
theorem fp_r64 {d : FP.Core.Datum} (h : d ≠ .nan) : dN (.ofNat (FP.Core.encode FP.Core.b64 (FP.Core.round FP.Core.b64 d))) := dN_enc (fp_round _ fp_h64.1 fp_h64.2 h)
/-- whole numbers -/
theorem fp_ofInt (i : Int) : FP.Core.ofInt i ≠ .nan := fun h => by cases h
theorem fN_i2f (a : Int32) : fN (FP.i2f a) := fp_r32 (fp_ofInt _)
theorem fN_l2f (a : Int64) : fN (FP.l2f a) := fp_r32 (fp_ofInt _)
theorem dN_i2d (a : Int32) : dN (FP.i2d a) := fp_r64 (fp_ofInt _)
theorem dN_l2d (a : Int64) : dN (FP.l2d a) := fp_r64 (fp_ofInt _)
theorem fp_i2f (a : Int32) : FP.i2f a = FP.l2f a.toInt64 := by
  show UInt32.ofNat (FP.Core.fromInt FP.Core.b32 a.toInt) = UInt32.ofNat (FP.Core.fromInt FP.Core.b32 a.toInt64.toInt)
  rw [Int32.toInt_toInt64]
theorem fp_i2d (a : Int32) : FP.i2d a = FP.l2d a.toInt64 := by
  show UInt64.ofNat (FP.Core.fromInt FP.Core.b64 a.toInt) = UInt64.ofNat (FP.Core.fromInt FP.Core.b64 a.toInt64.toInt)
  rw [Int32.toInt_toInt64]
/-- from one to the other -/
theorem dN_f2d {a : UInt32} (h : fN a) : dN (FP.f2d a) := by
  have h := (fN_iff a).mp h
  have e : FP.Core.fIsNaN a = false := decide_eq_false h
  unfold FP.f2d; rw [e]
  exact fp_r64 h
theorem fN_d2f {a : UInt64} (h : dN a) : fN (FP.d2f a) := by
  have h := (dN_iff a).mp h
  have e : FP.Core.dIsNaN a = false := decide_eq_false h
  unfold FP.d2f; rw [e]
  exact fp_r32 h
/-! order -/
theorem fp_order_self {d : FP.Core.Datum} (h : d ≠ .nan) : FP.Core.order d d = some .eq := by
  cases d with
  | nan => exact absurd rfl h
  | inf s => show some (compare _ _) = _; rw [Int.compare_eq_eq.mpr rfl]
  | fin s c q => show some (compare _ _) = _; rw [Int.compare_eq_eq.mpr rfl]
theorem fp_order_some {d e : FP.Core.Datum} (h : d ≠ .nan) (h' : e ≠ .nan) : ∃ o, FP.Core.order d e = some o := by
  cases d <;> cases e <;> first | exact absurd rfl h | exact absurd rfl h' | exact ⟨_, rfl⟩
theorem fp_order_nan (d : FP.Core.Datum) : FP.Core.order .nan d = none := rfl
theorem fcmp_self (a : UInt32) : (Op.cmpValue (FP.fcmp a a) .l = 0) ↔ fN a := by
  rw [fN_iff]
  have e : FP.fcmp a a = FP.Core.order (vF a) (vF a) := rfl
  rw [e]
  by_cases h : vF a = .nan
  · rw [h, fp_order_nan]
    exact ⟨fun q => absurd q (by decide), fun q => absurd rfl q⟩
  · rw [fp_order_self h]
    exact ⟨fun _ => h, fun _ => rfl⟩
theorem dcmp_self (a : UInt64) : (Op.cmpValue (FP.dcmp a a) .l = 0) ↔ dN a := by
  rw [dN_iff]
  have e : FP.dcmp a a = FP.Core.order (vD a) (vD a) := rfl
  rw [e]
  by_cases h : vD a = .nan
  · rw [h, fp_order_nan]
    exact ⟨fun q => absurd q (by decide), fun q => absurd rfl q⟩
  · rw [fp_order_self h]
    exact ⟨fun _ => h, fun _ => rfl⟩
