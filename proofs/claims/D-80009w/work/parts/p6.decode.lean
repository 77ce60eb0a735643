/-! bytes read back -/
theorem d_o8b (v : Int32) : (o8 v).toBitVec = (v.toBitVec.signExtend 8).signExtend 32 := rfl
theorem d_o8g (v : Int32) (i : Nat) (hi : i < 32) : (o8 v).toBitVec.getLsbD i = v.toBitVec.getLsbD (if i < 8 then i else 7) := by
  rw [d_o8b, BitVec.getLsbD_signExtend]
  by_cases h : i < 8
  · rw [if_pos h, if_pos h, BitVec.getLsbD_signExtend, if_pos (by omega)]; simp [h, hi]
  · rw [if_neg h, if_neg h, BitVec.msb_eq_getLsbD_last, BitVec.getLsbD_signExtend]; simp [hi]
theorem d_shr8 (v : Int32) : ((v >>> 8).toBitVec = v.toBitVec.sshiftRight 8) := rfl
theorem d_shr16 (v : Int32) : ((v >>> 16).toBitVec = v.toBitVec.sshiftRight 16) := rfl
theorem d_shr24 (v : Int32) : ((v >>> 24).toBitVec = v.toBitVec.sshiftRight 24) := rfl
theorem d_shl8 (v : Int32) : ((v <<< ((8 : Int32) &&& 31)).toBitVec = v.toBitVec <<< 8) := rfl
theorem d_shl16 (v : Int32) : ((v <<< ((16 : Int32) &&& 31)).toBitVec = v.toBitVec <<< 16) := rfl
theorem d_m255 (i : Nat) : (255 : Int32).toBitVec.getLsbD i = decide (i < 8) := by
  rw [show (255 : Int32).toBitVec = BitVec.ofNat 32 (2 ^ 8 - 1) from rfl, BitVec.getLsbD_ofNat, Nat.testBit_two_pow_sub_one]
  by_cases h : i < 8 <;> simp [h]; omega
theorem d_m65535 (i : Nat) : (65535 : Int32).toBitVec.getLsbD i = decide (i < 16) := by
  rw [show (65535 : Int32).toBitVec = BitVec.ofNat 32 (2 ^ 16 - 1) from rfl, BitVec.getLsbD_ofNat, Nat.testBit_two_pow_sub_one]
  by_cases h : i < 16 <;> simp [h]; omega
theorem d_o8a (v : Int32) : o8 v &&& 255 = v &&& 255 := by
  apply Int32.toBitVec_inj.mp
  apply BitVec.eq_of_getLsbD_eq
  intro i hi
  rw [Int32.toBitVec_and, Int32.toBitVec_and, BitVec.getLsbD_and, BitVec.getLsbD_and, d_m255, d_o8g v i hi]
  by_cases h : i < 8 <;> simp [h]
theorem d_sx16 (v : Int32) (i : Nat) (hi : i < 32) : (v.toInt16.toInt32).toBitVec.getLsbD i = v.toBitVec.getLsbD (if i < 16 then i else 15) := by
  rw [show (v.toInt16.toInt32).toBitVec = (v.toBitVec.signExtend 16).signExtend 32 from rfl, BitVec.getLsbD_signExtend]
  by_cases h : i < 16
  · rw [if_pos h, if_pos h, BitVec.getLsbD_signExtend, if_pos (by omega)]; simp [h, hi]
  · rw [if_neg h, if_neg h, BitVec.msb_eq_getLsbD_last, BitVec.getLsbD_signExtend]; simp [hi]
theorem d_s2 (v : Int32) : (o8 (v >>> 8) <<< ((8 : Int32) &&& 31)) ||| (o8 v &&& (255 : Int32)) = v.toInt16.toInt32 := by
  apply Int32.toBitVec_inj.mp
  apply BitVec.eq_of_getLsbD_eq
  intro i hi
  rw [Int32.toBitVec_or, Int32.toBitVec_and, BitVec.getLsbD_or, BitVec.getLsbD_and, d_m255, d_shl8, BitVec.getLsbD_shiftLeft, d_sx16 v i hi, d_o8g v i hi]
  by_cases h : i < 8
  · simp [h, hi, show i < 16 by omega]
  · rw [d_o8g _ (i - 8) (by omega), d_shr8, BitVec.getLsbD_sshiftRight]
    by_cases h2 : i < 16
    · simp [h, hi, h2, show i - 8 < 8 by omega, show ¬ 32 ≤ i - 8 by omega, show 8 + (i - 8) = i by omega]
    · simp [h, hi, h2, show ¬ (i - 8 < 8) by omega]
theorem d_s4 (v : Int32) : ((((o8 (v >>> 24) <<< ((8 : Int32) &&& 31)) ||| (o8 (v >>> 16) &&& (255 : Int32))) <<< ((16 : Int32) &&& 31)) ||| (((o8 (v >>> 8) <<< ((8 : Int32) &&& 31)) ||| (o8 v &&& (255 : Int32))) &&& (65535 : Int32))) = v := by
  have e1 : (o8 (v >>> 24) <<< ((8 : Int32) &&& 31)) ||| (o8 (v >>> 16) &&& (255 : Int32)) = (v >>> 16).toInt16.toInt32 := by
    rw [← d_s2 (v >>> 16)]
    congr 2
    apply Int32.toBitVec_inj.mp
    apply BitVec.eq_of_getLsbD_eq
    intro i hi
    rw [d_o8g _ i hi, d_o8g _ i hi, d_shr24, d_shr8, d_shr16]
    generalize hj : (if i < 8 then i else 7) = j
    have hj8 : j < 8 := by rw [← hj]; split <;> omega
    have k1 : ∀ (u : BitVec 32) (s m : Nat), m < 32 → s + m < 32 → (u.sshiftRight s).getLsbD m = u.getLsbD (s + m) := fun u s m h1 h2 => by
      rw [BitVec.getLsbD_sshiftRight, if_pos h2, decide_eq_false (by omega)]; simp
    rw [k1 _ 24 j (by omega) (by omega), k1 _ 8 j (by omega) (by omega), k1 _ 16 (8 + j) (by omega) (by omega)]
    congr 1; omega
  rw [e1, d_s2]
  apply Int32.toBitVec_inj.mp
  apply BitVec.eq_of_getLsbD_eq
  intro i hi
  rw [Int32.toBitVec_or, Int32.toBitVec_and, BitVec.getLsbD_or, BitVec.getLsbD_and, d_m65535, d_shl16, BitVec.getLsbD_shiftLeft, d_sx16 v i hi]
  by_cases h : i < 16
  · simp [h, hi]
  · rw [d_sx16 _ (i - 16) (by omega), d_shr16, BitVec.getLsbD_sshiftRight]
    simp [h, hi, show i - 16 < 16 by omega, show ¬ 32 ≤ i - 16 by omega, show 16 + (i - 16) = i by omega]
theorem d_u2 (v : Int32) : ((o8 (v >>> 8) <<< ((8 : Int32) &&& 31)) ||| (o8 v &&& (255 : Int32))) &&& 65535 = v &&& 65535 := by
  rw [d_s2]
  apply Int32.toBitVec_inj.mp
  apply BitVec.eq_of_getLsbD_eq
  intro i hi
  rw [Int32.toBitVec_and, Int32.toBitVec_and, BitVec.getLsbD_and, BitVec.getLsbD_and, d_m65535, d_sx16 v i hi]
  by_cases h : i < 16 <;> simp [h]
theorem d_and (v : Int32) (k : Nat) (m : Int32) (hm : m.toBitVec = BitVec.ofNat 32 (2 ^ k - 1)) (hk : k < 32) (h0 : 0 ≤ v.toInt) (h1 : v.toInt < 2 ^ k) : v &&& m = v := by
  apply Int32.toBitVec_inj.mp
  apply BitVec.eq_of_toNat_eq
  rw [Int32.toBitVec_and, BitVec.toNat_and, hm, BitVec.toNat_ofNat, Nat.mod_eq_of_lt (by have : 2 ^ k < 2 ^ 32 := Nat.pow_lt_pow_right (by decide) hk; omega), Nat.and_two_pow_sub_one_eq_mod, Nat.mod_eq_of_lt]
  have e : v.toInt = v.toBitVec.toInt := rfl
  rw [e, BitVec.toInt_eq_toNat_cond] at h0 h1
  split at h0
  · rename_i q; rw [if_pos q] at h1
    have : ((v.toBitVec.toNat : Int)) < ((2 ^ k : Nat) : Int) := by rw [Int.natCast_pow]; exact h1
    exact Int.ofNat_lt.mp this
  · have := v.toBitVec.isLt; omega
theorem d_u1 {k : Nat} (h : k < 256) : o8 (nI k) &&& 255 = nI k := by
  rw [d_o8a]
  exact d_and _ 8 255 rfl (by decide) (by rw [nI_toInt (by omega)]; omega) (by rw [nI_toInt (by omega)]; omega)
theorem d_16 {v : Int32} (h0 : -32768 ≤ v.toInt) (h1 : v.toInt ≤ 32767) : v.toInt16.toInt32 = v := by
  apply Int32.toInt_inj.mp
  have : (v.toInt16.toInt32).toInt = (v.toInt16).toInt := Int16.toInt_toInt32 _
  rw [this]
  show (v.toBitVec.signExtend 16).toInt = _
  rw [show (v.toInt16).toInt = v.toInt.bmod (2 ^ 16) from Int32.toInt_toInt16 v] at this
  have e : (v.toInt16).toInt = v.toInt.bmod (2 ^ 16) := Int32.toInt_toInt16 v
  exact e.trans (by rw [Int.bmod_def]; omega)
theorem d_u16 {k : Nat} (h : k < 65536) : nI k &&& 65535 = nI k := d_and _ 16 65535 rfl (by decide) (by rw [nI_toInt (by omega)]; omega) (by rw [nI_toInt (by omega)]; omega)
/-- an item's bytes lie at its place -/
theorem w_seg (w : Bool) (o : Nat → Nat → Int32) : ∀ (its : List (wI × wF)) (k : Nat) (i : wI) (F : wF), its.reverse[k]? = some (i, F) →
    (∀ (j : Nat) (v : Int32), (w_enc w o (w_at w its k) i)[j]? = some v → (w_by_ w o its)[w_at w its k + j]? = some v) ∧ w_at w its (k + 1) = w_at w its k + (w_enc w o (w_at w its k) i).length := by
  intro its
  induction its with
  | nil => intro k i F h; simp at h
  | cons e its ih =>
    intro k i F h
    have hk := oNth_lt h
    simp only [List.length_cons] at hk
    have eb : w_by_ w o (e :: its) = w_by_ w o its ++ w_enc w o (w_by_ w o its).length e.1 := rfl
    by_cases q : k = its.length
    · have he : e = (i, F) := by
        rw [List.reverse_cons, q, List.getElem?_append_right (by simp)] at h
        simpa using h
      have a0 : w_at w (e :: its) k = (w_by_ w o its).length := by
        rw [w_at_cons w e its (by omega), q, w_at_len, w_by_ln w o]
      have a1 : w_at w (e :: its) (k + 1) = (w_by_ w o (e :: its)).length := by
        rw [show k + 1 = (e :: its).length by rw [List.length_cons, q], w_at_len, w_by_ln w o]
      rw [a1, a0, eb, he]
      refine ⟨fun j v hj => ?_, by rw [List.length_append]⟩
      rw [List.getElem?_append_right (by omega), Nat.add_sub_cancel_left]; exact hj
    · have hk' : k < its.length := by omega
      have h' : its.reverse[k]? = some (i, F) := by
        rw [List.reverse_cons, List.getElem?_append_left (by simp; omega)] at h; exact h
      obtain ⟨i1, i2⟩ := ih k i F h'
      rw [w_at_cons w e its (by omega), w_at_cons w e its (by omega), eb]
      refine ⟨fun j v hj => ?_, i2⟩
      have := i1 j v hj
      rw [List.getElem?_append_left (List.getElem?_eq_some_iff.mp this).1]; exact this
