/-! LEVEL B begins: small facts, and the methods that read no field -/
def sp_b (b : Bool) : Int32 := bif b then 1 else 0
theorem sp_b_t : sp_b true = 1 := rfl
theorem sp_b_f : sp_b false = 0 := rfl
theorem sp_b0 (b : Bool) : (sp_b b = 0) = (b = false) := by cases b <;> simp [sp_b]
theorem sp_b1 (b : Bool) : (sp_b b = 1) = (b = true) := by cases b <;> simp [sp_b]
theorem sp_b_ite (b : Bool) : sp_b b = if b = true then 1 else 0 := by cases b <;> rfl
theorem mj_rI_k (v : Int32) (x : mj_X) (k : Int32 → mj_X → mj_R) : mj_rI (some (some (.int v), x)) k = k v x := rfl
theorem mj_rL_k (v : Int64) (x : mj_X) (k : Int64 → mj_X → mj_R) : mj_rL (some (some (.long v), x)) k = k v x := rfl
theorem mj_rF_k (v : UInt32) (x : mj_X) (k : UInt32 → mj_X → mj_R) : mj_rF (some (some (.float v), x)) k = k v x := rfl
theorem mj_rD_k (v : UInt64) (x : mj_X) (k : UInt64 → mj_X → mj_R) : mj_rD (some (some (.double v), x)) k = k v x := rfl
theorem mj_rV_k (x : mj_X) (k : mj_X → mj_R) : mj_rV (some (none, x)) k = k x := rfl
theorem mj_gb_b (b : Bool) (r : mj_R) : mj_gb (sp_b b) r = r := by cases b <;> rfl
theorem mj_gb_0 (r : mj_R) : mj_gb 0 r = r := rfl
theorem mj_gb_1 (r : mj_R) : mj_gb 1 r = r := rfl
theorem mj_gb_z {v : Int32} (h : v = 0 ∨ v = 1) (r : mj_R) : mj_gb v r = r := by rcases h with rfl | rfl <;> rfl
theorem mj_g_k {i : Int32} {n : Nat} (h : mj_in i n = true) (r : mj_R) : mj_g i n r = r := by unfold mj_g; rw [h]; rfl
theorem mj_in_nI {j n : Nat} (h : j < n) (hn : n < 2147483648) : mj_in (nI j) n = true := by
  unfold mj_in
  rw [nI_clamp (by omega)]
  have h1 : ¬ (nI j < 0) := nI_pos (by omega)
  have h2 : Nat.ble n j = false := by
    apply Bool.eq_false_iff.mpr; intro q; have := Nat.le_of_ble_eq_true q; omega
  simp [h1, h2]
theorem mj_in_of {i : Int32} {n : Nat} (h0 : 0 ≤ i.toInt) (h1 : i.toInt < n) : mj_in i n = true := by
  have h2 : ¬ i < 0 := by rw [Int32.lt_iff_toInt_lt]; simpa using h0
  have h3 : i.toNatClampNeg = i.toInt.toNat := rfl
  unfold mj_in
  have h4 : Nat.ble n i.toNatClampNeg = false := by
    apply Bool.eq_false_iff.mpr; intro q; have := Nat.le_of_ble_eq_true q; omega
  simp [h2, h4]
theorem lg_cmp_lt0 (a b : Int64) : (lg_cmp a b < 0) = (a < b) := by
  unfold lg_cmp
  apply propext
  split
  · rename_i h; constructor
    · intro q; exact absurd q (by decide)
    · intro q; exact (Int64.lt_irrefl (Int64.lt_trans q h)).elim
  · split
    · rename_i h h1; subst h1; constructor
      · intro q; exact absurd q (by decide)
      · intro q; exact (Int64.lt_irrefl q).elim
    · rename_i h h1; constructor
      · intro _; exact Int64.lt_of_le_of_ne (Int64.not_lt.mp h) h1
      · intro _; decide
theorem lg_cmp_gt0 (a b : Int64) : (0 < lg_cmp a b) = (b < a) := by
  unfold lg_cmp
  apply propext
  split
  · rename_i h; exact ⟨fun _ => h, fun _ => by decide⟩
  · rename_i h; split
    · exact ⟨fun q => absurd q (by decide), fun q => absurd q h⟩
    · exact ⟨fun q => absurd q (by decide), fun q => absurd q h⟩
theorem lg_cmp_eq0 (a b : Int64) : (lg_cmp a b = 0) = (a = b) := by
  unfold lg_cmp
  apply propext
  split
  · rename_i h; constructor
    · intro q; exact absurd q (by decide)
    · intro q; subst q; exact (Int64.lt_irrefl h).elim
  · split
    · rename_i h1; exact ⟨fun _ => h1, fun _ => rfl⟩
    · rename_i h1; exact ⟨fun q => absurd q (by decide), fun q => absurd q h1⟩
theorem lg_cmp_ge0 (a b : Int64) : (0 ≤ lg_cmp a b) = (b ≤ a) := propext (lg_cmp_ge a b)
theorem lg_cmp_le0 (a b : Int64) : (lg_cmp a b ≤ 0) = (a ≤ b) := propext (lg_cmp_le a b)
/-- v between least and most -/
def sp_in (v lo hi : Int64) : Bool := decide (lo ≤ v) && decide (v ≤ hi)
def sp_i (v lo hi : Int32) : Bool := decide (lo ≤ v) && decide (v ≤ hi)
theorem sp_in_i (v lo hi : Int32) : sp_in v.toInt64 lo.toInt64 hi.toInt64 = sp_i v lo hi := by
  unfold sp_in sp_i
  simp only [Int64.le_iff_toInt_le, Int32.le_iff_toInt_le, Int32.toInt_toInt64]
theorem sX0_isIn {d : Nat} (hd : 1 ≤ d) (v lo hi : Int64) (x : mj_X) : kX0 d 2 [.long v, .long lo, .long hi] x = some (some (.int (sp_b (sp_in v lo hi))), x) := by
  obtain ⟨d, rfl⟩ : ∃ c, d = c + 1 := ⟨d - 1, by omega⟩
  rw [eX0_isIn]; simp only [lg_cmp_lt0, lg_cmp_gt0]
  unfold sp_in sp_b
  by_cases h1 : v < lo
  · have : ¬ lo ≤ v := Int64.not_le.mpr h1
    simp [h1, this]
  · have h1' : lo ≤ v := Int64.not_lt.mp h1
    by_cases h2 : hi < v
    · have : ¬ v ≤ hi := Int64.not_le.mpr h2
      simp [h1, h2, this]
    · have : v ≤ hi := Int64.not_lt.mp h2
      simp [h1, h2, this, h1']
theorem mj_sw_out (a : Int32) (lo dflt : Int) (offs : List Int) (k : Int → mj_R) {hi : Int} (h : a.toInt < lo ∨ hi < a.toInt) (h1 : -2147483648 ≤ lo ∧ hi ≤ 2147483647) (h2 : lo + offs.length = hi + 1) : mj_sw a lo dflt offs k = k dflt := by
  induction offs generalizing lo with
  | nil => rfl
  | cons o os ih =>
    simp only [List.length_cons] at h2
    unfold mj_sw
    have hne : ¬ a = Int32.ofInt lo := fun e => by
      have : a.toInt = lo := by rw [e]; exact Int32.toInt_ofInt_of_le (by omega) (by omega)
      omega
    rw [if_neg hne]
    by_cases hl : a.toInt < lo
    · exact ih (lo + 1) (by omega) (by omega) (by omega)
    · exact ih (lo + 1) (by omega) (by omega) (by omega)
