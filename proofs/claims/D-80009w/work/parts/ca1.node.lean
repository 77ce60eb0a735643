/-! node and of: both sides against one spec -/
theorem mj_b8 {v : Int32} (h : -128 ≤ v.toInt ∧ v.toInt ≤ 127) : v.toInt8.toInt32 = v := by
  apply Int32.toInt_inj.mp
  rw [Int8.toInt_toInt32, Int32.toInt_toInt8]
  exact Int.bmod_eq_of_le (by omega) (by omega)
/-- nothing else changes -/
def mj_kp (P Q : Nat → Nat → Bool) (x x' : mj_X) : Prop := (∀ k j, P k j = false → x'.1 k j = x.1 k j) ∧ ∀ k j, Q k j = false → x'.2 k j = x.2 k j
theorem mj_kp.rf {P Q : Nat → Nat → Bool} {x : mj_X} : mj_kp P Q x x := ⟨fun _ _ _ => rfl, fun _ _ _ => rfl⟩
theorem mj_kp.tr {P Q : Nat → Nat → Bool} {x y z : mj_X} (h1 : mj_kp P Q x y) (h2 : mj_kp P Q y z) : mj_kp P Q x z := ⟨fun k j h => (h2.1 k j h).trans (h1.1 k j h), fun k j h => (h2.2 k j h).trans (h1.2 k j h)⟩
theorem mj_kp.I {P Q : Nat → Nat → Bool} {x y : mj_X} (h1 : mj_kp P Q x y) {k j : Nat} (v : Int32) (h : P k j = true) : mj_kp P Q x (mj_wI y k j v) := by
  refine ⟨fun a b hb => ?_, fun a b hb => h1.2 a b hb⟩
  have : ¬ (a = k ∧ b = j) := fun e => by rw [e.1, e.2, h] at hb; cases hb
  rw [← h1.1 a b hb]
  unfold mj_wI upd
  by_cases e1 : a = k
  · have e2 : ¬ b = j := fun e => this ⟨e1, e⟩
    simp [e1, e2]
  · simp [e1]
def sp_of (nt : sp_NT) (N : Nat) (k w : Int32) : Int32 := bif sp_nd N k then (if w = 0 then nt 0 k.toNatClampNeg else if w = 1 then nt 1 k.toNatClampNeg else if w = 2 then nt 2 k.toNatClampNeg else if w = 3 then nt 3 k.toNatClampNeg else if w = 4 then nt 4 k.toNatClampNeg else -1) else -1
theorem sp_w5 (w : Int32) : w = 0 ∨ w = 1 ∨ w = 2 ∨ w = 3 ∨ w = 4 ∨ (w.toInt < 0 ∨ 4 < w.toInt) := by
  by_cases h : w.toInt < 0 ∨ 4 < w.toInt
  · simp only [h, or_true]
  · obtain ⟨j, hj, e⟩ : ∃ j : Nat, j < 5 ∧ w = Int32.ofInt (j : Int) := ⟨w.toInt.toNat, by omega, by rw [Int.toNat_of_nonneg (by omega), Int32.ofInt_toInt]⟩
    have : j = 0 ∨ j = 1 ∨ j = 2 ∨ j = 3 ∨ j = 4 := by omega
    rcases this with rfl | rfl | rfl | rfl | rfl <;> subst e <;> decide
theorem sX0_of {d : Nat} (hd : 3 ≤ d) {x : mj_X} {nt : sp_NT} {N : Nat} (h : cw_T x nt N) (k w : Int32) : kX0 d 23 [.ref 0, .int k, .int w] x = some (some (.int (sp_of nt N k w)), x) := by
  obtain ⟨d, rfl⟩ : ∃ c, d = c + 1 := ⟨d - 1, by omega⟩
  have hw := sp_w5 w
  have fin : ∀ (t : Nat) (r : mj_R), kX0 (d + 1) 23 [.ref 0, .int k, .int w] x = mj_rI (kX0 d 6 [.ref 0, .int k] x) (fun v2 x1 => if v2 = 0 then some (some (.int (-1)), x1) else rX0_of d (t, [some (.ref 0), some (.int k), some (.int w)], [], x1)) → rX0_of d (t, [some (.ref 0), some (.int k), some (.int w)], [], x) = mj_g k 4000 r → r = some (some (.int (if w = 0 then nt 0 k.toNatClampNeg else if w = 1 then nt 1 k.toNatClampNeg else if w = 2 then nt 2 k.toNatClampNeg else if w = 3 then nt 3 k.toNatClampNeg else if w = 4 then nt 4 k.toNatClampNeg else -1)), x) → kX0 (d + 1) 23 [.ref 0, .int k, .int w] x = some (some (.int (sp_of nt N k w)), x) := by
    intro t r e1 e2 e3
    rw [e1, sX0_isNode (by omega) h, mj_rI_k, e2, e3]
    unfold sp_of
    cases hn : sp_nd N k
    · simp [sp_b]
    · rw [mj_g_k (sp_nd_in h.2.1 hn (Nat.le_refl _))]; simp [sp_b]
  rcases hw with rfl | rfl | rfl | rfl | rfl | hw
  · exact fin _ _ (wX0_of_0_0 d k 0 x rfl) (bX0_of_44 _ _ _ _) (by rw [h.2.2.1]; rfl)
  · exact fin _ _ (wX0_of_0_1 d k 1 x rfl) (bX0_of_51 _ _ _ _) (by rw [h.2.2.2.1]; rfl)
  · exact fin _ _ (wX0_of_0_2 d k 2 x rfl) (bX0_of_58 _ _ _ _) (by rw [h.2.2.2.2.1]; rfl)
  · exact fin _ _ (wX0_of_0_3 d k 3 x rfl) (bX0_of_65 _ _ _ _) (by rw [h.2.2.2.2.2.1]; rfl)
  · exact fin _ _ (wX0_of_0_4 d k 4 x rfl) (bX0_of_72 _ _ _ _) (by rw [h.2.2.2.2.2.2.1]; rfl)
  · have n : ∀ q : Int32, (0 ≤ q.toInt ∧ q.toInt ≤ 4) → ¬ w = q := fun q hq e2 => by subst e2; omega
    rw [wX0_of_0_out d k w x hw, sX0_isNode (by omega) h, mj_rI_k, bX0_of_79]
    unfold sp_of
    simp only [n 0 (by decide), n 1 (by decide), n 2 (by decide), n 3 (by decide), n 4 (by decide), if_false]
    cases sp_nd N k <;> simp [sp_b]
theorem sX1_of {d : Nat} (hd : 2 ≤ d) {x : mj_X} {nt : sp_NT} {N : Nat} (h : md_T x nt N) (k w : Int32) : kX1 d 22 [.ref 0, .int k, .int w] x = some (some (.int (sp_of nt N k w)), x) := by
  obtain ⟨d, rfl⟩ : ∃ c, d = c + 1 := ⟨d - 1, by omega⟩
  have hw := sp_w5 w
  have fin : ∀ (t : Nat) (r : mj_R), kX1 (d + 1) 22 [.ref 0, .int k, .int w] x = mj_rI (kX1 d 9 [.ref 0, .int k] x) (fun v2 x1 => if v2 = 0 then some (some (.int (-1)), x1) else rX1_of d (t, [some (.ref 0), some (.int k), some (.int w)], [], x1)) → rX1_of d (t, [some (.ref 0), some (.int k), some (.int w)], [], x) = mj_g k 4000 r → r = some (some (.int (if w = 0 then nt 0 k.toNatClampNeg else if w = 1 then nt 1 k.toNatClampNeg else if w = 2 then nt 2 k.toNatClampNeg else if w = 3 then nt 3 k.toNatClampNeg else if w = 4 then nt 4 k.toNatClampNeg else -1)), x) → kX1 (d + 1) 22 [.ref 0, .int k, .int w] x = some (some (.int (sp_of nt N k w)), x) := by
    intro t r e1 e2 e3
    rw [e1, sX1_isThere (by omega) h, mj_rI_k, e2, e3]
    unfold sp_of
    cases hn : sp_nd N k
    · simp [sp_b]
    · rw [mj_g_k (sp_nd_in h.2.1 hn (Nat.le_refl _))]; simp [sp_b]
  rcases hw with rfl | rfl | rfl | rfl | rfl | hw
  · exact fin _ _ (wX1_of_0_0 d k 0 x rfl) (bX1_of_44 _ _ _ _) (by rw [h.2.2.1]; rfl)
  · exact fin _ _ (wX1_of_0_1 d k 1 x rfl) (bX1_of_51 _ _ _ _) (by rw [h.2.2.2.1]; rfl)
  · exact fin _ _ (wX1_of_0_2 d k 2 x rfl) (bX1_of_58 _ _ _ _) (by rw [h.2.2.2.2.1]; rfl)
  · exact fin _ _ (wX1_of_0_3 d k 3 x rfl) (bX1_of_65 _ _ _ _) (by rw [h.2.2.2.2.2.1]; rfl)
  · exact fin _ _ (wX1_of_0_4 d k 4 x rfl) (bX1_of_72 _ _ _ _) (by rw [h.2.2.2.2.2.2.1]; rfl)
  · have n : ∀ q : Int32, (0 ≤ q.toInt ∧ q.toInt ≤ 4) → ¬ w = q := fun q hq e2 => by subst e2; omega
    rw [wX1_of_0_out d k w x hw, sX1_isThere (by omega) h, mj_rI_k, bX1_of_79]
    unfold sp_of
    simp only [n 0 (by decide), n 1 (by decide), n 2 (by decide), n 3 (by decide), n 4 (by decide), if_false]
    cases sp_nd N k <;> simp [sp_b]
/-- depths of nodes -/
def sp_Dp (nt : sp_NT) (N : Nat) : Prop := ∀ k : Int32, sp_nd N k = true → 1 ≤ nt 4 k.toNatClampNeg ∧ nt 4 k.toNatClampNeg ≤ 40
def sp_pa (k a : Int32) : Bool := sp_hA k && !decide (a = -1)
def sp_pb (k b : Int32) : Bool := sp_hB k && !decide (b = -1)
def sp_dp (nt : sp_NT) (k a b : Int32) : Int32 := mj_max (bif sp_pa k a then nt 4 a.toNatClampNeg else 0) (bif sp_pb k b then nt 4 b.toNatClampNeg else 0) + 1
/-- the table with one more node -/
def sp_new (nt : sp_NT) (N : Nat) (k a b t : Int32) : sp_NT := fun j i =>
  if i = N then (if j = 0 then k else if j = 1 then a else if j = 2 then b else if j = 3 then t else if j = 4 then sp_dp nt k a b else if j = 5 then 0 else nt j i)
  else if j = 5 ∧ ((sp_pa k a = true ∧ i = a.toNatClampNeg) ∨ (sp_pb k b = true ∧ i = b.toNatClampNeg)) then 1 else nt j i
def sp_P0 (k j : Nat) : Bool := (Nat.beq k 0 && Nat.beq j 6) || (Nat.ble 1 k && Nat.ble k 6)
def sp_P1 (k j : Nat) : Bool := (Nat.beq k 0 && Nat.beq j 0) || (Nat.ble 2 k && Nat.ble k 7)
def sp_F (_ _ : Nat) : Bool := false
