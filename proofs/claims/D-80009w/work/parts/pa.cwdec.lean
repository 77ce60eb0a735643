/-! codes of items, as they are read back -/
/-- a code that is no jump, of so many bytes; whether it ends -/
def cOK (c len : Nat) (tm : Bool) : Bool := decide (c < 256) && (!Nat.beq c 196 && (!Nat.beq c 184 && (!Nat.beq c 170 && (!Nat.beq c 171 && (!Nat.beq c 200 && (!(Nat.ble 153 c && Nat.ble c 167) && (decide (leF (nI c) = nI len) && ((Nat.ble 172 c && Nat.ble c 177 || Nat.beq c 191) == tm))))))))
/-- a code that may stand behind a wide one -/
def cWd (c len : Nat) : Bool := decide (c < 256) && (!Nat.beq c 184 && Nat.beq len (if c = 132 then 6 else 4))
/-- an item's bytes begin with a code that is no jump and no call; how many places come and go -/
def cDec (enc : List Int32) (tm : Bool) (a b : Nat) : Prop :=
  (∃ c, enc[0]? = some (o8 (nI c)) ∧ cOK c enc.length tm = true ∧ chF (nI c) = nI a - nI b) ∨ (∃ c, enc[0]? = some (o8 (nI 196)) ∧ enc[1]? = some (o8 (nI c)) ∧ cWd c enc.length = true ∧ tm = false ∧ chF (nI c) = nI a - nI b)
theorem cDec.one {c : Nat} {tm : Bool} {a b : Nat} {r : List Int32} (h : cOK c (r.length + 1) tm = true) (h2 : chF (nI c) = nI a - nI b) : cDec (o8 (nI c) :: r) tm a b := Or.inl ⟨c, rfl, h, h2⟩
theorem cDec.two {c : Nat} {a b : Nat} {r : List Int32} (h : cWd c (r.length + 2) = true) (h2 : chF (nI c) = nI a - nI b) : cDec (o8 (nI 196) :: o8 (nI c) :: r) false a b := Or.inr ⟨c, rfl, rfl, h, rfl, h2⟩
theorem w_ltr_6 {t : Nat} (h : t ≤ 8) : w_ltr t ≤ 4 := by unfold w_ltr; split <;> omega
/-- loads -/
theorem dec_ld : ∀ t, t < 9 → 1 ≤ t → (∀ p, p < 4 → cOK (26 + 4 * w_ltr t + p) 1 false = true ∧ chF (nI (26 + 4 * w_ltr t + p)) = nI (w_tl t).length - nI 0) ∧ (cOK (21 + w_ltr t) 2 false = true ∧ cWd (21 + w_ltr t) 4 = true ∧ chF (nI (21 + w_ltr t)) = nI (w_tl t).length - nI 0) := by decide
theorem dec_st : ∀ t, t < 9 → 1 ≤ t → (∀ p, p < 4 → cOK (59 + 4 * w_ltr t + p) 1 false = true ∧ chF (nI (59 + 4 * w_ltr t + p)) = nI 0 - nI (w_tl t).length) ∧ (cOK (54 + w_ltr t) 2 false = true ∧ cWd (54 + w_ltr t) 4 = true ∧ chF (nI (54 + w_ltr t)) = nI 0 - nI (w_tl t).length) := by decide
theorem dec_loc_ld {t p : Nat} (h1 : 1 ≤ t) (h8 : t ≤ 8) : cDec (w_loc 21 26 t p) false (w_tl t).length 0 := by
  obtain ⟨a, b1, b2, b3⟩ := dec_ld t (by omega) h1
  unfold w_loc
  by_cases q : p ≤ 3
  · rw [if_pos q]; exact cDec.one (a p (by omega)).1 (a p (by omega)).2
  · rw [if_neg q]
    by_cases q2 : p < 256
    · rw [if_pos q2]; exact cDec.one b1 b3
    · rw [if_neg q2]; exact cDec.two b2 b3
theorem dec_loc_st {t p : Nat} (h1 : 1 ≤ t) (h8 : t ≤ 8) : cDec (w_loc 54 59 t p) false 0 (w_tl t).length := by
  obtain ⟨a, b1, b2, b3⟩ := dec_st t (by omega) h1
  unfold w_loc
  by_cases q : p ≤ 3
  · rw [if_pos q]; exact cDec.one (a p (by omega)).1 (a p (by omega)).2
  · rw [if_neg q]
    by_cases q2 : p < 256
    · rw [if_pos q2]; exact cDec.one b1 b3
    · rw [if_neg q2]; exact cDec.two b2 b3
theorem dec_cst1 : ∀ k, k < 7 → cOK (2 + k) 1 false = true ∧ chF (nI (2 + k)) = nI 1 - nI 0 := by decide
theorem dec_arr : ∀ a, a < 9 → 5 ≤ a → (cOK (46 + w_arl a) 1 false = true ∧ chF (nI (46 + w_arl a)) = nI (w_tl (w_el a)).length - nI 2) ∧ (cOK (79 + w_arl a) 1 false = true ∧ chF (nI (79 + w_arl a)) = nI 0 - nI (2 + (w_tl (w_el a)).length)) := by decide
def bBin (k t : Nat) : Bool := cOK (w_bop k t) 1 false && decide (chF (nI (w_bop k t)) = nI (w_tl t).length - nI ((if 18 ≤ k then 1 else (w_tl t).length) + (w_tl t).length))
theorem dec_bin0 : ((List.range 21).all fun k => (List.range 5).all fun t => !(Nat.ble 10 k && (Nat.ble 1 t && (Nat.ble k 14 || Nat.ble t 2))) || bBin k t) = true := by decide
theorem dec_bin {k t : Nat} (h1 : k < 21) (h2 : 10 ≤ k) (h3 : t < 5) (h4 : 1 ≤ t) (h5 : 15 ≤ k → t ≤ 2) : cOK (w_bop k t) 1 false = true ∧ chF (nI (w_bop k t)) = nI (w_tl t).length - nI ((if 18 ≤ k then 1 else (w_tl t).length) + (w_tl t).length) := by
  have := List.all_eq_true.mp (List.all_eq_true.mp dec_bin0 k (List.mem_range.mpr h1)) t (List.mem_range.mpr h3)
  rw [Nat.ble_eq.mpr h2, Nat.ble_eq.mpr h4] at this
  have q : (Nat.ble k 14 || Nat.ble t 2) = true := by
    by_cases w : k ≤ 14
    · rw [Nat.ble_eq.mpr w]; rfl
    · rw [Nat.ble_eq.mpr (h5 (by omega))]; exact Bool.or_true _
  rw [q] at this
  unfold bBin at this
  simpa using this
theorem dec_neg : ∀ t, t < 5 → 1 ≤ t → cOK (116 + (t - 1)) 1 false = true ∧ chF (nI (116 + (t - 1))) = nI 0 - nI 0 := by decide
def bCast (t u : Nat) : Bool := cOK (w_cop t u) 1 false && decide (chF (nI (w_cop t u)) = nI (w_tl u).length - nI (w_tl t).length)
theorem dec_cast0 : ((List.range 5).all fun t => (List.range 5).all fun u => !(Nat.ble 1 t && (Nat.ble 1 u && !Nat.beq t u)) || bCast t u) = true := by decide
theorem dec_cast {t u : Nat} (h1 : t < 5) (h2 : 1 ≤ t) (h3 : u < 5) (h4 : 1 ≤ u) (h5 : t ≠ u) : cOK (w_cop t u) 1 false = true ∧ chF (nI (w_cop t u)) = nI (w_tl u).length - nI (w_tl t).length := by
  have := List.all_eq_true.mp (List.all_eq_true.mp dec_cast0 t (List.mem_range.mpr h1)) u (List.mem_range.mpr h3)
  have q : Nat.beq t u = false := by
    cases w : Nat.beq t u
    · rfl
    · exact absurd (Nat.eq_of_beq_eq_true w) h5
  rw [Nat.ble_eq.mpr h2, Nat.ble_eq.mpr h4, q] at this
  unfold bCast at this
  simpa using this
theorem dec_small : ∀ t, t < 12 → 9 ≤ t → cOK (145 + (t - 9)) 1 false = true ∧ chF (nI (145 + (t - 9))) = nI 0 - nI 0 := by decide
theorem dec_ret : ∀ t, t < 9 → 1 ≤ t → cOK (172 + w_ltr t) 1 true = true := by decide
