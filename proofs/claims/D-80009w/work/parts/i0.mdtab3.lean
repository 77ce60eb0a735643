/-! a switch of CodeWriterModel: the numbers -/
theorem i64_add {a b : Int64} (h1 : -9223372036854775808 ≤ a.toInt + b.toInt) (h2 : a.toInt + b.toInt < 9223372036854775808) : (a + b).toInt = a.toInt + b.toInt := by rw [Int64.toInt_add]; exact Int.bmod_eq_of_le (by omega) (by omega)
theorem i64_sub {a b : Int64} (h1 : -9223372036854775808 ≤ a.toInt - b.toInt) (h2 : a.toInt - b.toInt < 9223372036854775808) : (a - b).toInt = a.toInt - b.toInt := by rw [Int64.toInt_sub]; exact Int.bmod_eq_of_le (by omega) (by omega)
theorem i64_mul {a b : Int64} (h1 : -9223372036854775808 ≤ a.toInt * b.toInt) (h2 : a.toInt * b.toInt < 9223372036854775808) : (a * b).toInt = a.toInt * b.toInt := by rw [Int64.toInt_mul]; exact Int.bmod_eq_of_le (by omega) (by omega)
theorem i32_b (a : Int32) : -2147483648 ≤ a.toInt ∧ a.toInt < 2147483648 := ⟨a.le_toInt, a.toInt_lt⟩
/-- whether the table is dense -/
theorem w_dense_i {a b : Int32} {n : Nat} (hn : n < 4000) (hab : a.toInt ≤ b.toInt) : (0 < lg_cmp (((4 : Int64) + ((b.toInt64 - a.toInt64) + (1 : Int64))) + (9 : Int64)) (((3 : Int64) + ((2 : Int64) * (nI n).toInt64)) + ((3 : Int64) * (nI n).toInt64))) = ¬ (13 + (b.toInt - a.toInt + 1).toNat ≤ 3 + 5 * n) := by
  have ha := i32_b a
  have hb := i32_b b
  have e1 : (b.toInt64 - a.toInt64).toInt = b.toInt - a.toInt := by rw [i64_sub] <;> simp only [Int32.toInt_toInt64] <;> omega
  have o1 : (1 : Int64).toInt = 1 := rfl
  have o4 : (4 : Int64).toInt = 4 := rfl
  have o9 : (9 : Int64).toInt = 9 := rfl
  have o3 : (3 : Int64).toInt = 3 := rfl
  have o2 : (2 : Int64).toInt = 2 := rfl
  have en : (nI n).toInt64.toInt = n := by rw [Int32.toInt_toInt64, nI_toInt (by omega)]
  have e2 : ((b.toInt64 - a.toInt64) + (1 : Int64)).toInt = b.toInt - a.toInt + 1 := by rw [i64_add] <;> rw [e1, o1] <;> omega
  have e3 : ((4 : Int64) + ((b.toInt64 - a.toInt64) + (1 : Int64))).toInt = 4 + (b.toInt - a.toInt + 1) := by rw [i64_add] <;> rw [e2, o4] <;> omega
  have e4 : (((4 : Int64) + ((b.toInt64 - a.toInt64) + (1 : Int64))) + (9 : Int64)).toInt = 4 + (b.toInt - a.toInt + 1) + 9 := by rw [i64_add] <;> rw [e3, o9] <;> omega
  have f1 : ((2 : Int64) * (nI n).toInt64).toInt = 2 * n := by rw [i64_mul] <;> rw [en, o2] <;> omega
  have f2 : ((3 : Int64) * (nI n).toInt64).toInt = 3 * n := by rw [i64_mul] <;> rw [en, o3] <;> omega
  have f3 : ((3 : Int64) + ((2 : Int64) * (nI n).toInt64)).toInt = 3 + 2 * n := by rw [i64_add] <;> rw [f1, o3] <;> omega
  have f4 : (((3 : Int64) + ((2 : Int64) * (nI n).toInt64)) + ((3 : Int64) * (nI n).toInt64)).toInt = 3 + 2 * n + 3 * n := by rw [i64_add] <;> rw [f3, f2] <;> omega
  rw [lg_cmp_gt0, Int64.lt_iff_toInt_lt, e4, f4]
  apply propext
  omega
/-- the numbers of a dense table -/
def w_vv (a : Int32) : Nat → Int64
  | 0 => a.toInt64
  | j + 1 => w_vv a j + 1
theorem w_vv_i (a : Int32) : ∀ j, j < 8589934592 → (w_vv a j).toInt = a.toInt + j := by
  intro j
  induction j with
  | zero => intro _; show a.toInt64.toInt = _; rw [Int32.toInt_toInt64]; simp
  | succ j ih =>
    intro hj
    have := ih (by omega)
    have ha := i32_b a
    have o1 : (1 : Int64).toInt = 1 := rfl
    show (w_vv a j + 1).toInt = _
    rw [i64_add] <;> rw [this, o1] <;> push_cast <;> omega
theorem w_tab_c (o n : Nat) (v : Int) (q : Int32 × Nat) (r : List (Int32 × Nat)) : w_tab o (n + 1) v (q :: r) = if q.1.toInt = v then (q.1, q.2) :: w_tab o n (v + 1) r else (Int32.ofInt v, o) :: w_tab o n (v + 1) (q :: r) := rfl
theorem w_tab_n (o n : Nat) (v : Int) : w_tab o (n + 1) v [] = (Int32.ofInt v, o) :: w_tab o n (v + 1) [] := rfl
/-- the rest of a table -/
theorem w_tab_drop {o : Nat} {key : Nat → Int32} {lab : Nat → Nat} {n : Nat} (low : Int) : ∀ (j m : Nat), (w_tab o (j + m) low ((List.range n).map (fun i => (key i, lab i)))).drop j = w_tab o m (low + j) (((List.range n).map (fun i => (key i, lab i))).drop (w_kk key low j)) := by
  intro j
  induction j with
  | zero => intro m; show w_tab o (0 + m) low _ = w_tab o m (low + 0) _; rw [Nat.zero_add, Int.add_zero]; rfl
  | succ j ih =>
    intro m
    have h := ih (m + 1)
    rw [show j + 1 + m = j + (m + 1) by omega]
    have hd : (w_tab o (j + (m + 1)) low ((List.range n).map (fun i => (key i, lab i)))).drop (j + 1) = ((w_tab o (j + (m + 1)) low ((List.range n).map (fun i => (key i, lab i)))).drop j).drop 1 := by rw [List.drop_drop]
    rw [hd, h]
    by_cases q : w_kk key low j < n
    · have e : ((List.range n).map (fun i => (key i, lab i))).drop (w_kk key low j) = (key (w_kk key low j), lab (w_kk key low j)) :: ((List.range n).map (fun i => (key i, lab i))).drop (w_kk key low j + 1) := by
        rw [List.drop_eq_getElem_cons (by simp; exact q)]
        simp
      rw [e]
      rw [w_tab_c]
      simp only
      by_cases q2 : (key (w_kk key low j)).toInt = low + j
      · rw [if_pos q2]
        have e2 : w_kk key low (j + 1) = w_kk key low j + 1 := by show (if _ then _ else _) = _; rw [if_pos q2]
        rw [e2, List.drop_one, List.tail_cons]; push_cast; rw [Int.add_assoc]
      · rw [if_neg q2]
        have e2 : w_kk key low (j + 1) = w_kk key low j := by show (if _ then _ else _) = _; rw [if_neg q2]
        rw [e2, List.drop_one, List.tail_cons, e]; push_cast; rw [Int.add_assoc]
    · have e : ((List.range n).map (fun i => (key i, lab i))).drop (w_kk key low j) = [] := List.drop_eq_nil_of_le (by simp; omega)
      have hk : n ≤ w_kk key low (j + 1) := by
        rw [show w_kk key low (j + 1) = (if (key (w_kk key low j)).toInt = low + j then w_kk key low j + 1 else w_kk key low j) from rfl]
        split <;> omega
      have e2 : ((List.range n).map (fun i => (key i, lab i))).drop (w_kk key low (j + 1)) = [] := List.drop_eq_nil_of_le (by simp; exact hk)
      rw [e, e2]
      rw [w_tab_n, List.drop_one, List.tail_cons]; push_cast; rw [Int.add_assoc]
theorem w_tab_len {o : Nat} : ∀ (m : Nat) (v : Int) (ks : List (Int32 × Nat)), (w_tab o m v ks).length = m := by
  intro m
  induction m with
  | zero => intro v ks; rfl
  | succ m ih =>
    intro v ks
    unfold w_tab
    split
    · simp only [List.length_cons, ih]
    · split <;> simp only [List.length_cons, ih]
theorem w_tab_get {o : Nat} {key : Nat → Int32} {lab : Nat → Nat} {n cnt : Nat} {low : Int} {j : Nat} (hj : j < cnt) (hk : w_kk key low j < n) : (w_tab o cnt low ((List.range n).map (fun i => (key i, lab i))))[j]? = some (if (key (w_kk key low j)).toInt = low + j then (key (w_kk key low j), lab (w_kk key low j)) else (Int32.ofInt (low + j), o)) := by
  have h := w_tab_drop (o := o) (key := key) (lab := lab) (n := n) low j (cnt - j)
  rw [show j + (cnt - j) = cnt by omega] at h
  have e : ((List.range n).map (fun i => (key i, lab i))).drop (w_kk key low j) = (key (w_kk key low j), lab (w_kk key low j)) :: ((List.range n).map (fun i => (key i, lab i))).drop (w_kk key low j + 1) := by
    rw [List.drop_eq_getElem_cons (by simp; exact hk)]
    simp
  rw [e, show cnt - j = (cnt - j - 1) + 1 by omega] at h
  have h2 : (w_tab o cnt low ((List.range n).map (fun i => (key i, lab i))))[j]? = ((w_tab o cnt low ((List.range n).map (fun i => (key i, lab i)))).drop j)[0]? := by rw [List.getElem?_drop, Nat.add_zero]
  rw [h2, h, w_tab_c]
  simp only
  split <;> rfl
