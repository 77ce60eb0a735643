/-! the node table: nt 0 kinds, nt 1 a, nt 2 b, nt 3 types, nt 4 deeps, nt 5 whether it stands in a place -/
abbrev sp_NT : Type := Nat → Nat → Int32
def cw_T (x : mj_X) (nt : sp_NT) (N : Nat) : Prop := x.1 0 6 = nI N ∧ N ≤ 4000 ∧ x.1 1 = nt 0 ∧ x.1 2 = nt 1 ∧ x.1 3 = nt 2 ∧ x.1 4 = nt 3 ∧ x.1 5 = nt 4 ∧ x.1 6 = nt 5
def md_T (y : mj_X) (nt : sp_NT) (N : Nat) : Prop := y.1 0 0 = nI N ∧ N ≤ 4000 ∧ y.1 2 = nt 0 ∧ y.1 3 = nt 1 ∧ y.1 4 = nt 2 ∧ y.1 5 = nt 3 ∧ y.1 6 = nt 4 ∧ y.1 7 = nt 5
def sp_nd (N : Nat) (k : Int32) : Bool := decide (0 ≤ k) && decide (k < nI N)
theorem sp_nd_iff {N : Nat} (hN : N ≤ 4000) (k : Int32) : sp_nd N k = true ↔ 0 ≤ k.toInt ∧ k.toInt < N := by
  unfold sp_nd
  simp only [Bool.and_eq_true, decide_eq_true_eq, Int32.le_iff_toInt_le, Int32.lt_iff_toInt_lt]
  rw [nI_toInt (by omega)]; simp
theorem sp_nd_in {N : Nat} (hN : N ≤ 4000) {k : Int32} (h : sp_nd N k = true) {n : Nat} (hn : 4000 ≤ n) : mj_in k n = true := by
  obtain ⟨h1, h2⟩ := (sp_nd_iff hN k).mp h
  exact mj_in_of h1 (by omega)
theorem sp_in_nd {N : Nat} (hN : N ≤ 4000) (k : Int32) : sp_in k.toInt64 0 (nI N - 1).toInt64 = sp_nd N k := by
  rw [Bool.eq_iff_iff, sp_nd_iff hN]
  unfold sp_in
  have e : (nI N - 1).toInt = (N : Int) - 1 := by
    have := pk_sub_toInt (a := N) (b := 1) (by omega) (by omega)
    exact this
  simp only [Bool.and_eq_true, decide_eq_true_eq, Int64.le_iff_toInt_le, Int32.toInt_toInt64, e]
  constructor
  · rintro ⟨a, b⟩; exact ⟨by simpa using a, by omega⟩
  · rintro ⟨a, b⟩; exact ⟨by simpa using a, by omega⟩
theorem sX0_isNode {d : Nat} (hd : 2 ≤ d) {x : mj_X} {nt : sp_NT} {N : Nat} (h : cw_T x nt N) (k : Int32) : kX0 d 6 [.ref 0, .int k] x = some (some (.int (sp_b (sp_nd N k))), x) := by
  obtain ⟨d, rfl⟩ : ∃ c, d = c + 1 := ⟨d - 1, by omega⟩
  rw [eX0_isNode, sX0_isIn (by omega), mj_rI_k, mj_gb_b, h.1, sp_in_nd h.2.1]
def sp_kind (nt : sp_NT) (N : Nat) (k : Int32) : Int32 := bif sp_nd N k then nt 0 k.toNatClampNeg else -1
theorem sX0_kindOf {d : Nat} (hd : 3 ≤ d) {x : mj_X} {nt : sp_NT} {N : Nat} (h : cw_T x nt N) (k : Int32) : kX0 d 5 [.ref 0, .int k] x = some (some (.int (sp_kind nt N k)), x) := by
  obtain ⟨d, rfl⟩ : ∃ c, d = c + 1 := ⟨d - 1, by omega⟩
  rw [eX0_kindOf, sX0_isNode (by omega) h, mj_rI_k]
  simp only [sp_b0, h.2.2.1]
  unfold sp_kind
  cases hn : sp_nd N k
  · simp
  · simp [mj_g_k (sp_nd_in h.2.1 hn (Nat.le_refl _))]
theorem sX0_isVariable {d : Nat} (hd : 4 ≤ d) {x : mj_X} {nt : sp_NT} {N : Nat} (h : cw_T x nt N) (k : Int32) : kX0 d 4 [.ref 0, .int k] x = some (some (.int (sp_b (decide (sp_kind nt N k = 5)))), x) := by
  obtain ⟨d, rfl⟩ : ∃ c, d = c + 1 := ⟨d - 1, by omega⟩
  rw [eX0_isVariable, sX0_kindOf (by omega) h, mj_rI_k]
  by_cases q : sp_kind nt N k = 5 <;> simp [q, sp_b]
def sp_E (k : Int32) : Bool := sp_i k 1 4 || sp_i k 6 32 || sp_i k 34 48 || decide (k = 51)
theorem sX0_isExpression {d : Nat} (hd : 2 ≤ d) (k : Int32) (x : mj_X) : kX0 d 9 [.int k] x = some (some (.int (sp_b (sp_E k))), x) := by
  obtain ⟨d, rfl⟩ : ∃ c, d = c + 1 := ⟨d - 1, by omega⟩
  rw [eX0_isExpression]
  simp only [sX0_isIn (show 1 ≤ d by omega), mj_rI_k, bX0_isExpression_46, sp_b0]
  rw [show sp_in k.toInt64 1 4 = sp_i k 1 4 from sp_in_i k 1 4, show sp_in k.toInt64 6 32 = sp_i k 6 32 from sp_in_i k 6 32, show sp_in k.toInt64 34 48 = sp_i k 34 48 from sp_in_i k 34 48]
  unfold sp_E
  cases sp_i k 1 4 <;> cases sp_i k 6 32 <;> cases sp_i k 34 48 <;> by_cases q : k = 51 <;> simp [q, sp_b]
def sp_Sk (k : Int32) : Bool := sp_i k 60 65 || sp_i k 67 69 || sp_i k 71 75 || sp_i k 79 81 || decide (k = 85)
theorem sX0_isStatement {d : Nat} (hd : 2 ≤ d) (k : Int32) (x : mj_X) : kX0 d 19 [.int k] x = some (some (.int (sp_b (sp_Sk k))), x) := by
  obtain ⟨d, rfl⟩ : ∃ c, d = c + 1 := ⟨d - 1, by omega⟩
  rw [eX0_isStatement]
  simp only [sX0_isIn (show 1 ≤ d by omega), mj_rI_k, bX0_isStatement_62, sp_b0]
  rw [show sp_in k.toInt64 60 65 = sp_i k 60 65 from sp_in_i k 60 65, show sp_in k.toInt64 67 69 = sp_i k 67 69 from sp_in_i k 67 69, show sp_in k.toInt64 71 75 = sp_i k 71 75 from sp_in_i k 71 75, show sp_in k.toInt64 79 81 = sp_i k 79 81 from sp_in_i k 79 81]
  unfold sp_Sk
  cases sp_i k 60 65 <;> cases sp_i k 67 69 <;> cases sp_i k 71 75 <;> cases sp_i k 79 81 <;> by_cases q : k = 85 <;> simp [q, sp_b]
/-- a node that is there and stands in no place -/
def sp_fr (nt : sp_NT) (N : Nat) (k : Int32) : Bool := sp_nd N k && decide (nt 5 k.toNatClampNeg = 0)
/-- fr: which nodes may be taken -/
def sp_fk (nt : sp_NT) (fr : Int32 → Bool) (k q : Int32) : Bool := fr k && decide (nt 0 k.toNatClampNeg = q)
/-- the type of an expression that may stand in a place -/
def sp_val (nt : sp_NT) (fr : Int32 → Bool) (k : Int32) : Int32 := bif fr k && sp_E (nt 0 k.toNatClampNeg) then nt 3 k.toNatClampNeg else 0
def sp_act (nt : sp_NT) (fr : Int32 → Bool) (k : Int32) : Bool := fr k && sp_Sk (nt 0 k.toNatClampNeg)
def sp_isv (nt : sp_NT) (fr : Int32 → Bool) (k t : Int32) : Bool := !decide (t = 0) && decide (sp_val nt fr k = t)
/-- what steps and compounds change -/
def sp_tg (nt : sp_NT) (fr : Int32 → Bool) (k : Int32) : Int32 := bif fr k && (decide (nt 0 k.toNatClampNeg = 6) && decide (nt 3 k.toNatClampNeg ≤ 4) || decide (nt 0 k.toNatClampNeg = 8)) then nt 3 k.toNatClampNeg else 0
theorem sX0_isFree {d : Nat} (hd : 3 ≤ d) {x : mj_X} {nt : sp_NT} {N : Nat} (h : cw_T x nt N) (k q : Int32) : kX0 d 12 [.ref 0, .int k, .int q] x = some (some (.int (sp_b (sp_fk nt (sp_fr nt N) k q))), x) := by
  obtain ⟨d, rfl⟩ : ∃ c, d = c + 1 := ⟨d - 1, by omega⟩
  rw [eX0_isFree, sX0_isNode (by omega) h, mj_rI_k]
  simp only [sp_b0, h.2.2.1, h.2.2.2.2.2.2.2]
  unfold sp_fk sp_fr
  cases hn : sp_nd N k
  · simp [sp_b]
  · simp only [mj_g_k (sp_nd_in h.2.1 hn (Nat.le_refl _))]
    by_cases q1 : nt 0 k.toNatClampNeg = q <;> by_cases q2 : nt 5 k.toNatClampNeg = 0 <;> simp [q1, q2, sp_b]
theorem sX0_value {d : Nat} (hd : 3 ≤ d) {x : mj_X} {nt : sp_NT} {N : Nat} (h : cw_T x nt N) (k : Int32) : kX0 d 8 [.ref 0, .int k] x = some (some (.int (sp_val nt (sp_fr nt N) k)), x) := by
  obtain ⟨d, rfl⟩ : ∃ c, d = c + 1 := ⟨d - 1, by omega⟩
  rw [eX0_value, sX0_isNode (by omega) h, mj_rI_k]
  simp only [sp_b0, h.2.2.1, h.2.2.2.2.2.2.2, h.2.2.2.2.2.1, sX0_isExpression (show 2 ≤ d by omega), mj_rI_k]
  unfold sp_val sp_fr
  cases hn : sp_nd N k
  · simp
  · simp only [mj_g_k (sp_nd_in h.2.1 hn (Nat.le_refl _))]
    cases sp_E (nt 0 k.toNatClampNeg) <;> by_cases q2 : nt 5 k.toNatClampNeg = 0 <;> simp [q2]
theorem sX0_isAct {d : Nat} (hd : 3 ≤ d) {x : mj_X} {nt : sp_NT} {N : Nat} (h : cw_T x nt N) (k : Int32) : kX0 d 18 [.ref 0, .int k] x = some (some (.int (sp_b (sp_act nt (sp_fr nt N) k))), x) := by
  obtain ⟨d, rfl⟩ : ∃ c, d = c + 1 := ⟨d - 1, by omega⟩
  rw [eX0_isAct, sX0_isNode (by omega) h, mj_rI_k]
  simp only [sp_b0, h.2.2.1, h.2.2.2.2.2.2.2, sX0_isStatement (show 2 ≤ d by omega), mj_rI_k]
  unfold sp_act sp_fr
  cases hn : sp_nd N k
  · simp [sp_b]
  · simp only [mj_g_k (sp_nd_in h.2.1 hn (Nat.le_refl _))]
    cases sp_Sk (nt 0 k.toNatClampNeg) <;> by_cases q2 : nt 5 k.toNatClampNeg = 0 <;> simp [q2, sp_b]
theorem sX0_isValue {d : Nat} (hd : 4 ≤ d) {x : mj_X} {nt : sp_NT} {N : Nat} (h : cw_T x nt N) (k t : Int32) : kX0 d 7 [.ref 0, .int k, .int t] x = some (some (.int (sp_b (sp_isv nt (sp_fr nt N) k t))), x) := by
  obtain ⟨d, rfl⟩ : ∃ c, d = c + 1 := ⟨d - 1, by omega⟩
  rw [eX0_isValue, sX0_value (by omega) h, mj_rI_k]
  unfold sp_isv
  by_cases q1 : t = 0 <;> by_cases q2 : sp_val nt (sp_fr nt N) k = t <;> simp [q1, q2, sp_b]
theorem sX0_isNumber {d : Nat} (hd : 4 ≤ d) {x : mj_X} {nt : sp_NT} {N : Nat} (h : cw_T x nt N) (k : Int32) : kX0 d 13 [.ref 0, .int k] x = some (some (.int (sp_b (sp_i (sp_val nt (sp_fr nt N) k) 1 4))), x) := by
  obtain ⟨d, rfl⟩ : ∃ c, d = c + 1 := ⟨d - 1, by omega⟩
  rw [eX0_isNumber, sX0_value (by omega) h, mj_rI_k, sX0_isIn (by omega), mj_rI_k, mj_gb_b]
  rw [show ∀ v : Int32, sp_in v.toInt64 1 4 = sp_i v 1 4 from fun v => sp_in_i v 1 4]
theorem sX0_isArray {d : Nat} (hd : 4 ≤ d) {x : mj_X} {nt : sp_NT} {N : Nat} (h : cw_T x nt N) (k : Int32) : kX0 d 10 [.ref 0, .int k] x = some (some (.int (sp_b (decide (5 ≤ sp_val nt (sp_fr nt N) k)))), x) := by
  obtain ⟨d, rfl⟩ : ∃ c, d = c + 1 := ⟨d - 1, by omega⟩
  rw [eX0_isArray, sX0_value (by omega) h, mj_rI_k]
  by_cases q1 : sp_val nt (sp_fr nt N) k < 5
  · have : ¬ 5 ≤ sp_val nt (sp_fr nt N) k := Int32.not_le.mpr q1
    simp [q1, this, sp_b]
  · have : 5 ≤ sp_val nt (sp_fr nt N) k := Int32.not_lt.mp q1
    simp [q1, this, sp_b]
def sp_el (t : Int32) : Int32 := if t = 5 then 1 else if t = 6 then 1 else if t = 7 then 2 else 4
theorem sX0_elementOf {d : Nat} (hd : 1 ≤ d) (t : Int32) (x : mj_X) : kX0 d 11 [.int t] x = some (some (.int (sp_el t)), x) := by
  obtain ⟨d, rfl⟩ : ∃ c, d = c + 1 := ⟨d - 1, by omega⟩
  rw [eX0_elementOf]; unfold sp_el
  by_cases h0 : t = 5 <;> by_cases h1 : t = 6 <;> by_cases h2 : t = 7 <;> simp [h0, h1, h2]
theorem sX0_targetOf {d : Nat} (hd : 3 ≤ d) {x : mj_X} {nt : sp_NT} {N : Nat} (h : cw_T x nt N) (k : Int32) : kX0 d 14 [.ref 0, .int k] x = some (some (.int (sp_tg nt (sp_fr nt N) k)), x) := by
  obtain ⟨d, rfl⟩ : ∃ c, d = c + 1 := ⟨d - 1, by omega⟩
  rw [eX0_targetOf, sX0_isNode (by omega) h, mj_rI_k]
  simp only [sp_b0, h.2.2.1, h.2.2.2.2.2.2.2, h.2.2.2.2.2.1, bX0_targetOf_38, bX0_targetOf_54]
  unfold sp_tg sp_fr
  cases hn : sp_nd N k
  · simp
  · simp only [mj_g_k (sp_nd_in h.2.1 hn (Nat.le_refl _))]
    by_cases q1 : nt 0 k.toNatClampNeg = 6
    · by_cases q2 : nt 5 k.toNatClampNeg = 0 <;> by_cases q3 : nt 3 k.toNatClampNeg ≤ 4 <;> simp [q1, q2, q3]
    · by_cases q2 : nt 5 k.toNatClampNeg = 0 <;> by_cases q3 : nt 0 k.toNatClampNeg = 8 <;> simp [q1, q2, q3]
def sp_bin (op x y : Int32) : Int32 := bif (bif decide (18 ≤ op) then sp_i x 1 2 && decide (y = 1) else bif decide (15 ≤ op) then sp_i x 1 2 && decide (x = y) else sp_i x 1 4 && decide (x = y)) then x else -1
theorem sX0_binary {d : Nat} (hd : 2 ≤ d) (op t u : Int32) (x : mj_X) : kX0 d 16 [.int op, .int t, .int u] x = some (some (.int (sp_bin op t u)), x) := by
  obtain ⟨d, rfl⟩ : ∃ c, d = c + 1 := ⟨d - 1, by omega⟩
  rw [eX0_binary]
  simp only [sX0_isIn (show 1 ≤ d by omega), mj_rI_k, bX0_binary_84, sp_b0]
  rw [show sp_in t.toInt64 1 4 = sp_i t 1 4 from sp_in_i t 1 4, show sp_in t.toInt64 1 2 = sp_i t 1 2 from sp_in_i t 1 2]
  unfold sp_bin
  by_cases h1 : op < 18
  · have h1' : ¬ 18 ≤ op := Int32.not_le.mpr h1
    by_cases h2 : op < 15
    · have h2' : ¬ 15 ≤ op := Int32.not_le.mpr h2
      cases sp_i t 1 4 <;> by_cases q : t = u <;> simp [h1, h1', h2, h2', q]
    · have h2' : 15 ≤ op := Int32.not_lt.mp h2
      cases sp_i t 1 2 <;> by_cases q : t = u <;> simp [h1, h1', h2, h2', q]
  · have h1' : 18 ≤ op := Int32.not_lt.mp h1
    cases sp_i t 1 2 <;> by_cases q : u = 1 <;> simp [h1, h1', q]
/-- a chain of nodes by their b -/
def sp_chain (nt : sp_NT) : Nat → Int32 → List Int32
  | 0, _ => []
  | f + 1, p => if p = -1 then [] else p :: sp_chain nt f (nt 2 p.toNatClampNeg)
def sp_Ch (nt : sp_NT) (N : Nat) (K : Int32) : List Int32 → Int32 → Prop
  | [], p => p = -1
  | k :: l, p => p = k ∧ sp_nd N k = true ∧ nt 0 k.toNatClampNeg = K ∧ sp_nd N (nt 1 k.toNatClampNeg) = true ∧ sp_Ch nt N K l (nt 2 k.toNatClampNeg)
theorem sp_nd_m1 (N : Nat) : sp_nd N (-1) = false := rfl
theorem sp_Ch_chain {nt : sp_NT} {N : Nat} {K : Int32} : ∀ (l : List Int32) (p : Int32) (f : Nat), sp_Ch nt N K l p → l.length < f → sp_chain nt f p = l := by
  intro l
  induction l with
  | nil => intro p f h hf; obtain ⟨f, rfl⟩ : ∃ c, f = c + 1 := ⟨f - 1, by simp at hf; omega⟩; unfold sp_chain; rw [if_pos (show p = -1 from h)]
  | cons k l ih =>
    intro p f h hf
    obtain ⟨f, rfl⟩ : ∃ c, f = c + 1 := ⟨f - 1, by simp at hf; omega⟩
    obtain ⟨rfl, h1, h2, h3, h4⟩ := h
    have hne : ¬ p = -1 := fun e => by rw [e, sp_nd_m1] at h1; cases h1
    unfold sp_chain
    rw [if_neg hne, ih _ f h4 (by simpa using hf)]
