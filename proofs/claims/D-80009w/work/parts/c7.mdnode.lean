/-! CodeWriterModel's nodes -/
theorem sX1_isThere {d : Nat} (hd : 1 ≤ d) {y : mj_X} {nt : sp_NT} {N : Nat} (h : md_T y nt N) (k : Int32) : kX1 d 9 [.ref 0, .int k] y = some (some (.int (sp_b (sp_nd N k))), y) := by
  obtain ⟨d, rfl⟩ : ∃ c, d = c + 1 := ⟨d - 1, by omega⟩
  rw [eX1_isThere, h.1]; unfold sp_nd
  by_cases q1 : k < 0
  · have : ¬ 0 ≤ k := Int32.not_le.mpr q1
    simp [q1, this, sp_b]
  · have q1' : 0 ≤ k := Int32.not_lt.mp q1
    by_cases q2 : nI N ≤ k
    · have : ¬ k < nI N := Int32.not_lt.mpr q2
      simp [q1, q1', q2, this, sp_b]
    · have : k < nI N := Int32.not_le.mp q2
      simp [q1, q1', q2, this, sp_b]
theorem sX1_isFree {d : Nat} (hd : 2 ≤ d) {y : mj_X} {nt : sp_NT} {N : Nat} (h : md_T y nt N) (k : Int32) : kX1 d 8 [.ref 0, .int k] y = some (some (.int (sp_b (sp_fr nt N k))), y) := by
  obtain ⟨d, rfl⟩ : ∃ c, d = c + 1 := ⟨d - 1, by omega⟩
  rw [eX1_isFree, sX1_isThere (by omega) h, mj_rI_k]
  simp only [sp_b0, h.2.2.2.2.2.2.2]
  unfold sp_fr
  cases hn : sp_nd N k
  · simp [sp_b]
  · simp only [mj_g_k (sp_nd_in h.2.1 hn (Nat.le_refl _))]
    by_cases q2 : nt 5 k.toNatClampNeg = 0 <;> simp [q2, sp_b]
theorem sp_fr_nd {nt : sp_NT} {N : Nat} {k : Int32} (h : sp_fr nt N k = true) : sp_nd N k = true := by
  unfold sp_fr at h; simp only [Bool.and_eq_true] at h; exact h.1
theorem sX1_isA {d : Nat} (hd : 3 ≤ d) {y : mj_X} {nt : sp_NT} {N : Nat} (h : md_T y nt N) (k w : Int32) : kX1 d 12 [.ref 0, .int k, .int w] y = some (some (.int (sp_b (sp_fk nt (sp_fr nt N) k w))), y) := by
  obtain ⟨d, rfl⟩ : ∃ c, d = c + 1 := ⟨d - 1, by omega⟩
  rw [eX1_isA, sX1_isFree (by omega) h, mj_rI_k]
  simp only [sp_b0, h.2.2.1]
  unfold sp_fk
  cases hn : sp_fr nt N k
  · simp [sp_b]
  · simp only [mj_g_k (sp_nd_in h.2.1 (sp_fr_nd hn) (Nat.le_refl _))]
    by_cases q2 : nt 0 k.toNatClampNeg = w <;> simp [q2, sp_b]
theorem sX1_isStatementKind {d : Nat} (hd : 1 ≤ d) (k : Int32) (y : mj_X) : kX1 d 3 [.int k] y = some (some (.int (sp_b (sp_Sk k))), y) := by
  obtain ⟨d, rfl⟩ : ∃ c, d = c + 1 := ⟨d - 1, by omega⟩
  simp only [eX1_isStatementKind, bX1_isStatementKind_12, bX1_isStatementKind_24, bX1_isStatementKind_36, bX1_isStatementKind_54, sp_Sk, sp_i, sp_b]
  grind
theorem sX1_isExpressionKind {d : Nat} (hd : 1 ≤ d) (k : Int32) (y : mj_X) : kX1 d 4 [.int k] y = some (some (.int (sp_b (sp_E k))), y) := by
  obtain ⟨d, rfl⟩ : ∃ c, d = c + 1 := ⟨d - 1, by omega⟩
  simp only [eX1_isExpressionKind, bX1_isExpressionKind_10, bX1_isExpressionKind_22, bX1_isExpressionKind_40, sp_E, sp_i, sp_b]
  grind
def sp_isK (k : Int32) : Bool := sp_i k 1 49 || decide (k = 51) || sp_i k 60 86
theorem sX1_isKind {d : Nat} (hd : 2 ≤ d) (k : Int32) (y : mj_X) : kX1 d 2 [.int k] y = some (some (.int (sp_b (sp_isK k))), y) := by
  obtain ⟨d, rfl⟩ : ∃ c, d = c + 1 := ⟨d - 1, by omega⟩
  simp only [eX1_isKind, bX1_isKind_55, bX1_isKind_73, sX1_isStatementKind (show 1 ≤ d by omega), sX1_isExpressionKind (show 1 ≤ d by omega), mj_rI_k, sp_b0]
  simp only [sp_Sk, sp_E, sp_isK, sp_i, sp_b_ite, Bool.or_eq_true, Bool.and_eq_true, decide_eq_true_eq, Bool.or_eq_false_iff, Bool.and_eq_false_iff, decide_eq_false_iff_not]
  grind (splits := 40)
theorem sX0_isKind {d : Nat} (hd : 2 ≤ d) (k : Int32) (y : mj_X) : kX0 d 1 [.int k] y = some (some (.int (sp_b (sp_isK k))), y) := by
  obtain ⟨d, rfl⟩ : ∃ c, d = c + 1 := ⟨d - 1, by omega⟩
  simp only [eX0_isKind, sX0_isIn (show 1 ≤ d by omega), mj_rI_k, sp_b0, show ∀ v : Int32, sp_in v.toInt64 1 49 = sp_i v 1 49 from fun v => sp_in_i v 1 49, show ∀ v : Int32, sp_in v.toInt64 60 86 = sp_i v 60 86 from fun v => sp_in_i v 60 86]
  simp only [sp_isK]
  cases sp_i k 1 49 <;> cases sp_i k 60 86 <;> by_cases q : k = 51 <;> simp [q, sp_b]
def sp_hA (k : Int32) : Bool := !(sp_i k 1 7 || decide (k = 22) || decide (k = 46) || decide (k = 48) || decide (k = 51) || decide (k = 71) || decide (k = 72) || decide (k = 77) || decide (k = 83) || decide (k = 84) || decide (k = 85))
def sp_hB (k : Int32) : Bool := !(sp_i k 1 6 || decide (k = 34))
theorem sX0_hasA {d : Nat} (hd : 2 ≤ d) (k : Int32) (y : mj_X) : kX0 d 21 [.int k] y = some (some (.int (sp_b (sp_hA k))), y) := by
  obtain ⟨d, rfl⟩ : ∃ c, d = c + 1 := ⟨d - 1, by omega⟩
  simp only [eX0_hasA, sX0_isIn (show 1 ≤ d by omega), mj_rI_k, sp_b0, show ∀ v : Int32, sp_in v.toInt64 1 7 = sp_i v 1 7 from fun v => sp_in_i v 1 7]
  simp only [sp_hA, sp_b]
  grind (splits := 40)
theorem sX0_hasB {d : Nat} (hd : 2 ≤ d) (k : Int32) (y : mj_X) : kX0 d 22 [.int k] y = some (some (.int (sp_b (sp_hB k))), y) := by
  obtain ⟨d, rfl⟩ : ∃ c, d = c + 1 := ⟨d - 1, by omega⟩
  simp only [eX0_hasB, sX0_isIn (show 1 ≤ d by omega), mj_rI_k, sp_b0, show ∀ v : Int32, sp_in v.toInt64 1 6 = sp_i v 1 6 from fun v => sp_in_i v 1 6]
  simp only [sp_hB, sp_b]
  grind
theorem sX1_isFirstPart {d : Nat} (hd : 1 ≤ d) (k : Int32) (y : mj_X) : kX1 d 17 [.int k] y = some (some (.int (sp_b (sp_hA k))), y) := by
  obtain ⟨d, rfl⟩ : ∃ c, d = c + 1 := ⟨d - 1, by omega⟩
  simp only [eX1_isFirstPart, bX1_isFirstPart_11]
  simp only [sp_hA, sp_i, sp_b]
  grind (splits := 40)
theorem sX1_isSecondPart {d : Nat} (hd : 1 ≤ d) (k : Int32) (y : mj_X) : kX1 d 18 [.int k] y = some (some (.int (sp_b (sp_hB k && !decide (k = 51)))), y) := by
  obtain ⟨d, rfl⟩ : ∃ c, d = c + 1 := ⟨d - 1, by omega⟩
  simp only [eX1_isSecondPart, bX1_isSecondPart_11]
  simp only [sp_hB, sp_i, sp_b]
  grind
theorem sX1_max {d : Nat} (hd : 1 ≤ d) (a b : Int32) (y : mj_X) : kX1 d 19 [.int a, .int b] y = some (some (.int (mj_max a b)), y) := by
  obtain ⟨d, rfl⟩ : ∃ c, d = c + 1 := ⟨d - 1, by omega⟩
  simp only [eX1_max, mj_max]
  grind
theorem sX1_elementOf {d : Nat} (hd : 1 ≤ d) (t : Int32) (x : mj_X) : kX1 d 21 [.int t] x = some (some (.int (sp_el t)), x) := by
  obtain ⟨d, rfl⟩ : ∃ c, d = c + 1 := ⟨d - 1, by omega⟩
  simp only [eX1_elementOf, sp_el]
  grind
theorem sX1_isStatement {d : Nat} (hd : 3 ≤ d) {y : mj_X} {nt : sp_NT} {N : Nat} (h : md_T y nt N) (k : Int32) : kX1 d 15 [.ref 0, .int k] y = some (some (.int (sp_b (sp_act nt (sp_fr nt N) k))), y) := by
  obtain ⟨d, rfl⟩ : ∃ c, d = c + 1 := ⟨d - 1, by omega⟩
  have hg : ∀ (k : Int32) r, sp_fr nt N k = true → mj_g k 4000 r = r := fun k r hq => mj_g_k (sp_nd_in h.2.1 (sp_fr_nd hq) (Nat.le_refl _)) r
  simp only [eX1_isStatement, sX1_isFree (show 2 ≤ d by omega) h, sX1_isStatementKind (show 1 ≤ d by omega), mj_rI_k, sp_b0, h.2.2.1, sp_act]
  grind [sp_b, mj_gb_b]
theorem sX1_isExpression {d : Nat} (hd : 3 ≤ d) {y : mj_X} {nt : sp_NT} {N : Nat} (h : md_T y nt N) (k : Int32) : kX1 d 7 [.ref 0, .int k] y = some (some (.int (sp_b (decide (0 < sp_val nt (sp_fr nt N) k)))), y) := by
  obtain ⟨d, rfl⟩ : ∃ c, d = c + 1 := ⟨d - 1, by omega⟩
  have hg : ∀ (k : Int32) r, sp_fr nt N k = true → mj_g k 4000 r = r := fun k r hq => mj_g_k (sp_nd_in h.2.1 (sp_fr_nd hq) (Nat.le_refl _)) r
  simp only [eX1_isExpression, sX1_isFree (show 2 ≤ d by omega) h, sX1_isExpressionKind (show 1 ≤ d by omega), mj_rI_k, sp_b0, h.2.2.1, h.2.2.2.2.2.1, sp_val]
  grind [sp_b]
theorem sX1_isOf {d : Nat} (hd : 4 ≤ d) {y : mj_X} {nt : sp_NT} {N : Nat} (h : md_T y nt N) (k t : Int32) : kX1 d 10 [.ref 0, .int k, .int t] y = some (some (.int (sp_b (decide (0 < sp_val nt (sp_fr nt N) k) && decide (sp_val nt (sp_fr nt N) k = t)))), y) := by
  obtain ⟨d, rfl⟩ : ∃ c, d = c + 1 := ⟨d - 1, by omega⟩
  have hg : ∀ (k : Int32) r, sp_fr nt N k = true → mj_g k 4000 r = r := fun k r hq => mj_g_k (sp_nd_in h.2.1 (sp_fr_nd hq) (Nat.le_refl _)) r
  simp only [eX1_isOf, sX1_isExpression (show 3 ≤ d by omega) h, mj_rI_k, sp_b0, h.2.2.2.2.2.1, sp_val]
  grind [sp_b]
theorem sX1_isBetween {d : Nat} (hd : 4 ≤ d) {y : mj_X} {nt : sp_NT} {N : Nat} (h : md_T y nt N) (k t u : Int32) : kX1 d 6 [.ref 0, .int k, .int t, .int u] y = some (some (.int (sp_b (decide (0 < sp_val nt (sp_fr nt N) k) && sp_i (sp_val nt (sp_fr nt N) k) t u))), y) := by
  obtain ⟨d, rfl⟩ : ∃ c, d = c + 1 := ⟨d - 1, by omega⟩
  have hg : ∀ (k : Int32) r, sp_fr nt N k = true → mj_g k 4000 r = r := fun k r hq => mj_g_k (sp_nd_in h.2.1 (sp_fr_nd hq) (Nat.le_refl _)) r
  simp only [eX1_isBetween, sX1_isExpression (show 3 ≤ d by omega) h, mj_rI_k, sp_b0, h.2.2.2.2.2.1, sp_val, sp_i]
  grind [sp_b]
theorem sX1_isTarget {d : Nat} (hd : 4 ≤ d) {y : mj_X} {nt : sp_NT} {N : Nat} (h : md_T y nt N) (k : Int32) : kX1 d 11 [.ref 0, .int k] y = some (some (.int (sp_b (sp_fk nt (sp_fr nt N) k 6 && decide (nt 3 k.toNatClampNeg ≤ 4) || sp_fk nt (sp_fr nt N) k 8))), y) := by
  obtain ⟨d, rfl⟩ : ∃ c, d = c + 1 := ⟨d - 1, by omega⟩
  have hg : ∀ (k q : Int32) r, sp_fk nt (sp_fr nt N) k q = true → mj_g k 4000 r = r := fun k q r hq => mj_g_k (sp_nd_in h.2.1 (sp_fk_nd hq) (Nat.le_refl _)) r
  simp only [eX1_isTarget, bX1_isTarget_20, sX1_isA (show 3 ≤ d by omega) h, mj_rI_k, sp_b0, h.2.2.2.2.2.1]
  grind [sp_b]
theorem sX1_isCaseL {d : Nat} {y : mj_X} {nt : sp_NT} {N : Nat} (h : md_T y nt N) {k : Int32} (hk : sp_nd N k = true) (cs : Int32) : ∀ (l : List Int32) (p : Int32) (o : Option Value), sp_Ch nt N 82 l p → rX1_isCase d (2, [some (.ref 0), some (.int cs), some (.int k), some (.int p), o], [], y) = some (some (.int (sp_b (!l.all (sp_nw nt k)))), y) := by
  intro l
  induction l with
  | nil => intro p o hp; rw [bX1_isCase_2, if_pos (show p = -1 from hp)]; rfl
  | cons c l ih =>
    intro p o hp
    obtain ⟨rfl, h1, h2, h3, h4⟩ := hp
    have hne : ¬ p = -1 := fun e => by rw [e, sp_nd_m1] at h1; cases h1
    rw [bX1_isCase_2, if_neg hne]
    simp only [h.2.2.1, h.2.2.2.1, h.2.2.2.2.1, mj_g_k (sp_nd_in h.2.1 hk (Nat.le_refl _)), mj_g_k (sp_nd_in h.2.1 h1 (Nat.le_refl _)), mj_g_k (sp_nd_in h.2.1 h3 (Nat.le_refl _)), ih _ _ h4, List.all_cons, sp_nw]
    grind [sp_b]
theorem sX1_isCase {d : Nat} (hd : 1 ≤ d) {y : mj_X} {nt : sp_NT} {N : Nat} (h : md_T y nt N) {k cs : Int32} (hk : sp_nd N k = true) {l : List Int32} (hl : sp_Ch nt N 82 l cs) (hn : l.length ≤ 4000) : kX1 d 16 [.ref 0, .int cs, .int k] y = some (some (.int (sp_b (!(sp_chain nt 4001 cs).all (sp_nw nt k)))), y) := by
  obtain ⟨d, rfl⟩ : ∃ c, d = c + 1 := ⟨d - 1, by omega⟩
  rw [eX1_isCase, sX1_isCaseL h hk cs l cs _ hl, sp_Ch_chain l cs 4001 hl (by omega)]
theorem sX1_isCallL {d : Nat} {y : mj_X} {nt : sp_NT} {N : Nat} (h : md_T y nt N) (m g0 : Int32) : ∀ (lp lg : List Int32) (p g : Int32), sp_Ch nt N 86 lp p → sp_Ch nt N 49 lg g → rX1_isCall d (39, [some (.ref 0), some (.int m), some (.int g0), some (.int p), some (.int g)], [], y) = some (some (.int (sp_b (decide (lp.map (sp_tya nt) = lg.map (sp_tya nt))))), y) := by
  intro lp
  induction lp with
  | nil =>
    intro lg p g hp hg
    rw [bX1_isCall_39, bX1_isCall_95, if_pos (show p = -1 from hp), if_pos (show p = -1 from hp)]
    cases lg with
    | nil => rw [if_pos (show g = -1 from hg)]; rfl
    | cons k l =>
      obtain ⟨rfl, h1, -⟩ := hg
      have hne : ¬ g = -1 := fun e => by rw [e, sp_nd_m1] at h1; cases h1
      rw [if_neg hne]; simp [sp_b]
  | cons q lp ih =>
    intro lg p g hp hg
    obtain ⟨rfl, h1, h2, h3, h4⟩ := hp
    have hne : ¬ p = -1 := fun e => by rw [e, sp_nd_m1] at h1; cases h1
    rw [bX1_isCall_39, bX1_isCall_95, if_neg hne, if_neg hne]
    cases lg with
    | nil =>
      have hg : g = -1 := hg
      rw [if_pos hg]; simp [sp_b]
    | cons k l =>
      obtain ⟨rfl, g1, g2, g3, g4⟩ := hg
      have gne : ¬ g = -1 := fun e => by rw [e, sp_nd_m1] at g1; cases g1
      rw [if_neg gne]
      simp only [h.2.2.1, h.2.2.2.1, h.2.2.2.2.1, h.2.2.2.2.2.1, mj_g_k (sp_nd_in h.2.1 h1 (Nat.le_refl _)), mj_g_k (sp_nd_in h.2.1 h3 (Nat.le_refl _)), mj_g_k (sp_nd_in h.2.1 g1 (Nat.le_refl _)), mj_g_k (sp_nd_in h.2.1 g3 (Nat.le_refl _)), ih l _ _ h4 g4, List.map_cons, List.cons.injEq, sp_tya]
      grind [sp_b]
theorem sX1_isCall {d : Nat} (hd : 4 ≤ d) {y : mj_X} {nt : sp_NT} {N M : Nat} {res par : Nat → Int32} (h : md_T y nt N) (hM : md_M y M res par) (hW : sp_W nt N M par) (m g : Int32) : kX1 d 13 [.ref 0, .int m, .int g] y = some (some (.int (sp_b (sp_call nt (sp_fr nt N) M par m g))), y) := by
  obtain ⟨d, rfl⟩ : ∃ c, d = c + 1 := ⟨d - 1, by omega⟩
  rw [eX1_isCall]
  simp only [sX1_isA (show 3 ≤ d by omega) h, mj_rI_k, sp_b0, hM.1, hM.2.2.2]
  have key : sp_nd M m = true → (g = -1 ∨ sp_fk nt (sp_fr nt N) g 49 = true) → mj_g m 40 (rX1_isCall d (39, [some (.ref 0), some (.int m), some (.int g), some (.int (par m.toNatClampNeg)), some (.int g)], [], y)) = some (some (.int (sp_b (decide ((sp_chain nt 4001 (par m.toNatClampNeg)).map (sp_tya nt) = (sp_chain nt 4001 g).map (sp_tya nt))))), y) := by
    intro hm hg
    have hm2 := (sp_nd_iff (by have := hM.2.1; omega) m).mp hm
    have hm3 : m.toNatClampNeg < M := by show m.toInt.toNat < M; omega
    obtain ⟨lp, l1, l2⟩ := hW.par hm3
    rw [mj_g_k (mj_in_of hm2.1 (by have := hM.2.1; omega)), sp_Ch_chain lp _ 4001 l1 (by omega)]
    rcases hg with rfl | hf
    · rw [sX1_isCallL h m (-1) lp [] _ (-1) l1 rfl]; simp [sp_chain]
    · have hf2 := hf
      unfold sp_fk sp_fr at hf2
      simp only [Bool.and_eq_true, decide_eq_true_eq] at hf2
      obtain ⟨lg, l3, l4⟩ := hW.of (Or.inl rfl) hf2.1.1 hf2.2
      rw [sX1_isCallL h m g lp lg _ g l1 l3, sp_Ch_chain lg g 4001 l3 (by omega)]
  have e : sp_nd M m = true ↔ ¬ m < 0 ∧ ¬ nI M ≤ m := by
    unfold sp_nd; simp only [Bool.and_eq_true, decide_eq_true_eq]
    rw [Int32.not_lt, Int32.not_le]
  unfold sp_call
  grind [sp_b]
