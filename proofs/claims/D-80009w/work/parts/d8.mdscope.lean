/-! CodeWriterModel's scoping -/
def md_sc (y : mj_X) (s : sp_SS) : mj_X := (fun k j => if k = 0 ∧ j = 27 then nI s.1 else if k = 26 then sp_b (s.2.1 j) else if k = 27 then s.2.2 j else y.1 k j, y.2)
theorem md_sc_c (y : mj_X) (s : sp_SS) : (md_sc y s).1 0 27 = nI s.1 := by simp [md_sc]
theorem md_sc_I (y : mj_X) (s : sp_SS) (j : Nat) : (md_sc y s).1 26 j = sp_b (s.2.1 j) := by simp [md_sc]
theorem md_sc_F (y : mj_X) (s : sp_SS) (j : Nat) : (md_sc y s).1 27 j = s.2.2 j := by simp [md_sc]
theorem md_sc_T {y : mj_X} {nt : sp_NT} {N : Nat} (h : md_T y nt N) (s : sp_SS) : md_T (md_sc y s) nt N := by
  unfold md_T at h ⊢
  simp only [md_sc]
  simp
  exact h
theorem md_wc (y : mj_X) (s : sp_SS) (c : Nat) : mj_wI (md_sc y s) 0 27 (nI c) = md_sc y (c, s.2) := by
  apply Prod.ext
  · funext k j
    rw [mj_wI_1]; simp only [md_sc]
    by_cases h : k = 0 <;> by_cases h2 : j = 27 <;> simp [h, h2]
  · rfl
theorem md_wi (y : mj_X) (s : sp_SS) (v : Nat) (b : Bool) : mj_wI (md_sc y s) 26 v (sp_b b) = md_sc y (s.1, fun j => if j = v then b else s.2.1 j, s.2.2) := by
  apply Prod.ext
  · funext k j
    rw [mj_wI_1]; simp only [md_sc]
    by_cases h : k = 26
    · subst h; by_cases h2 : j = v <;> simp [h2]
    · simp [h]
  · rfl
theorem md_wf (y : mj_X) (s : sp_SS) (c : Nat) (v : Int32) : mj_wI (md_sc y s) 27 c v = md_sc y (s.1, s.2.1, fun j => if j = c then v else s.2.2 j) := by
  apply Prod.ext
  · funext k j
    rw [mj_wI_1]; simp only [md_sc]
    by_cases h : k = 27
    · subst h; by_cases h2 : j = c <;> simp [h2]
    · simp [h]
  · rfl
theorem sX1_declare {d : Nat} (hd : 1 ≤ d) {N : Nat} (hN : N ≤ 4000) (y : mj_X) {s : sp_SS} (hs : s.1 ≤ 4000) {v : Int32} (hv : sp_nd N v = true) : kX1 d 24 [.ref 0, .int v] (md_sc y s) = some (none, md_sc y (sp_fo s v)) := by
  obtain ⟨d, rfl⟩ : ∃ c, d = c + 1 := ⟨d - 1, by omega⟩
  rw [eX1_declare, md_sc_c, mj_g_k (sp_nd_in hN hv (Nat.le_refl _)), mj_g_k (mj_in_nI (show s.1 < 4001 by omega) (by omega)), nI_1, nI_clamp (by omega)]
  rw [show (1 : Int32) = sp_b true from rfl, md_wi, md_wf, md_wc]; rfl
theorem sX1_undeclare {d : Nat} (hd : 1 ≤ d) {N : Nat} (hN : N ≤ 4000) (y : mj_X) {s : sp_SS} (hs : sp_SI N s) {c : Nat} (hc : c ≤ s.1) : kX1 d 30 [.ref 0, .int (nI c)] (md_sc y s) = some (none, md_sc y (sp_pop (s.1 - c) s)) := by
  obtain ⟨d, rfl⟩ : ∃ c, d = c + 1 := ⟨d - 1, by omega⟩
  rw [eX1_undeclare]
  obtain ⟨k, hk⟩ : ∃ k, s.1 = c + k := ⟨s.1 - c, by omega⟩
  rw [show s.1 - c = k by omega]
  clear hc
  induction k generalizing s with
  | zero =>
    rw [bX1_undeclare_0, md_sc_c, if_pos (nI_le (by omega) (by have := hs.1; omega))]; rfl
  | succ k ih =>
    have h4 := hs.1
    have e : nI s.1 - 1 = nI (s.1 - 1) := by rw [show s.1 = (s.1 - 1) + 1 by omega]; exact nI_pred _
    rw [bX1_undeclare_0, md_sc_c, if_neg (nI_ge (by omega) (by omega)), e, nI_clamp (by omega), md_sc_F, mj_g_k (mj_in_nI (by omega) (by omega)), mj_g_k (sp_nd_in hN (hs.2 _ (by omega)) (Nat.le_refl _))]
    rw [md_wc, show (0 : Int32) = sp_b false from rfl, md_wi]
    exact ih (s := sp_pop1 s) (hs.pop 1) (by show s.1 - 1 = _; omega)
theorem md_place {y : mj_X} {N D : Nat} (hN : N ≤ 4000) {n : Int32} {w : Nat} {g : sp_SS → Bool × sp_SS} (h : sp_SC kX1 (md_sc y) N D 27 n w g) (hD : 1 ≤ D) : sp_SC kX1 (md_sc y) N (D + 1) 26 n w fun s => sp_al s.1 (g s) := by
  intro d hd s hs hw
  obtain ⟨d, rfl⟩ : ∃ c, d = c + 1 := ⟨d - 1, by omega⟩
  obtain ⟨h1, h2⟩ := h d (by omega) s hs hw
  refine ⟨?_, h2.al w⟩
  rw [eX1_isScopedPlace, h1]
  unfold sp_o
  rw [mj_rI_k, md_sc_c, sX1_undeclare (by omega) hN y h2.2.2 h2.1, mj_rV_k, mj_gb_b]; rfl
def sp_Ex (k : Int32) : Bool := sp_i k 1 4 || sp_i k 6 49 || decide (k = 51)
/-- an expression tells nothing: its value alone -/
def sp_ue (nt : sp_NT) (f : Nat) (s : sp_SS) (k a b : Int32) : Bool := (!sp_hA k || decide (a = -1) || (sp_sc nt f a s).1) && (!(sp_hB k && !decide (k = 51)) || decide (b = -1) || (sp_sc nt f b s).1)
theorem md_eU {y : mj_X} {nt : sp_NT} {N d f : Nat} (hy : md_T y nt N) {n : Int32} (hn : sp_nd N n = true) (hd : 1 ≤ d) (s : sp_SS) (h6 : ¬ nt 0 n.toNatClampNeg = 6) (h7 : ¬ nt 0 n.toNatClampNeg = 7)
    (hA : sp_hA (nt 0 n.toNatClampNeg) = true → ¬ nt 1 n.toNatClampNeg = -1 → kX1 d 28 [.ref 0, .int (nt 1 n.toNatClampNeg)] (md_sc y s) = sp_o (md_sc y) ((sp_sc nt f (nt 1 n.toNatClampNeg) s).1, s))
    (hB : sp_hB (nt 0 n.toNatClampNeg) = true → ¬ nt 0 n.toNatClampNeg = 51 → ¬ nt 2 n.toNatClampNeg = -1 → kX1 d 28 [.ref 0, .int (nt 2 n.toNatClampNeg)] (md_sc y s) = sp_o (md_sc y) ((sp_sc nt f (nt 2 n.toNatClampNeg) s).1, s)) :
    kX1 (d + 1) 28 [.ref 0, .int n] (md_sc y s) = sp_o (md_sc y) (sp_ue nt f s (nt 0 n.toNatClampNeg) (nt 1 n.toNatClampNeg) (nt 2 n.toNatClampNeg), s) := by
  have hN := hy.2.1
  have hg := fun r => mj_g_k (sp_nd_in hN hn (Nat.le_refl _)) r
  have hT := md_sc_T hy s
  have t99 : ∀ b0 : Bool, rX1_isScoped d (99, [some (.ref 0), some (.int n), some (.int (nt 0 n.toNatClampNeg)), none], [.int (sp_b b0)], md_sc y s) = sp_o (md_sc y) (b0 && (!(sp_hB (nt 0 n.toNatClampNeg) && !decide (nt 0 n.toNatClampNeg = 51)) || decide (nt 2 n.toNatClampNeg = -1) || (sp_sc nt f (nt 2 n.toNatClampNeg) s).1), s) := by
    intro b0
    rw [bX1_isScoped_99, sp_ib]
    cases b0
    · rfl
    · rw [if_neg (by decide), sX1_isSecondPart (by omega), mj_rI_k, sp_ib]
      cases q : sp_hB (nt 0 n.toNatClampNeg) && !decide (nt 0 n.toNatClampNeg = 51)
      · rw [if_pos rfl]; rfl
      · rw [if_neg (by decide), hg, hg, hT.2.2.2.2.1]
        simp only [Bool.and_eq_true, Bool.not_eq_true', decide_eq_false_iff_not] at q
        by_cases q2 : nt 2 n.toNatClampNeg = -1
        · rw [if_pos q2]; simp [q2]; rfl
        · rw [if_neg q2, hB q.1 q.2 q2, sp_ret]; simp [q2]
  rw [eX1_isScoped, hg, hg, hT.2.2.1, hT.2.2.2.1, if_neg h6, if_neg h7, sX1_isFirstPart (by omega), mj_rI_k, sp_ib]
  unfold sp_ue
  cases q : sp_hA (nt 0 n.toNatClampNeg)
  · rw [if_pos rfl]; exact t99 true
  · rw [if_neg (by decide), hg, hg, hT.2.2.2.1]
    by_cases q2 : nt 1 n.toNatClampNeg = -1
    · rw [if_pos q2, q2]; exact t99 true
    · rw [if_neg q2, hA q q2]
      unfold sp_o
      rw [mj_rI_k, sp_ib]
      simp only [q2, Bool.not_true, decide_false, Bool.or_false, Bool.false_or]
      cases q3 : (sp_sc nt f (nt 1 n.toNatClampNeg) s).1
      · rw [if_pos rfl]; exact t99 false
      · rw [if_neg (by decide)]; exact t99 true
