/-! CodeWriter's scoping -/
def cw_sc (x : mj_X) (s : sp_SS) : mj_X := (fun k j => if k = 0 ∧ j = 26 then nI s.1 else if k = 25 then sp_b (s.2.1 j) else if k = 26 then s.2.2 j else x.1 k j, x.2)
theorem cw_sc_c (x : mj_X) (s : sp_SS) : (cw_sc x s).1 0 26 = nI s.1 := by simp [cw_sc]
theorem cw_sc_I (x : mj_X) (s : sp_SS) (j : Nat) : (cw_sc x s).1 25 j = sp_b (s.2.1 j) := by simp [cw_sc]
theorem cw_sc_F (x : mj_X) (s : sp_SS) (j : Nat) : (cw_sc x s).1 26 j = s.2.2 j := by simp [cw_sc]
theorem cw_sc_T {x : mj_X} {nt : sp_NT} {N : Nat} (h : cw_T x nt N) (s : sp_SS) : cw_T (cw_sc x s) nt N := by
  unfold cw_T at h ⊢
  simp only [cw_sc]
  simp
  exact h
theorem cw_sc_k (x : mj_X) (s : sp_SS) (k j : Nat) (h : 1 ≤ k ∧ k ≤ 6) : (cw_sc x s).1 k j = x.1 k j := by
  simp only [cw_sc]
  rw [if_neg (by omega), if_neg (by omega), if_neg (by omega)]
theorem cw_wc (x : mj_X) (s : sp_SS) (c : Nat) : mj_wI (cw_sc x s) 0 26 (nI c) = cw_sc x (c, s.2) := by
  apply Prod.ext
  · funext k j
    rw [mj_wI_1]; simp only [cw_sc]
    by_cases h : k = 0 <;> by_cases h2 : j = 26 <;> simp [h, h2]
  · rfl
theorem cw_wi (x : mj_X) (s : sp_SS) (v : Nat) (b : Bool) : mj_wI (cw_sc x s) 25 v (sp_b b) = cw_sc x (s.1, fun j => if j = v then b else s.2.1 j, s.2.2) := by
  apply Prod.ext
  · funext k j
    rw [mj_wI_1]; simp only [cw_sc]
    by_cases h : k = 25
    · subst h; by_cases h2 : j = v <;> simp [h2]
    · simp [h]
  · rfl
theorem cw_wf (x : mj_X) (s : sp_SS) (c : Nat) (v : Int32) : mj_wI (cw_sc x s) 26 c v = cw_sc x (s.1, s.2.1, fun j => if j = c then v else s.2.2 j) := by
  apply Prod.ext
  · funext k j
    rw [mj_wI_1]; simp only [cw_sc]
    by_cases h : k = 26
    · subst h; by_cases h2 : j = c <;> simp [h2]
    · simp [h]
  · rfl
theorem sX0_force {d : Nat} (hd : 1 ≤ d) {N : Nat} (hN : N ≤ 4000) (x : mj_X) {s : sp_SS} (hs : s.1 < 4000) {v : Int32} (hv : sp_nd N v = true) : kX0 d 25 [.ref 0, .int v] (cw_sc x s) = some (none, cw_sc x (sp_fo s v)) := by
  obtain ⟨d, rfl⟩ : ∃ c, d = c + 1 := ⟨d - 1, by omega⟩
  rw [eX0_force, cw_sc_c, mj_g_k (sp_nd_in hN hv (Nat.le_refl _)), mj_g_k (mj_in_nI hs (by omega)), nI_1, nI_clamp (by omega)]
  rw [show (1 : Int32) = sp_b true from rfl, cw_wi, cw_wc, cw_wf]; rfl
theorem sX0_release {d : Nat} (hd : 1 ≤ d) {N : Nat} (hN : N ≤ 4000) (x : mj_X) {s : sp_SS} (hs : sp_SI N s) {c : Nat} (hc : c ≤ s.1) : kX0 d 30 [.ref 0, .int (nI c)] (cw_sc x s) = some (none, cw_sc x (sp_pop (s.1 - c) s)) := by
  obtain ⟨d, rfl⟩ : ∃ c, d = c + 1 := ⟨d - 1, by omega⟩
  rw [eX0_release]
  obtain ⟨k, hk⟩ : ∃ k, s.1 = c + k := ⟨s.1 - c, by omega⟩
  rw [show s.1 - c = k by omega]
  clear hc
  induction k generalizing s with
  | zero =>
    rw [bX0_release_0, cw_sc_c, if_pos (nI_le (by omega) (by have := hs.1; omega))]; rfl
  | succ k ih =>
    have h4 := hs.1
    have e : nI s.1 - 1 = nI (s.1 - 1) := by rw [show s.1 = (s.1 - 1) + 1 by omega]; exact nI_pred _
    rw [bX0_release_0, cw_sc_c, if_neg (nI_ge (by omega) (by omega)), e, nI_clamp (by omega), cw_sc_F, mj_g_k (mj_in_nI (by omega) (by omega)), mj_g_k (sp_nd_in hN (hs.2 _ (by omega)) (Nat.le_refl _))]
    rw [cw_wc, show (0 : Int32) = sp_b false from rfl, cw_wi]
    exact ih (s := sp_pop1 s) (hs.pop 1) (by show s.1 - 1 = _; omega)
theorem cw_alone {x : mj_X} {N D : Nat} (hN : N ≤ 4000) {n : Int32} {w : Nat} {g : sp_SS → Bool × sp_SS} (h : sp_SC kX0 (cw_sc x) N D 28 n w g) (hD : 1 ≤ D) : sp_SC kX0 (cw_sc x) N (D + 1) 29 n w fun s => sp_al s.1 (g s) := by
  intro d hd s hs hw
  obtain ⟨d, rfl⟩ : ∃ c, d = c + 1 := ⟨d - 1, by omega⟩
  obtain ⟨h1, h2⟩ := h d (by omega) s hs hw
  refine ⟨?_, h2.al w⟩
  rw [eX0_isScopedAlone, h1]
  unfold sp_o
  rw [mj_rI_k, cw_sc_c, sX0_release (by omega) hN x h2.2.2 h2.1, mj_rV_k, mj_gb_b]; rfl
