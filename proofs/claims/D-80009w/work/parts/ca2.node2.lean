/-! node: the new table, both sides -/
theorem mj_wI_1 (x : mj_X) (k j : Nat) (v : Int32) (a b : Nat) : (mj_wI x k j v).1 a b = if a = k then (if b = j then v else x.1 a b) else x.1 a b := by
  unfold mj_wI upd
  by_cases h : a = k <;> simp [h]
theorem mj_wI_2 (x : mj_X) (k j : Nat) (v : Int32) : (mj_wI x k j v).2 = x.2 := rfl
theorem mj_wL_1 (x : mj_X) (k j : Nat) (v : Int64) : (mj_wL x k j v).1 = x.1 := rfl
theorem mj_wL_2 (x : mj_X) (k j : Nat) (v : Int64) (a b : Nat) : (mj_wL x k j v).2 a b = if a = k then (if b = j then v else x.2 a b) else x.2 a b := by
  unfold mj_wL vp_updL
  by_cases h : a = k <;> simp [h]
def sp_xs (c : Bool) (x : mj_X) (k : Nat) (a : Int32) : mj_X := bif c then mj_wI x k a.toNatClampNeg 1 else x
def sp_x0 (x : mj_X) (N : Nat) (k a b t dp : Int32) : mj_X := mj_wI (mj_wI (mj_wI (mj_wI (mj_wI (mj_wI (mj_wI (sp_xs (sp_pb k b) (sp_xs (sp_pa k a) x 6 a) 6 b) 0 6 (nI N + 1)) 1 N k) 2 N a) 3 N b) 4 N t) 5 N dp) 6 N 0
theorem sp_xs_0 (c : Bool) (x : mj_X) (k : Nat) (a : Int32) (i j : Nat) (h : i ≠ k) : (sp_xs c x k a).1 i j = x.1 i j := by
  unfold sp_xs; cases c <;> simp [mj_wI_1, h]
theorem sp_dp_eq {nt : sp_NT} {N : Nat} (hD : sp_Dp nt N) (k a b : Int32) (ha : sp_pa k a = true → sp_nd N a = true) (hb : sp_pb k b = true → sp_nd N b = true) :
    (bif sp_pb k b then mj_max (bif sp_pa k a then mj_max 1 (nt 4 a.toNatClampNeg + 1) else 1) (nt 4 b.toNatClampNeg + 1) else (bif sp_pa k a then mj_max 1 (nt 4 a.toNatClampNeg + 1) else 1)) = sp_dp nt k a b := by
  unfold sp_dp
  cases h1 : sp_pa k a
  · cases h2 : sp_pb k b
    · rfl
    · have := hD b (hb h2)
      simp only [cond_true, cond_false, mj_max]; grind
  · have q1 := hD a (ha h1)
    cases h2 : sp_pb k b
    · simp only [cond_true, cond_false, mj_max]; grind
    · have q2 := hD b (hb h2)
      simp only [cond_true, mj_max]; grind
theorem sp_dp_rng {nt : sp_NT} {N : Nat} (hD : sp_Dp nt N) (k a b : Int32) (ha : sp_pa k a = true → sp_nd N a = true) (hb : sp_pb k b = true → sp_nd N b = true) : 1 ≤ sp_dp nt k a b ∧ sp_dp nt k a b ≤ 41 := by
  unfold sp_dp
  cases h1 : sp_pa k a
  · cases h2 : sp_pb k b
    · simp only [cond_false]; decide
    · have := hD b (hb h2)
      simp only [cond_true, cond_false, mj_max]; grind
  · have q1 := hD a (ha h1)
    cases h2 : sp_pb k b
    · simp only [cond_true, cond_false, mj_max]; grind
    · have q2 := hD b (hb h2)
      simp only [cond_true, mj_max]; grind
theorem sp_isK_rng {k : Int32} (h : sp_isK k = true) : 1 ≤ k ∧ k ≤ 86 := by
  unfold sp_isK sp_i at h
  simp only [Bool.or_eq_true, Bool.and_eq_true, decide_eq_true_eq] at h
  grind
section SpNode
variable {nt : sp_NT} {N M : Nat} {res par : Nat → Int32}
set_option maxHeartbeats 1000000 in
theorem sX0_node {d : Nat} (hd : 7 ≤ d) {x : mj_X} (h : cw_T x nt N) (hM : cw_M x M res par) (hW : sp_W nt N M par) (hR : ∀ m, m < M → 0 ≤ res m ∧ res m ≤ 8) (hD : sp_Dp nt N) (hN : N < 4000) (k a b : Int32) :
    kX0 d 0 [.ref 0, .int k, .int a, .int b] x = (if sp_isK k = false then some (some (.int (-1)), x) else if sp_ty nt (sp_nd N) (sp_fr nt N) M res par k a b = -1 then some (some (.int (-2)), x) else if 40 < sp_dp nt k a b then some (some (.int (-3)), x) else some (some (.int (nI N)), sp_x0 x N k a b (sp_ty nt (sp_nd N) (sp_fr nt N) M res par k a b) (sp_dp nt k a b))) := by
  obtain ⟨d, rfl⟩ : ∃ c, d = c + 1 := ⟨d - 1, by omega⟩
  rw [eX0_node, sX0_isKind (by omega), mj_rI_k]
  simp only [sp_b0]
  by_cases hk : sp_isK k = false
  · rw [if_pos hk, if_pos hk]
  · rw [if_neg hk, if_neg hk]
    have hk : sp_isK k = true := by cases q : sp_isK k <;> simp_all
    rw [sX0_typeOf (by omega) h hM hW k a b hk, mj_rI_k]
    by_cases hr : sp_ty nt (sp_nd N) (sp_fr nt N) M res par k a b = -1
    · rw [if_pos hr, if_pos hr]
    · rw [if_neg hr, if_neg hr]
      have ha : sp_pa k a = true → sp_nd N a = true := fun q => by
        unfold sp_pa at q; simp only [Bool.and_eq_true, Bool.not_eq_true', decide_eq_false_iff_not] at q
        exact sp_ty_a nt N M res par k a b hk hr q.1 q.2
      have hb : sp_pb k b = true → sp_nd N b = true := fun q => by
        unfold sp_pb at q; simp only [Bool.and_eq_true, Bool.not_eq_true', decide_eq_false_iff_not] at q
        exact sp_ty_b nt N M res par k a b hk hr q.1 q.2
      have tr := sp_ty_rng nt N M res par hM.2.1 hW.2.2 hR k a b hk hr
      have dr := sp_dp_rng hD k a b ha hb
      have kr := sp_isK_rng hk
      have de := sp_dp_eq hD k a b ha hb
      generalize hty : sp_ty nt (sp_nd N) (sp_fr nt N) M res par k a b = ty at hr tr ⊢
      generalize hdp : sp_dp nt k a b = dp at de dr ⊢
      simp only [sX0_hasA (show 2 ≤ d by omega), sX0_hasB (show 2 ≤ d by omega), mj_rI_k, sp_b0, bX0_node_57, bX0_node_84, bX0_node_126, h.2.2.2.2.2.2.1]
      -- what is written last
      have fin : ∀ z : mj_X, z.1 0 6 = nI N → dp ≤ 40 → rX0_node d (145, [some (.ref 0), some (.int k), some (.int a), some (.int b), some (.int ty), some (.int dp), none], [], z) = some (some (.int (nI N)), mj_wI (mj_wI (mj_wI (mj_wI (mj_wI (mj_wI (mj_wI z 0 6 (nI N + 1)) 1 N k) 2 N a) 3 N b) 4 N ty) 5 N dp) 6 N 0) := by
        intro z hz hdp4
        have b1 : k.toInt8.toInt32 = k := mj_b8 (by rw [Int32.le_iff_toInt_le, Int32.le_iff_toInt_le] at kr; simp at kr; omega)
        have b2 : ty.toInt8.toInt32 = ty := mj_b8 (by rw [Int32.le_iff_toInt_le, Int32.le_iff_toInt_le] at tr; simp at tr; omega)
        have b3 : dp.toInt8.toInt32 = dp := mj_b8 (by rw [Int32.le_iff_toInt_le] at dr hdp4; rw [Int32.le_iff_toInt_le] at dr; simp at dr hdp4; omega)
        rw [bX0_node_145, hz]
        simp only [mj_g_k (mj_in_nI hN (by omega)), nI_clamp (show N < 2 ^ 31 by omega), b1, b2, b3]
      have h6 : x.1 0 6 = nI N := h.1
      have hn4 : ¬ nI N = 4000 := fun e => by
        have : (nI N).toInt = 4000 := by rw [e]; rfl
        rw [nI_toInt (by omega)] at this; omega
      have ga : ∀ r, sp_pa k a = true → mj_g a 4000 r = r := fun r q => mj_g_k (sp_nd_in h.2.1 (ha q) (Nat.le_refl _)) r
      have gb : ∀ r, sp_pb k b = true → mj_g b 4000 r = r := fun r q => mj_g_k (sp_nd_in h.2.1 (hb q) (Nat.le_refl _)) r
      have f1 := fin x h6
      have f2 := fin (mj_wI x 6 a.toNatClampNeg 1) h6
      have f3 := fin (mj_wI x 6 b.toNatClampNeg 1) h6
      have f4 := fin (mj_wI (mj_wI x 6 a.toNatClampNeg 1) 6 b.toNatClampNeg 1) h6
      have n40 : dp ≤ 40 ↔ ¬ 40 < dp := Int32.not_lt.symm
      unfold sp_x0 sp_xs
      by_cases q1 : sp_hA k = true
      · by_cases q2 : a = -1
        · have pa : sp_pa k a = false := by unfold sp_pa; simp [q2]
          by_cases q3 : sp_hB k = true
          · by_cases q4 : b = -1
            · have pb : sp_pb k b = false := by unfold sp_pb; simp [q4]
              simp only [pa, pb, cond_false] at de ⊢; subst de
              simp [q1, q2, q3, q4, h6, hn4] at f1 ⊢; grind
            · have pb : sp_pb k b = true := by unfold sp_pb; simp [q3, q4]
              simp only [pa, pb, cond_true, cond_false] at de ⊢; subst de
              simp [q1, q2, q3, q4, h6, hn4, gb _ pb] at f3 ⊢; grind
          · have pb : sp_pb k b = false := by unfold sp_pb; simp [q3]
            simp only [pa, pb, cond_false] at de ⊢; subst de
            simp [q1, q2, q3, h6, hn4] at f1 ⊢; grind
        · have pa : sp_pa k a = true := by unfold sp_pa; simp [q1, q2]
          by_cases q3 : sp_hB k = true
          · by_cases q4 : b = -1
            · have pb : sp_pb k b = false := by unfold sp_pb; simp [q4]
              simp only [pa, pb, cond_true, cond_false] at de ⊢; subst de
              simp [q1, q2, q3, q4, h6, hn4, ga _ pa] at f2 ⊢; grind
            · have pb : sp_pb k b = true := by unfold sp_pb; simp [q3, q4]
              simp only [pa, pb, cond_true, cond_false] at de ⊢; subst de
              simp [q1, q2, q3, q4, h6, hn4, ga _ pa, gb _ pb] at f4 ⊢; grind
          · have pb : sp_pb k b = false := by unfold sp_pb; simp [q3]
            simp only [pa, pb, cond_true, cond_false] at de ⊢; subst de
            simp [q1, q2, q3, h6, hn4, ga _ pa] at f2 ⊢; grind
      · have pa : sp_pa k a = false := by unfold sp_pa; simp [q1]
        by_cases q3 : sp_hB k = true
        · by_cases q4 : b = -1
          · have pb : sp_pb k b = false := by unfold sp_pb; simp [q4]
            simp only [pa, pb, cond_false] at de ⊢; subst de
            simp [q1, q3, q4, h6, hn4] at f1 ⊢; grind
          · have pb : sp_pb k b = true := by unfold sp_pb; simp [q3, q4]
            simp only [pa, pb, cond_true, cond_false] at de ⊢; subst de
            simp [q1, q3, q4, h6, hn4, gb _ pb] at f3 ⊢; grind
        · have pb : sp_pb k b = false := by unfold sp_pb; simp [q3]
          simp only [pa, pb, cond_false] at de ⊢; subst de
          simp [q1, q3, h6, hn4] at f1 ⊢; grind
theorem sp_x0_T {x : mj_X} (h : cw_T x nt N) (hN : N < 4000) (k a b t : Int32) (ha : sp_pa k a = true → sp_nd N a = true) (hb : sp_pb k b = true → sp_nd N b = true) : cw_T (sp_x0 x N k a b t (sp_dp nt k a b)) (sp_new nt N k a b t) (N + 1) := by
  have na : sp_pa k a = true → a.toNatClampNeg ≠ N := fun q => by
    have := (sp_nd_iff h.2.1 a).mp (ha q)
    show a.toInt.toNat ≠ N; omega
  have nb : sp_pb k b = true → b.toNatClampNeg ≠ N := fun q => by
    have := (sp_nd_iff h.2.1 b).mp (hb q)
    show b.toInt.toNat ≠ N; omega
  obtain ⟨-, -, e0, e1, e2, e3, e4, e5⟩ := h
  refine ⟨?_, by omega, ?_, ?_, ?_, ?_, ?_, ?_⟩
  · unfold sp_x0; simp [mj_wI_1, nI_1]
  · funext i; unfold sp_x0 sp_new; simp only [mj_wI_1, sp_xs_0 _ _ _ _ _ _ (show (1 : Nat) ≠ 6 by decide), e0]; grind
  · funext i; unfold sp_x0 sp_new; simp only [mj_wI_1, sp_xs_0 _ _ _ _ _ _ (show (2 : Nat) ≠ 6 by decide), e1]; grind
  · funext i; unfold sp_x0 sp_new; simp only [mj_wI_1, sp_xs_0 _ _ _ _ _ _ (show (3 : Nat) ≠ 6 by decide), e2]; grind
  · funext i; unfold sp_x0 sp_new; simp only [mj_wI_1, sp_xs_0 _ _ _ _ _ _ (show (4 : Nat) ≠ 6 by decide), e3]; grind
  · funext i; unfold sp_x0 sp_new; simp only [mj_wI_1, sp_xs_0 _ _ _ _ _ _ (show (5 : Nat) ≠ 6 by decide), e4]; grind
  · funext i; unfold sp_x0 sp_new sp_xs
    cases q1 : sp_pa k a <;> cases q2 : sp_pb k b <;> simp only [q1, q2, cond_true, cond_false, mj_wI_1, e5] <;> grind
theorem sp_x0_kp {x : mj_X} (k a b t dp : Int32) : mj_kp sp_P0 sp_F x (sp_x0 x N k a b t dp) := by
  have h0 : mj_kp sp_P0 sp_F x (sp_xs (sp_pa k a) x 6 a) := by unfold sp_xs; cases sp_pa k a; exact mj_kp.rf; exact mj_kp.I mj_kp.rf _ rfl
  have h1 : mj_kp sp_P0 sp_F x (sp_xs (sp_pb k b) (sp_xs (sp_pa k a) x 6 a) 6 b) := by
    generalize sp_xs (sp_pa k a) x 6 a = z at h0
    unfold sp_xs; cases sp_pb k b; exact h0; exact mj_kp.I h0 _ rfl
  exact ((((((h1.I _ rfl).I _ rfl).I _ rfl).I _ rfl).I _ rfl).I _ rfl).I _ rfl
/-- the model's -/
def sp_x1 (x : mj_X) (N : Nat) (k a b t dp : Int32) : mj_X := sp_xs (sp_pb k b) (sp_xs (sp_pa k a) (mj_wI (mj_wI (mj_wI (mj_wI (mj_wI (mj_wI (mj_wI x 0 0 (nI N + 1)) 2 N k) 3 N a) 4 N b) 5 N t) 6 N dp) 7 N 0) 7 a) 7 b
end SpNode
