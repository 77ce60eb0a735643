/-! the model's node -/
section SpNode1
variable {nt : sp_NT} {N M : Nat} {res par : Nat → Int32}
theorem sp_ty_51 (nt : sp_NT) (nd fr : Int32 → Bool) (M : Nat) (res par : Nat → Int32) (a b : Int32) (hr : ¬ sp_ty nt nd fr M res par 51 a b = -1) : b = -1 := by
  simp only [sp_ty] at hr
  simp at hr
  grind
set_option maxHeartbeats 1000000 in
theorem sX1_node {d : Nat} (hd : 7 ≤ d) {x : mj_X} (h : md_T x nt N) (hM : md_M x M res par) (hW : sp_W nt N M par) (hR : ∀ m, m < M → 0 ≤ res m ∧ res m ≤ 8) (hD : sp_Dp nt N) (hN : N < 4000) (k a b : Int32) :
    kX1 d 1 [.ref 0, .int k, .int a, .int b] x = (if sp_isK k = false then some (some (.int (-1)), x) else if sp_ty nt (sp_nd N) (sp_fr nt N) M res par k a b = -1 then some (some (.int (-2)), x) else if 40 < sp_dp nt k a b then some (some (.int (-3)), x) else some (some (.int (nI N)), sp_x1 x N k a b (sp_ty nt (sp_nd N) (sp_fr nt N) M res par k a b) (sp_dp nt k a b))) := by
  obtain ⟨d, rfl⟩ : ∃ c, d = c + 1 := ⟨d - 1, by omega⟩
  rw [eX1_node, sX1_isKind (by omega), mj_rI_k]
  simp only [sp_b0]
  by_cases hk : sp_isK k = false
  · rw [if_pos hk, if_pos hk]
  · rw [if_neg hk, if_neg hk]
    have hk : sp_isK k = true := by cases q : sp_isK k <;> simp_all
    rw [sX1_isRight (by omega) h hM hW (fun m q => (hR m q).1) k a b hk, mj_rI_k]
    simp only [sp_b0, Bool.not_eq_false', decide_eq_true_eq]
    by_cases hr : sp_ty nt (sp_nd N) (sp_fr nt N) M res par k a b = -1
    · rw [if_pos hr, if_pos hr]
    · rw [if_neg hr, if_neg hr]
      have ha : sp_pa k a = true → sp_nd N a = true := fun q => by
        unfold sp_pa at q; simp only [Bool.and_eq_true, Bool.not_eq_true', decide_eq_false_iff_not] at q
        exact sp_ty_a nt N M res par k a b hk hr q.1 q.2
      have hb : sp_pb k b = true → sp_nd N b = true := fun q => by
        unfold sp_pb at q; simp only [Bool.and_eq_true, Bool.not_eq_true', decide_eq_false_iff_not] at q
        exact sp_ty_b nt N M res par k a b hk hr q.1 q.2
      have dr := sp_dp_rng hD k a b ha hb
      have hty : ∀ z : mj_X, z.1 5 = nt 3 → z.1 9 = res → kX1 d 20 [.ref 0, .int k, .int a, .int b] z = some (some (.int (sp_ty nt (sp_nd N) (sp_fr nt N) M res par k a b)), z) := fun z h5 h9 => sX1_typeOf (by omega) h.2.1 h5 h9 hM.2.1 hW k a b hk hr
      have h51 : k = 51 → b = -1 := fun e => by subst e; exact sp_ty_51 _ _ _ _ _ _ _ _ hr
      generalize sp_ty nt (sp_nd N) (sp_fr nt N) M res par k a b = ty at hr hty ⊢
      have pbe : (sp_hB k && !decide (k = 51)) = true ∧ ¬ b = -1 ↔ sp_pb k b = true := by
        unfold sp_pb
        simp only [Bool.and_eq_true, Bool.not_eq_true', decide_eq_false_iff_not]
        constructor
        · rintro ⟨⟨q1, q2⟩, q3⟩; exact ⟨q1, q3⟩
        · rintro ⟨q1, q2⟩; exact ⟨⟨q1, fun e => q2 (h51 e)⟩, q2⟩
      simp only [sX1_isFirstPart (show 1 ≤ d by omega), sX1_isSecondPart (show 1 ≤ d by omega), mj_rI_k, sp_b0]
      -- from the two flags on
      have fin : ∀ u v : Int32, u = sp_b (sp_pa k a) → v = sp_b (sp_pb k b) → rX1_node d (58, [some (.ref 0), some (.int k), some (.int a), some (.int b), some (.int u), none, none, none], [.int v], x) = if 40 < sp_dp nt k a b then some (some (.int (-3)), x) else some (some (.int (nI N)), sp_x1 x N k a b ty (sp_dp nt k a b)) := by
        intro u v hu hv
        subst hu; subst hv
        have h0 : x.1 0 0 = nI N := h.1
        have hn4 : ¬ nI N = 4000 := fun e => by
          have : (nI N).toInt = 4000 := by rw [e]; rfl
          rw [nI_toInt (by omega)] at this; omega
        have ga : ∀ r, sp_pa k a = true → mj_g a 4000 r = r := fun r q => mj_g_k (sp_nd_in h.2.1 (ha q) (Nat.le_refl _)) r
        have gb : ∀ r, sp_pb k b = true → mj_g b 4000 r = r := fun r q => mj_g_k (sp_nd_in h.2.1 (hb q) (Nat.le_refl _)) r
        have n40 : ∀ q : Int32, q ≤ 40 ↔ ¬ 40 < q := fun q => Int32.not_lt.symm
        have e90 : ∀ s0 s1 : Int32, mj_max s0 s1 + 1 = sp_dp nt k a b → rX1_node d (90, [some (.ref 0), some (.int k), some (.int a), some (.int b), some (.int (sp_b (sp_pa k a))), some (.int (sp_b (sp_pb k b))), none, none], [.int s1, .int s0], x) = if 40 < sp_dp nt k a b then some (some (.int (-3)), x) else some (some (.int (nI N)), sp_x1 x N k a b ty (sp_dp nt k a b)) := by
          intro s0 s1 hs
          rw [bX1_node_90, sX1_max (by omega), mj_rI_k]
          simp only [hs, h0, n40]
          by_cases h40 : 40 < sp_dp nt k a b
          · simp only [h40, not_true, if_false, if_true]
          · simp only [h40, not_false_eq_true, if_true, if_false, hn4]
            simp only [mj_g_k (mj_in_nI hN (by omega)), nI_clamp (show N < 2 ^ 31 by omega)]
            rw [hty _ (by funext j; simp [mj_wI_1, h.2.2.2.2.2.1]) (by funext j; simp [mj_wI_1, hM.2.2.1]), mj_rI_k]
            simp only [sp_b0, bX1_node_205]
            unfold sp_x1 sp_xs
            cases q1 : sp_pa k a <;> cases q2 : sp_pb k b
            · simp [sp_b]
            · simp [sp_b, gb _ q2]
            · simp [sp_b, ga _ q1]
            · simp [sp_b, ga _ q1, gb _ q2]
        rw [bX1_node_58, bX1_node_75]
        simp only [sp_b0, bX1_node_75, h.2.2.2.2.2.2.1]
        unfold sp_dp at e90 ⊢
        cases q1 : sp_pa k a <;> cases q2 : sp_pb k b <;> simp only [q1, q2, cond_true, cond_false] at e90 ⊢
        · simp only [if_true, sp_b_f] at e90 ⊢; exact e90 0 0 rfl
        · simp only [Bool.true_eq_false, if_true, if_false, gb _ q2] at e90 ⊢; exact e90 _ _ rfl
        · simp only [Bool.true_eq_false, if_true, if_false, ga _ q1] at e90 ⊢; exact e90 _ _ rfl
        · simp only [Bool.true_eq_false, if_true, if_false, ga _ q1, gb _ q2] at e90 ⊢; exact e90 _ _ rfl
      have e39 : ∀ u : Int32, u = sp_b (sp_pa k a) → rX1_node d (39, [some (.ref 0), some (.int k), some (.int a), some (.int b), none, none, none, none], [.int u], x) = if 40 < sp_dp nt k a b then some (some (.int (-3)), x) else some (some (.int (nI N)), sp_x1 x N k a b ty (sp_dp nt k a b)) := by
        intro u hu
        rw [bX1_node_39, sX1_isSecondPart (by omega), mj_rI_k]
        simp only [sp_b0]
        cases q3 : (sp_hB k && !decide (k = 51))
        · have pb : sp_pb k b = false := by
            cases q : sp_pb k b
            · rfl
            · have := (pbe.mpr q).1; rw [q3] at this; cases this
          rw [if_pos rfl]; exact fin u 0 hu (by rw [pb]; rfl)
        · rw [if_neg (by decide)]
          by_cases q4 : b = -1
          · have pb : sp_pb k b = false := by unfold sp_pb; simp [q4]
            rw [if_pos q4]; exact fin u 0 hu (by rw [pb]; rfl)
          · have pb : sp_pb k b = true := pbe.mp ⟨q3, q4⟩
            rw [if_neg q4]; exact fin u 1 hu (by rw [pb]; rfl)
      by_cases q1 : sp_hA k = true
      · by_cases q2 : a = -1
        · rw [if_neg (by simp [q1]), if_pos q2]; exact e39 0 (by unfold sp_pa; simp [q2, sp_b])
        · rw [if_neg (by simp [q1]), if_neg q2]; exact e39 1 (by unfold sp_pa; simp [q1, q2, sp_b])
      · have q1 : sp_hA k = false := by cases q : sp_hA k <;> simp_all
        rw [if_pos q1]; exact e39 0 (by unfold sp_pa; simp [q1, sp_b])
theorem sp_x1_T {x : mj_X} (h : md_T x nt N) (hN : N < 4000) (k a b t : Int32) (ha : sp_pa k a = true → sp_nd N a = true) (hb : sp_pb k b = true → sp_nd N b = true) : md_T (sp_x1 x N k a b t (sp_dp nt k a b)) (sp_new nt N k a b t) (N + 1) := by
  have na : sp_pa k a = true → a.toNatClampNeg ≠ N := fun q => by
    have := (sp_nd_iff h.2.1 a).mp (ha q)
    show a.toInt.toNat ≠ N; omega
  have nb : sp_pb k b = true → b.toNatClampNeg ≠ N := fun q => by
    have := (sp_nd_iff h.2.1 b).mp (hb q)
    show b.toInt.toNat ≠ N; omega
  obtain ⟨-, -, e0, e1, e2, e3, e4, e5⟩ := h
  unfold sp_x1
  refine ⟨?_, by omega, ?_, ?_, ?_, ?_, ?_, ?_⟩
  · simp only [sp_xs_0 _ _ _ _ _ _ (show (0 : Nat) ≠ 7 by decide)]; simp [mj_wI_1, nI_1]
  · funext i; unfold sp_new; simp only [sp_xs_0 _ _ _ _ _ _ (show (2 : Nat) ≠ 7 by decide), mj_wI_1, e0]; grind
  · funext i; unfold sp_new; simp only [sp_xs_0 _ _ _ _ _ _ (show (3 : Nat) ≠ 7 by decide), mj_wI_1, e1]; grind
  · funext i; unfold sp_new; simp only [sp_xs_0 _ _ _ _ _ _ (show (4 : Nat) ≠ 7 by decide), mj_wI_1, e2]; grind
  · funext i; unfold sp_new; simp only [sp_xs_0 _ _ _ _ _ _ (show (5 : Nat) ≠ 7 by decide), mj_wI_1, e3]; grind
  · funext i; unfold sp_new; simp only [sp_xs_0 _ _ _ _ _ _ (show (6 : Nat) ≠ 7 by decide), mj_wI_1, e4]; grind
  · funext i; unfold sp_new sp_xs
    cases q1 : sp_pa k a <;> cases q2 : sp_pb k b <;> simp only [q1, q2, cond_true, cond_false, mj_wI_1, e5] <;> grind
theorem sp_x1_kp {x : mj_X} (k a b t dp : Int32) : mj_kp sp_P1 sp_F x (sp_x1 x N k a b t dp) := by
  have h0 : mj_kp sp_P1 sp_F x (mj_wI (mj_wI (mj_wI (mj_wI (mj_wI (mj_wI (mj_wI x 0 0 (nI N + 1)) 2 N k) 3 N a) 4 N b) 5 N t) 6 N dp) 7 N 0) := (((((((mj_kp.rf).I _ rfl).I _ rfl).I _ rfl).I _ rfl).I _ rfl).I _ rfl).I _ rfl
  unfold sp_x1
  generalize mj_wI (mj_wI (mj_wI (mj_wI (mj_wI (mj_wI (mj_wI x 0 0 (nI N + 1)) 2 N k) 3 N a) 4 N b) 5 N t) 6 N dp) 7 N 0 = z at h0
  have h1 : mj_kp sp_P1 sp_F x (sp_xs (sp_pa k a) z 7 a) := by unfold sp_xs; cases sp_pa k a; exact h0; exact mj_kp.I h0 _ rfl
  generalize sp_xs (sp_pa k a) z 7 a = w at h1
  unfold sp_xs; cases sp_pb k b; exact h1; exact mj_kp.I h1 _ rfl
end SpNode1
