theorem sp_isK_in (k : Int32) (h : sp_isK k = true) : k ∈ ([1, 2, 3, 4, 5, 6, 7, 8, 9, 10, 11, 12, 13, 14, 15, 16, 17, 18, 19, 20, 21, 22, 23, 24, 25, 26, 27, 28, 29, 30, 31, 32, 33, 34, 35, 36, 37, 38, 39, 40, 41, 42, 43, 44, 45, 46, 47, 48, 49, 51, 60, 61, 62, 63, 64, 65, 66, 67, 68, 69, 70, 71, 72, 73, 74, 75, 76, 77, 78, 79, 80, 81, 82, 83, 84, 85, 86] : List Int32) := by
  have hk : 1 ≤ k.toInt ∧ k.toInt < 87 := by
    unfold sp_isK sp_i at h
    simp only [Bool.or_eq_true, Bool.and_eq_true, decide_eq_true_eq, Int32.le_iff_toInt_le] at h
    simp at h
    rcases h with (h | h) | h
    · omega
    · rw [h]; decide
    · omega
  obtain ⟨j, hj, e⟩ : ∃ j : Nat, j < 87 ∧ k = Int32.ofInt (j : Int) := ⟨k.toInt.toNat, by omega, by rw [Int.toNat_of_nonneg (by omega), Int32.ofInt_toInt]⟩
  subst e
  have key : ∀ j : Fin 87, sp_isK (Int32.ofInt (j.val : Int)) = true → Int32.ofInt (j.val : Int) ∈ ([1, 2, 3, 4, 5, 6, 7, 8, 9, 10, 11, 12, 13, 14, 15, 16, 17, 18, 19, 20, 21, 22, 23, 24, 25, 26, 27, 28, 29, 30, 31, 32, 33, 34, 35, 36, 37, 38, 39, 40, 41, 42, 43, 44, 45, 46, 47, 48, 49, 51, 60, 61, 62, 63, 64, 65, 66, 67, 68, 69, 70, 71, 72, 73, 74, 75, 76, 77, 78, 79, 80, 81, 82, 83, 84, 85, 86] : List Int32) := by decide +kernel
  exact key ⟨j, hj⟩ h
theorem sX0_typeOf {d : Nat} (hd : 6 ≤ d) {x : mj_X} {nt : sp_NT} {N M : Nat} {res par : Nat → Int32} (h : cw_T x nt N) (hM : cw_M x M res par) (hW : sp_W nt N M par) (k a b : Int32) (hk : sp_isK k = true) : kX0 d 3 [.ref 0, .int k, .int a, .int b] x = some (some (.int (sp_ty nt (sp_nd N) (sp_fr nt N) M res par k a b)), x) := by
  obtain ⟨d, rfl⟩ : ∃ c, d = c + 1 := ⟨d - 1, by omega⟩
  have hd : 5 ≤ d := by omega
  have hin := sp_isK_in k hk
  simp only [List.mem_cons, List.not_mem_nil, or_false] at hin
  rcases hin with rfl | rfl | rfl | rfl | rfl | rfl | rfl | rfl | rfl | rfl | rfl | rfl | rfl | rfl | rfl | rfl | rfl | rfl | rfl | rfl | rfl | rfl | rfl | rfl | rfl | rfl | rfl | rfl | rfl | rfl | rfl | rfl | rfl | rfl | rfl | rfl | rfl | rfl | rfl | rfl | rfl | rfl | rfl | rfl | rfl | rfl | rfl | rfl | rfl | rfl | rfl | rfl | rfl | rfl | rfl | rfl | rfl | rfl | rfl | rfl | rfl | rfl | rfl | rfl | rfl | rfl | rfl | rfl | rfl | rfl | rfl | rfl | rfl | rfl | rfl | rfl | rfl
  · exact tX0_t1 hd h hM hW a b
  · exact tX0_t2 hd h hM hW a b
  · exact tX0_t3 hd h hM hW a b
  · exact tX0_t4 hd h hM hW a b
  · exact tX0_t5 hd h hM hW a b
  · exact tX0_t6 hd h hM hW a b
  · exact tX0_t7 hd h hM hW a b
  · exact tX0_t8 hd h hM hW a b
  · exact tX0_t9 hd h hM hW a b
  · rw [eX0_typeOf, wX0_typeOf_10_10 _ _ _ _ _ _ rfl, wX0_typeOf_10_10 _ _ _ _ _ _ rfl]; simp only [tX0_td hd h hW (res := res) 10 a b _ (by decide), ite_self]
  · rw [eX0_typeOf, wX0_typeOf_10_11 _ _ _ _ _ _ rfl, wX0_typeOf_10_11 _ _ _ _ _ _ rfl]; simp only [tX0_td hd h hW (res := res) 11 a b _ (by decide), ite_self]
  · rw [eX0_typeOf, wX0_typeOf_10_12 _ _ _ _ _ _ rfl, wX0_typeOf_10_12 _ _ _ _ _ _ rfl]; simp only [tX0_td hd h hW (res := res) 12 a b _ (by decide), ite_self]
  · rw [eX0_typeOf, wX0_typeOf_10_13 _ _ _ _ _ _ rfl, wX0_typeOf_10_13 _ _ _ _ _ _ rfl]; simp only [tX0_td hd h hW (res := res) 13 a b _ (by decide), ite_self]
  · rw [eX0_typeOf, wX0_typeOf_10_14 _ _ _ _ _ _ rfl, wX0_typeOf_10_14 _ _ _ _ _ _ rfl]; simp only [tX0_td hd h hW (res := res) 14 a b _ (by decide), ite_self]
  · rw [eX0_typeOf, wX0_typeOf_10_15 _ _ _ _ _ _ rfl, wX0_typeOf_10_15 _ _ _ _ _ _ rfl]; simp only [tX0_td hd h hW (res := res) 15 a b _ (by decide), ite_self]
  · rw [eX0_typeOf, wX0_typeOf_10_16 _ _ _ _ _ _ rfl, wX0_typeOf_10_16 _ _ _ _ _ _ rfl]; simp only [tX0_td hd h hW (res := res) 16 a b _ (by decide), ite_self]
  · rw [eX0_typeOf, wX0_typeOf_10_17 _ _ _ _ _ _ rfl, wX0_typeOf_10_17 _ _ _ _ _ _ rfl]; simp only [tX0_td hd h hW (res := res) 17 a b _ (by decide), ite_self]
  · rw [eX0_typeOf, wX0_typeOf_10_18 _ _ _ _ _ _ rfl, wX0_typeOf_10_18 _ _ _ _ _ _ rfl]; simp only [tX0_td hd h hW (res := res) 18 a b _ (by decide), ite_self]
  · rw [eX0_typeOf, wX0_typeOf_10_19 _ _ _ _ _ _ rfl, wX0_typeOf_10_19 _ _ _ _ _ _ rfl]; simp only [tX0_td hd h hW (res := res) 19 a b _ (by decide), ite_self]
  · rw [eX0_typeOf, wX0_typeOf_10_20 _ _ _ _ _ _ rfl, wX0_typeOf_10_20 _ _ _ _ _ _ rfl]; simp only [tX0_td hd h hW (res := res) 20 a b _ (by decide), ite_self]
  · exact tX0_t21 hd h hM hW a b
  · exact tX0_t22 hd h hM hW a b
  · rw [eX0_typeOf, wX0_typeOf_10_23 _ _ _ _ _ _ rfl, wX0_typeOf_10_23 _ _ _ _ _ _ rfl]; simp only [tX0_td hd h hW (res := res) 23 a b _ (by decide), ite_self]
  · rw [eX0_typeOf, wX0_typeOf_10_24 _ _ _ _ _ _ rfl, wX0_typeOf_10_24 _ _ _ _ _ _ rfl]; simp only [tX0_td hd h hW (res := res) 24 a b _ (by decide), ite_self]
  · rw [eX0_typeOf, wX0_typeOf_10_25 _ _ _ _ _ _ rfl, wX0_typeOf_10_25 _ _ _ _ _ _ rfl]; simp only [tX0_td hd h hW (res := res) 25 a b _ (by decide), ite_self]
  · rw [eX0_typeOf, wX0_typeOf_10_26 _ _ _ _ _ _ rfl, wX0_typeOf_10_26 _ _ _ _ _ _ rfl]; simp only [tX0_td hd h hW (res := res) 26 a b _ (by decide), ite_self]
  · rw [eX0_typeOf, wX0_typeOf_10_27 _ _ _ _ _ _ rfl, wX0_typeOf_10_27 _ _ _ _ _ _ rfl]; simp only [tX0_td hd h hW (res := res) 27 a b _ (by decide), ite_self]
  · rw [eX0_typeOf, wX0_typeOf_10_28 _ _ _ _ _ _ rfl, wX0_typeOf_10_28 _ _ _ _ _ _ rfl]; simp only [tX0_td hd h hW (res := res) 28 a b _ (by decide), ite_self]
  · exact tX0_t29 hd h hM hW a b
  · exact tX0_t30 hd h hM hW a b
  · exact tX0_t31 hd h hM hW a b
  · exact tX0_t32 hd h hM hW a b
  · exact tX0_t33 hd h hM hW a b
  · exact tX0_t34 hd h hM hW a b
  · rw [eX0_typeOf, wX0_typeOf_10_35 _ _ _ _ _ _ rfl, wX0_typeOf_10_35 _ _ _ _ _ _ rfl]; simp only [tX0_td hd h hW (res := res) 35 a b _ (by decide), ite_self]
  · rw [eX0_typeOf, wX0_typeOf_10_36 _ _ _ _ _ _ rfl, wX0_typeOf_10_36 _ _ _ _ _ _ rfl]; simp only [tX0_td hd h hW (res := res) 36 a b _ (by decide), ite_self]
  · rw [eX0_typeOf, wX0_typeOf_10_37 _ _ _ _ _ _ rfl, wX0_typeOf_10_37 _ _ _ _ _ _ rfl]; simp only [tX0_td hd h hW (res := res) 37 a b _ (by decide), ite_self]
  · rw [eX0_typeOf, wX0_typeOf_10_38 _ _ _ _ _ _ rfl, wX0_typeOf_10_38 _ _ _ _ _ _ rfl]; simp only [tX0_td hd h hW (res := res) 38 a b _ (by decide), ite_self]
  · rw [eX0_typeOf, wX0_typeOf_10_39 _ _ _ _ _ _ rfl, wX0_typeOf_10_39 _ _ _ _ _ _ rfl]; simp only [tX0_td hd h hW (res := res) 39 a b _ (by decide), ite_self]
  · rw [eX0_typeOf, wX0_typeOf_10_40 _ _ _ _ _ _ rfl, wX0_typeOf_10_40 _ _ _ _ _ _ rfl]; simp only [tX0_td hd h hW (res := res) 40 a b _ (by decide), ite_self]
  · rw [eX0_typeOf, wX0_typeOf_10_41 _ _ _ _ _ _ rfl, wX0_typeOf_10_41 _ _ _ _ _ _ rfl]; simp only [tX0_td hd h hW (res := res) 41 a b _ (by decide), ite_self]
  · rw [eX0_typeOf, wX0_typeOf_10_42 _ _ _ _ _ _ rfl, wX0_typeOf_10_42 _ _ _ _ _ _ rfl]; simp only [tX0_td hd h hW (res := res) 42 a b _ (by decide), ite_self]
  · rw [eX0_typeOf, wX0_typeOf_10_43 _ _ _ _ _ _ rfl, wX0_typeOf_10_43 _ _ _ _ _ _ rfl]; simp only [tX0_td hd h hW (res := res) 43 a b _ (by decide), ite_self]
  · rw [eX0_typeOf, wX0_typeOf_10_44 _ _ _ _ _ _ rfl, wX0_typeOf_10_44 _ _ _ _ _ _ rfl]; simp only [tX0_td hd h hW (res := res) 44 a b _ (by decide), ite_self]
  · rw [eX0_typeOf, wX0_typeOf_10_45 _ _ _ _ _ _ rfl, wX0_typeOf_10_45 _ _ _ _ _ _ rfl]; simp only [tX0_td hd h hW (res := res) 45 a b _ (by decide), ite_self]
  · exact tX0_t46 hd h hM hW a b
  · exact tX0_t47 hd h hM hW a b
  · exact tX0_t48 hd h hM hW a b
  · exact tX0_t49 hd h hM hW a b
  · exact tX0_t51 hd h hM hW a b
  · rw [eX0_typeOf, wX0_typeOf_10_60 _ _ _ _ _ _ rfl, wX0_typeOf_10_60 _ _ _ _ _ _ rfl]; simp only [tX0_td hd h hW (res := res) 60 a b _ (by decide), ite_self]
  · rw [eX0_typeOf, wX0_typeOf_10_61 _ _ _ _ _ _ rfl, wX0_typeOf_10_61 _ _ _ _ _ _ rfl]; simp only [tX0_td hd h hW (res := res) 61 a b _ (by decide), ite_self]
  · rw [eX0_typeOf, wX0_typeOf_10_62 _ _ _ _ _ _ rfl, wX0_typeOf_10_62 _ _ _ _ _ _ rfl]; simp only [tX0_td hd h hW (res := res) 62 a b _ (by decide), ite_self]
  · rw [eX0_typeOf, wX0_typeOf_10_63 _ _ _ _ _ _ rfl, wX0_typeOf_10_63 _ _ _ _ _ _ rfl]; simp only [tX0_td hd h hW (res := res) 63 a b _ (by decide), ite_self]
  · rw [eX0_typeOf, wX0_typeOf_10_64 _ _ _ _ _ _ rfl, wX0_typeOf_10_64 _ _ _ _ _ _ rfl]; simp only [tX0_td hd h hW (res := res) 64 a b _ (by decide), ite_self]
  · rw [eX0_typeOf, wX0_typeOf_10_65 _ _ _ _ _ _ rfl, wX0_typeOf_10_65 _ _ _ _ _ _ rfl]; simp only [tX0_td hd h hW (res := res) 65 a b _ (by decide), ite_self]
  · rw [eX0_typeOf, wX0_typeOf_10_66 _ _ _ _ _ _ rfl, wX0_typeOf_10_66 _ _ _ _ _ _ rfl]; simp only [tX0_td hd h hW (res := res) 66 a b _ (by decide), ite_self]
  · rw [eX0_typeOf, wX0_typeOf_10_67 _ _ _ _ _ _ rfl, wX0_typeOf_10_67 _ _ _ _ _ _ rfl]; simp only [tX0_td hd h hW (res := res) 67 a b _ (by decide), ite_self]
  · rw [eX0_typeOf, wX0_typeOf_10_68 _ _ _ _ _ _ rfl, wX0_typeOf_10_68 _ _ _ _ _ _ rfl]; simp only [tX0_td hd h hW (res := res) 68 a b _ (by decide), ite_self]
  · rw [eX0_typeOf, wX0_typeOf_10_69 _ _ _ _ _ _ rfl, wX0_typeOf_10_69 _ _ _ _ _ _ rfl]; simp only [tX0_td hd h hW (res := res) 69 a b _ (by decide), ite_self]
  · rw [eX0_typeOf, wX0_typeOf_10_70 _ _ _ _ _ _ rfl, wX0_typeOf_10_70 _ _ _ _ _ _ rfl]; simp only [tX0_td hd h hW (res := res) 70 a b _ (by decide), ite_self]
  · rw [eX0_typeOf, wX0_typeOf_10_71 _ _ _ _ _ _ rfl, wX0_typeOf_10_71 _ _ _ _ _ _ rfl]; simp only [tX0_td hd h hW (res := res) 71 a b _ (by decide), ite_self]
  · rw [eX0_typeOf, wX0_typeOf_10_72 _ _ _ _ _ _ rfl, wX0_typeOf_10_72 _ _ _ _ _ _ rfl]; simp only [tX0_td hd h hW (res := res) 72 a b _ (by decide), ite_self]
  · rw [eX0_typeOf, wX0_typeOf_10_73 _ _ _ _ _ _ rfl, wX0_typeOf_10_73 _ _ _ _ _ _ rfl]; simp only [tX0_td hd h hW (res := res) 73 a b _ (by decide), ite_self]
  · rw [eX0_typeOf, wX0_typeOf_10_74 _ _ _ _ _ _ rfl, wX0_typeOf_10_74 _ _ _ _ _ _ rfl]; simp only [tX0_td hd h hW (res := res) 74 a b _ (by decide), ite_self]
  · rw [eX0_typeOf, wX0_typeOf_10_75 _ _ _ _ _ _ rfl, wX0_typeOf_10_75 _ _ _ _ _ _ rfl]; simp only [tX0_td hd h hW (res := res) 75 a b _ (by decide), ite_self]
  · rw [eX0_typeOf, wX0_typeOf_10_76 _ _ _ _ _ _ rfl, wX0_typeOf_10_76 _ _ _ _ _ _ rfl]; simp only [tX0_td hd h hW (res := res) 76 a b _ (by decide), ite_self]
  · rw [eX0_typeOf, wX0_typeOf_10_77 _ _ _ _ _ _ rfl, wX0_typeOf_10_77 _ _ _ _ _ _ rfl]; simp only [tX0_td hd h hW (res := res) 77 a b _ (by decide), ite_self]
  · rw [eX0_typeOf, wX0_typeOf_10_78 _ _ _ _ _ _ rfl, wX0_typeOf_10_78 _ _ _ _ _ _ rfl]; simp only [tX0_td hd h hW (res := res) 78 a b _ (by decide), ite_self]
  · rw [eX0_typeOf, wX0_typeOf_10_79 _ _ _ _ _ _ rfl, wX0_typeOf_10_79 _ _ _ _ _ _ rfl]; simp only [tX0_td hd h hW (res := res) 79 a b _ (by decide), ite_self]
  · rw [eX0_typeOf, wX0_typeOf_10_80 _ _ _ _ _ _ rfl, wX0_typeOf_10_80 _ _ _ _ _ _ rfl]; simp only [tX0_td hd h hW (res := res) 80 a b _ (by decide), ite_self]
  · rw [eX0_typeOf, wX0_typeOf_10_81 _ _ _ _ _ _ rfl, wX0_typeOf_10_81 _ _ _ _ _ _ rfl]; simp only [tX0_td hd h hW (res := res) 81 a b _ (by decide), ite_self]
  · rw [eX0_typeOf, wX0_typeOf_10_82 _ _ _ _ _ _ rfl, wX0_typeOf_10_82 _ _ _ _ _ _ rfl]; simp only [tX0_td hd h hW (res := res) 82 a b _ (by decide), ite_self]
  · rw [eX0_typeOf, wX0_typeOf_10_83 _ _ _ _ _ _ rfl, wX0_typeOf_10_83 _ _ _ _ _ _ rfl]; simp only [tX0_td hd h hW (res := res) 83 a b _ (by decide), ite_self]
  · rw [eX0_typeOf, wX0_typeOf_10_84 _ _ _ _ _ _ rfl, wX0_typeOf_10_84 _ _ _ _ _ _ rfl]; simp only [tX0_td hd h hW (res := res) 84 a b _ (by decide), ite_self]
  · rw [eX0_typeOf, wX0_typeOf_10_85 _ _ _ _ _ _ rfl, wX0_typeOf_10_85 _ _ _ _ _ _ rfl]; simp only [tX0_td hd h hW (res := res) 85 a b _ (by decide), ite_self]
  · exact tX0_t86 hd h hM hW a b
theorem sX1_isRight {d : Nat} (hd : 6 ≤ d) {y : mj_X} {nt : sp_NT} {N M : Nat} {res par : Nat → Int32} (h : md_T y nt N) (hM : md_M y M res par) (hW : sp_W nt N M par) (hR : ∀ m, m < M → 0 ≤ res m) (k a b : Int32) (hk : sp_isK k = true) : kX1 d 5 [.ref 0, .int k, .int a, .int b] y = some (some (.int (sp_b (!decide (sp_ty nt (sp_nd N) (sp_fr nt N) M res par k a b = -1)))), y) := by
  obtain ⟨d, rfl⟩ : ∃ c, d = c + 1 := ⟨d - 1, by omega⟩
  have hd : 5 ≤ d := by omega
  have hin := sp_isK_in k hk
  simp only [List.mem_cons, List.not_mem_nil, or_false] at hin
  rcases hin with rfl | rfl | rfl | rfl | rfl | rfl | rfl | rfl | rfl | rfl | rfl | rfl | rfl | rfl | rfl | rfl | rfl | rfl | rfl | rfl | rfl | rfl | rfl | rfl | rfl | rfl | rfl | rfl | rfl | rfl | rfl | rfl | rfl | rfl | rfl | rfl | rfl | rfl | rfl | rfl | rfl | rfl | rfl | rfl | rfl | rfl | rfl | rfl | rfl | rfl | rfl | rfl | rfl | rfl | rfl | rfl | rfl | rfl | rfl | rfl | rfl | rfl | rfl | rfl | rfl | rfl | rfl | rfl | rfl | rfl | rfl | rfl | rfl | rfl | rfl | rfl | rfl
  · exact tX1_r1 hd h hM hW hR a b
  · exact tX1_r2 hd h hM hW hR a b
  · exact tX1_r3 hd h hM hW hR a b
  · exact tX1_r4 hd h hM hW hR a b
  · exact tX1_r5 hd h hM hW hR a b
  · exact tX1_r6 hd h hM hW hR a b
  · exact tX1_r7 hd h hM hW hR a b
  · exact tX1_r8 hd h hM hW hR a b
  · exact tX1_r9 hd h hM hW hR a b
  · exact tX1_r10 hd h hM hW hR a b
  · exact tX1_r11 hd h hM hW hR a b
  · exact tX1_r12 hd h hM hW hR a b
  · exact tX1_r13 hd h hM hW hR a b
  · exact tX1_r14 hd h hM hW hR a b
  · exact tX1_r15 hd h hM hW hR a b
  · exact tX1_r16 hd h hM hW hR a b
  · exact tX1_r17 hd h hM hW hR a b
  · exact tX1_r18 hd h hM hW hR a b
  · exact tX1_r19 hd h hM hW hR a b
  · exact tX1_r20 hd h hM hW hR a b
  · exact tX1_r21 hd h hM hW hR a b
  · exact tX1_r22 hd h hM hW hR a b
  · exact tX1_r23 hd h hM hW hR a b
  · exact tX1_r24 hd h hM hW hR a b
  · exact tX1_r25 hd h hM hW hR a b
  · exact tX1_r26 hd h hM hW hR a b
  · exact tX1_r27 hd h hM hW hR a b
  · exact tX1_r28 hd h hM hW hR a b
  · exact tX1_r29 hd h hM hW hR a b
  · exact tX1_r30 hd h hM hW hR a b
  · exact tX1_r31 hd h hM hW hR a b
  · exact tX1_r32 hd h hM hW hR a b
  · exact tX1_r33 hd h hM hW hR a b
  · exact tX1_r34 hd h hM hW hR a b
  · exact tX1_r35 hd h hM hW hR a b
  · exact tX1_r36 hd h hM hW hR a b
  · exact tX1_r37 hd h hM hW hR a b
  · exact tX1_r38 hd h hM hW hR a b
  · exact tX1_r39 hd h hM hW hR a b
  · exact tX1_r40 hd h hM hW hR a b
  · exact tX1_r41 hd h hM hW hR a b
  · exact tX1_r42 hd h hM hW hR a b
  · exact tX1_r43 hd h hM hW hR a b
  · exact tX1_r44 hd h hM hW hR a b
  · exact tX1_r45 hd h hM hW hR a b
  · exact tX1_r46 hd h hM hW hR a b
  · exact tX1_r47 hd h hM hW hR a b
  · exact tX1_r48 hd h hM hW hR a b
  · exact tX1_r49 hd h hM hW hR a b
  · exact tX1_r51 hd h hM hW hR a b
  · exact tX1_r60 hd h hM hW hR a b
  · exact tX1_r61 hd h hM hW hR a b
  · exact tX1_r62 hd h hM hW hR a b
  · exact tX1_r63 hd h hM hW hR a b
  · exact tX1_r64 hd h hM hW hR a b
  · exact tX1_r65 hd h hM hW hR a b
  · exact tX1_r66 hd h hM hW hR a b
  · exact tX1_r67 hd h hM hW hR a b
  · exact tX1_r68 hd h hM hW hR a b
  · exact tX1_r69 hd h hM hW hR a b
  · exact tX1_r70 hd h hM hW hR a b
  · exact tX1_r71 hd h hM hW hR a b
  · exact tX1_r72 hd h hM hW hR a b
  · exact tX1_r73 hd h hM hW hR a b
  · exact tX1_r74 hd h hM hW hR a b
  · exact tX1_r75 hd h hM hW hR a b
  · exact tX1_r76 hd h hM hW hR a b
  · exact tX1_r77 hd h hM hW hR a b
  · exact tX1_r78 hd h hM hW hR a b
  · exact tX1_r79 hd h hM hW hR a b
  · exact tX1_r80 hd h hM hW hR a b
  · exact tX1_r81 hd h hM hW hR a b
  · exact tX1_r82 hd h hM hW hR a b
  · exact tX1_r83 hd h hM hW hR a b
  · exact tX1_r84 hd h hM hW hR a b
  · exact tX1_r85 hd h hM hW hR a b
  · exact tX1_r86 hd h hM hW hR a b
theorem tX1_y1 {d : Nat} (hd : 1 ≤ d) {y : mj_X} {nt : sp_NT} {N M : Nat} {res par : Nat → Int32} (hN : N ≤ 4000) (h5 : y.1 5 = nt 3) (h9 : y.1 9 = res) (hM40 : M ≤ 40) (hW : sp_W nt N M par) (a b : Int32) (hr : ¬ sp_ty nt (sp_nd N) (sp_fr nt N) M res par 1 a b = -1) : kX1 (d + 1) 20 [.ref 0, .int 1, .int a, .int b] y = some (some (.int (sp_ty nt (sp_nd N) (sp_fr nt N) M res par 1 a b)), y) := by
  rw [wX1_typeOf_0_1 _ _ _ _ _ rfl]
  have hg : ∀ (k q : Int32) r, sp_fk nt (sp_fr nt N) k q = true → mj_g k 4000 r = r := fun k q r hq => mj_g_k (sp_nd_in hN (sp_fk_nd hq) (Nat.le_refl _)) r
  have hv : ∀ (k : Int32) r, ¬ sp_val nt (sp_fr nt N) k = 0 → mj_g k 4000 r = r := fun k r hq => mj_g_k (sp_nd_in hN (sp_val_nd hq) (Nat.le_refl _)) r
  have ht : ∀ (k : Int32) r, ¬ sp_tg nt (sp_fr nt N) k = 0 → mj_g k 4000 r = r := fun k r hq => mj_g_k (sp_nd_in hN (sp_tg_nd hq) (Nat.le_refl _)) r
  have hw : ∀ (k : Int32) r, sp_nd N k = true → mj_g k 4000 r = r := fun k r hq => mj_g_k (sp_nd_in hN hq (Nat.le_refl _)) r
  have f4 : ∀ k, ¬ sp_val nt (sp_fr nt N) k = 0 → nt 3 k.toNatClampNeg = sp_val nt (sp_fr nt N) k := fun k => sp_val_v
  have f6 : ∀ k, ¬ sp_tg nt (sp_fr nt N) k = 0 → nt 3 k.toNatClampNeg = sp_tg nt (sp_fr nt N) k ∧ sp_tg nt (sp_fr nt N) k = sp_val nt (sp_fr nt N) k := fun k => sp_tg_v hW.2.2
  have hc : ∀ (g m : Int32) r, sp_call nt (sp_fr nt N) M par m g = true → mj_g m 40 r = r := fun g m r hq => mj_g_k (sp_call_in hM40 hq) r
  simp only [bX1_typeOf_220, bX1_typeOf_222, bX1_typeOf_224, bX1_typeOf_234, bX1_typeOf_245, bX1_typeOf_247, bX1_typeOf_254, bX1_typeOf_261, bX1_typeOf_277, sX1_elementOf hd, mj_rI_k, h5, h9]
  simp only [sp_ty] at hr ⊢
  simp at hr ⊢ <;> grind [sp_b, sp_isv, sp_i, sp_bin, sp_el]
theorem tX1_y2 {d : Nat} (hd : 1 ≤ d) {y : mj_X} {nt : sp_NT} {N M : Nat} {res par : Nat → Int32} (hN : N ≤ 4000) (h5 : y.1 5 = nt 3) (h9 : y.1 9 = res) (hM40 : M ≤ 40) (hW : sp_W nt N M par) (a b : Int32) (hr : ¬ sp_ty nt (sp_nd N) (sp_fr nt N) M res par 2 a b = -1) : kX1 (d + 1) 20 [.ref 0, .int 2, .int a, .int b] y = some (some (.int (sp_ty nt (sp_nd N) (sp_fr nt N) M res par 2 a b)), y) := by
  rw [wX1_typeOf_0_2 _ _ _ _ _ rfl]
  have hg : ∀ (k q : Int32) r, sp_fk nt (sp_fr nt N) k q = true → mj_g k 4000 r = r := fun k q r hq => mj_g_k (sp_nd_in hN (sp_fk_nd hq) (Nat.le_refl _)) r
  have hv : ∀ (k : Int32) r, ¬ sp_val nt (sp_fr nt N) k = 0 → mj_g k 4000 r = r := fun k r hq => mj_g_k (sp_nd_in hN (sp_val_nd hq) (Nat.le_refl _)) r
  have ht : ∀ (k : Int32) r, ¬ sp_tg nt (sp_fr nt N) k = 0 → mj_g k 4000 r = r := fun k r hq => mj_g_k (sp_nd_in hN (sp_tg_nd hq) (Nat.le_refl _)) r
  have hw : ∀ (k : Int32) r, sp_nd N k = true → mj_g k 4000 r = r := fun k r hq => mj_g_k (sp_nd_in hN hq (Nat.le_refl _)) r
  have f4 : ∀ k, ¬ sp_val nt (sp_fr nt N) k = 0 → nt 3 k.toNatClampNeg = sp_val nt (sp_fr nt N) k := fun k => sp_val_v
  have f6 : ∀ k, ¬ sp_tg nt (sp_fr nt N) k = 0 → nt 3 k.toNatClampNeg = sp_tg nt (sp_fr nt N) k ∧ sp_tg nt (sp_fr nt N) k = sp_val nt (sp_fr nt N) k := fun k => sp_tg_v hW.2.2
  have hc : ∀ (g m : Int32) r, sp_call nt (sp_fr nt N) M par m g = true → mj_g m 40 r = r := fun g m r hq => mj_g_k (sp_call_in hM40 hq) r
  simp only [bX1_typeOf_220, bX1_typeOf_222, bX1_typeOf_224, bX1_typeOf_234, bX1_typeOf_245, bX1_typeOf_247, bX1_typeOf_254, bX1_typeOf_261, bX1_typeOf_277, sX1_elementOf hd, mj_rI_k, h5, h9]
  simp only [sp_ty] at hr ⊢
  simp at hr ⊢ <;> grind [sp_b, sp_isv, sp_i, sp_bin, sp_el]
theorem tX1_y3 {d : Nat} (hd : 1 ≤ d) {y : mj_X} {nt : sp_NT} {N M : Nat} {res par : Nat → Int32} (hN : N ≤ 4000) (h5 : y.1 5 = nt 3) (h9 : y.1 9 = res) (hM40 : M ≤ 40) (hW : sp_W nt N M par) (a b : Int32) (hr : ¬ sp_ty nt (sp_nd N) (sp_fr nt N) M res par 3 a b = -1) : kX1 (d + 1) 20 [.ref 0, .int 3, .int a, .int b] y = some (some (.int (sp_ty nt (sp_nd N) (sp_fr nt N) M res par 3 a b)), y) := by
  rw [wX1_typeOf_0_3 _ _ _ _ _ rfl]
  have hg : ∀ (k q : Int32) r, sp_fk nt (sp_fr nt N) k q = true → mj_g k 4000 r = r := fun k q r hq => mj_g_k (sp_nd_in hN (sp_fk_nd hq) (Nat.le_refl _)) r
  have hv : ∀ (k : Int32) r, ¬ sp_val nt (sp_fr nt N) k = 0 → mj_g k 4000 r = r := fun k r hq => mj_g_k (sp_nd_in hN (sp_val_nd hq) (Nat.le_refl _)) r
  have ht : ∀ (k : Int32) r, ¬ sp_tg nt (sp_fr nt N) k = 0 → mj_g k 4000 r = r := fun k r hq => mj_g_k (sp_nd_in hN (sp_tg_nd hq) (Nat.le_refl _)) r
  have hw : ∀ (k : Int32) r, sp_nd N k = true → mj_g k 4000 r = r := fun k r hq => mj_g_k (sp_nd_in hN hq (Nat.le_refl _)) r
  have f4 : ∀ k, ¬ sp_val nt (sp_fr nt N) k = 0 → nt 3 k.toNatClampNeg = sp_val nt (sp_fr nt N) k := fun k => sp_val_v
  have f6 : ∀ k, ¬ sp_tg nt (sp_fr nt N) k = 0 → nt 3 k.toNatClampNeg = sp_tg nt (sp_fr nt N) k ∧ sp_tg nt (sp_fr nt N) k = sp_val nt (sp_fr nt N) k := fun k => sp_tg_v hW.2.2
  have hc : ∀ (g m : Int32) r, sp_call nt (sp_fr nt N) M par m g = true → mj_g m 40 r = r := fun g m r hq => mj_g_k (sp_call_in hM40 hq) r
  simp only [bX1_typeOf_220, bX1_typeOf_222, bX1_typeOf_224, bX1_typeOf_234, bX1_typeOf_245, bX1_typeOf_247, bX1_typeOf_254, bX1_typeOf_261, bX1_typeOf_277, sX1_elementOf hd, mj_rI_k, h5, h9]
  simp only [sp_ty] at hr ⊢
  simp at hr ⊢ <;> grind [sp_b, sp_isv, sp_i, sp_bin, sp_el]
theorem tX1_y4 {d : Nat} (hd : 1 ≤ d) {y : mj_X} {nt : sp_NT} {N M : Nat} {res par : Nat → Int32} (hN : N ≤ 4000) (h5 : y.1 5 = nt 3) (h9 : y.1 9 = res) (hM40 : M ≤ 40) (hW : sp_W nt N M par) (a b : Int32) (hr : ¬ sp_ty nt (sp_nd N) (sp_fr nt N) M res par 4 a b = -1) : kX1 (d + 1) 20 [.ref 0, .int 4, .int a, .int b] y = some (some (.int (sp_ty nt (sp_nd N) (sp_fr nt N) M res par 4 a b)), y) := by
  rw [wX1_typeOf_0_4 _ _ _ _ _ rfl]
  have hg : ∀ (k q : Int32) r, sp_fk nt (sp_fr nt N) k q = true → mj_g k 4000 r = r := fun k q r hq => mj_g_k (sp_nd_in hN (sp_fk_nd hq) (Nat.le_refl _)) r
  have hv : ∀ (k : Int32) r, ¬ sp_val nt (sp_fr nt N) k = 0 → mj_g k 4000 r = r := fun k r hq => mj_g_k (sp_nd_in hN (sp_val_nd hq) (Nat.le_refl _)) r
  have ht : ∀ (k : Int32) r, ¬ sp_tg nt (sp_fr nt N) k = 0 → mj_g k 4000 r = r := fun k r hq => mj_g_k (sp_nd_in hN (sp_tg_nd hq) (Nat.le_refl _)) r
  have hw : ∀ (k : Int32) r, sp_nd N k = true → mj_g k 4000 r = r := fun k r hq => mj_g_k (sp_nd_in hN hq (Nat.le_refl _)) r
  have f4 : ∀ k, ¬ sp_val nt (sp_fr nt N) k = 0 → nt 3 k.toNatClampNeg = sp_val nt (sp_fr nt N) k := fun k => sp_val_v
  have f6 : ∀ k, ¬ sp_tg nt (sp_fr nt N) k = 0 → nt 3 k.toNatClampNeg = sp_tg nt (sp_fr nt N) k ∧ sp_tg nt (sp_fr nt N) k = sp_val nt (sp_fr nt N) k := fun k => sp_tg_v hW.2.2
  have hc : ∀ (g m : Int32) r, sp_call nt (sp_fr nt N) M par m g = true → mj_g m 40 r = r := fun g m r hq => mj_g_k (sp_call_in hM40 hq) r
  simp only [bX1_typeOf_220, bX1_typeOf_222, bX1_typeOf_224, bX1_typeOf_234, bX1_typeOf_245, bX1_typeOf_247, bX1_typeOf_254, bX1_typeOf_261, bX1_typeOf_277, sX1_elementOf hd, mj_rI_k, h5, h9]
  simp only [sp_ty] at hr ⊢
  simp at hr ⊢ <;> grind [sp_b, sp_isv, sp_i, sp_bin, sp_el]
theorem tX1_y5 {d : Nat} (hd : 1 ≤ d) {y : mj_X} {nt : sp_NT} {N M : Nat} {res par : Nat → Int32} (hN : N ≤ 4000) (h5 : y.1 5 = nt 3) (h9 : y.1 9 = res) (hM40 : M ≤ 40) (hW : sp_W nt N M par) (a b : Int32) (hr : ¬ sp_ty nt (sp_nd N) (sp_fr nt N) M res par 5 a b = -1) : kX1 (d + 1) 20 [.ref 0, .int 5, .int a, .int b] y = some (some (.int (sp_ty nt (sp_nd N) (sp_fr nt N) M res par 5 a b)), y) := by
  rw [wX1_typeOf_0_5 _ _ _ _ _ rfl]
  have hg : ∀ (k q : Int32) r, sp_fk nt (sp_fr nt N) k q = true → mj_g k 4000 r = r := fun k q r hq => mj_g_k (sp_nd_in hN (sp_fk_nd hq) (Nat.le_refl _)) r
  have hv : ∀ (k : Int32) r, ¬ sp_val nt (sp_fr nt N) k = 0 → mj_g k 4000 r = r := fun k r hq => mj_g_k (sp_nd_in hN (sp_val_nd hq) (Nat.le_refl _)) r
  have ht : ∀ (k : Int32) r, ¬ sp_tg nt (sp_fr nt N) k = 0 → mj_g k 4000 r = r := fun k r hq => mj_g_k (sp_nd_in hN (sp_tg_nd hq) (Nat.le_refl _)) r
  have hw : ∀ (k : Int32) r, sp_nd N k = true → mj_g k 4000 r = r := fun k r hq => mj_g_k (sp_nd_in hN hq (Nat.le_refl _)) r
  have f4 : ∀ k, ¬ sp_val nt (sp_fr nt N) k = 0 → nt 3 k.toNatClampNeg = sp_val nt (sp_fr nt N) k := fun k => sp_val_v
  have f6 : ∀ k, ¬ sp_tg nt (sp_fr nt N) k = 0 → nt 3 k.toNatClampNeg = sp_tg nt (sp_fr nt N) k ∧ sp_tg nt (sp_fr nt N) k = sp_val nt (sp_fr nt N) k := fun k => sp_tg_v hW.2.2
  have hc : ∀ (g m : Int32) r, sp_call nt (sp_fr nt N) M par m g = true → mj_g m 40 r = r := fun g m r hq => mj_g_k (sp_call_in hM40 hq) r
  simp only [bX1_typeOf_220, bX1_typeOf_222, bX1_typeOf_224, bX1_typeOf_234, bX1_typeOf_245, bX1_typeOf_247, bX1_typeOf_254, bX1_typeOf_261, bX1_typeOf_277, sX1_elementOf hd, mj_rI_k, h5, h9]
  simp only [sp_ty] at hr ⊢
  simp at hr ⊢ <;> grind [sp_b, sp_isv, sp_i, sp_bin, sp_el]
theorem tX1_y6 {d : Nat} (hd : 1 ≤ d) {y : mj_X} {nt : sp_NT} {N M : Nat} {res par : Nat → Int32} (hN : N ≤ 4000) (h5 : y.1 5 = nt 3) (h9 : y.1 9 = res) (hM40 : M ≤ 40) (hW : sp_W nt N M par) (a b : Int32) (hr : ¬ sp_ty nt (sp_nd N) (sp_fr nt N) M res par 6 a b = -1) : kX1 (d + 1) 20 [.ref 0, .int 6, .int a, .int b] y = some (some (.int (sp_ty nt (sp_nd N) (sp_fr nt N) M res par 6 a b)), y) := by
  rw [wX1_typeOf_0_6 _ _ _ _ _ rfl]
  have hg : ∀ (k q : Int32) r, sp_fk nt (sp_fr nt N) k q = true → mj_g k 4000 r = r := fun k q r hq => mj_g_k (sp_nd_in hN (sp_fk_nd hq) (Nat.le_refl _)) r
  have hv : ∀ (k : Int32) r, ¬ sp_val nt (sp_fr nt N) k = 0 → mj_g k 4000 r = r := fun k r hq => mj_g_k (sp_nd_in hN (sp_val_nd hq) (Nat.le_refl _)) r
  have ht : ∀ (k : Int32) r, ¬ sp_tg nt (sp_fr nt N) k = 0 → mj_g k 4000 r = r := fun k r hq => mj_g_k (sp_nd_in hN (sp_tg_nd hq) (Nat.le_refl _)) r
  have hw : ∀ (k : Int32) r, sp_nd N k = true → mj_g k 4000 r = r := fun k r hq => mj_g_k (sp_nd_in hN hq (Nat.le_refl _)) r
  have f4 : ∀ k, ¬ sp_val nt (sp_fr nt N) k = 0 → nt 3 k.toNatClampNeg = sp_val nt (sp_fr nt N) k := fun k => sp_val_v
  have f6 : ∀ k, ¬ sp_tg nt (sp_fr nt N) k = 0 → nt 3 k.toNatClampNeg = sp_tg nt (sp_fr nt N) k ∧ sp_tg nt (sp_fr nt N) k = sp_val nt (sp_fr nt N) k := fun k => sp_tg_v hW.2.2
  have hc : ∀ (g m : Int32) r, sp_call nt (sp_fr nt N) M par m g = true → mj_g m 40 r = r := fun g m r hq => mj_g_k (sp_call_in hM40 hq) r
  simp only [bX1_typeOf_220, bX1_typeOf_222, bX1_typeOf_224, bX1_typeOf_234, bX1_typeOf_245, bX1_typeOf_247, bX1_typeOf_254, bX1_typeOf_261, bX1_typeOf_277, sX1_elementOf hd, mj_rI_k, h5, h9]
  simp only [sp_ty] at hr ⊢
  simp at hr ⊢ <;> grind [sp_b, sp_isv, sp_i, sp_bin, sp_el]
theorem tX1_y7 {d : Nat} (hd : 1 ≤ d) {y : mj_X} {nt : sp_NT} {N M : Nat} {res par : Nat → Int32} (hN : N ≤ 4000) (h5 : y.1 5 = nt 3) (h9 : y.1 9 = res) (hM40 : M ≤ 40) (hW : sp_W nt N M par) (a b : Int32) (hr : ¬ sp_ty nt (sp_nd N) (sp_fr nt N) M res par 7 a b = -1) : kX1 (d + 1) 20 [.ref 0, .int 7, .int a, .int b] y = some (some (.int (sp_ty nt (sp_nd N) (sp_fr nt N) M res par 7 a b)), y) := by
  rw [wX1_typeOf_0_7 _ _ _ _ _ rfl]
  have hg : ∀ (k q : Int32) r, sp_fk nt (sp_fr nt N) k q = true → mj_g k 4000 r = r := fun k q r hq => mj_g_k (sp_nd_in hN (sp_fk_nd hq) (Nat.le_refl _)) r
  have hv : ∀ (k : Int32) r, ¬ sp_val nt (sp_fr nt N) k = 0 → mj_g k 4000 r = r := fun k r hq => mj_g_k (sp_nd_in hN (sp_val_nd hq) (Nat.le_refl _)) r
  have ht : ∀ (k : Int32) r, ¬ sp_tg nt (sp_fr nt N) k = 0 → mj_g k 4000 r = r := fun k r hq => mj_g_k (sp_nd_in hN (sp_tg_nd hq) (Nat.le_refl _)) r
  have hw : ∀ (k : Int32) r, sp_nd N k = true → mj_g k 4000 r = r := fun k r hq => mj_g_k (sp_nd_in hN hq (Nat.le_refl _)) r
  have f4 : ∀ k, ¬ sp_val nt (sp_fr nt N) k = 0 → nt 3 k.toNatClampNeg = sp_val nt (sp_fr nt N) k := fun k => sp_val_v
  have f6 : ∀ k, ¬ sp_tg nt (sp_fr nt N) k = 0 → nt 3 k.toNatClampNeg = sp_tg nt (sp_fr nt N) k ∧ sp_tg nt (sp_fr nt N) k = sp_val nt (sp_fr nt N) k := fun k => sp_tg_v hW.2.2
  have hc : ∀ (g m : Int32) r, sp_call nt (sp_fr nt N) M par m g = true → mj_g m 40 r = r := fun g m r hq => mj_g_k (sp_call_in hM40 hq) r
  simp only [bX1_typeOf_220, bX1_typeOf_222, bX1_typeOf_224, bX1_typeOf_234, bX1_typeOf_245, bX1_typeOf_247, bX1_typeOf_254, bX1_typeOf_261, bX1_typeOf_277, sX1_elementOf hd, mj_rI_k, h5, h9]
  simp only [sp_ty] at hr ⊢
  simp at hr ⊢ <;> grind [sp_b, sp_isv, sp_i, sp_bin, sp_el]
theorem tX1_y8 {d : Nat} (hd : 1 ≤ d) {y : mj_X} {nt : sp_NT} {N M : Nat} {res par : Nat → Int32} (hN : N ≤ 4000) (h5 : y.1 5 = nt 3) (h9 : y.1 9 = res) (hM40 : M ≤ 40) (hW : sp_W nt N M par) (a b : Int32) (hr : ¬ sp_ty nt (sp_nd N) (sp_fr nt N) M res par 8 a b = -1) : kX1 (d + 1) 20 [.ref 0, .int 8, .int a, .int b] y = some (some (.int (sp_ty nt (sp_nd N) (sp_fr nt N) M res par 8 a b)), y) := by
  rw [wX1_typeOf_0_8 _ _ _ _ _ rfl]
  have hg : ∀ (k q : Int32) r, sp_fk nt (sp_fr nt N) k q = true → mj_g k 4000 r = r := fun k q r hq => mj_g_k (sp_nd_in hN (sp_fk_nd hq) (Nat.le_refl _)) r
  have hv : ∀ (k : Int32) r, ¬ sp_val nt (sp_fr nt N) k = 0 → mj_g k 4000 r = r := fun k r hq => mj_g_k (sp_nd_in hN (sp_val_nd hq) (Nat.le_refl _)) r
  have ht : ∀ (k : Int32) r, ¬ sp_tg nt (sp_fr nt N) k = 0 → mj_g k 4000 r = r := fun k r hq => mj_g_k (sp_nd_in hN (sp_tg_nd hq) (Nat.le_refl _)) r
  have hw : ∀ (k : Int32) r, sp_nd N k = true → mj_g k 4000 r = r := fun k r hq => mj_g_k (sp_nd_in hN hq (Nat.le_refl _)) r
  have f4 : ∀ k, ¬ sp_val nt (sp_fr nt N) k = 0 → nt 3 k.toNatClampNeg = sp_val nt (sp_fr nt N) k := fun k => sp_val_v
  have f6 : ∀ k, ¬ sp_tg nt (sp_fr nt N) k = 0 → nt 3 k.toNatClampNeg = sp_tg nt (sp_fr nt N) k ∧ sp_tg nt (sp_fr nt N) k = sp_val nt (sp_fr nt N) k := fun k => sp_tg_v hW.2.2
  have hc : ∀ (g m : Int32) r, sp_call nt (sp_fr nt N) M par m g = true → mj_g m 40 r = r := fun g m r hq => mj_g_k (sp_call_in hM40 hq) r
  simp only [bX1_typeOf_220, bX1_typeOf_222, bX1_typeOf_224, bX1_typeOf_234, bX1_typeOf_245, bX1_typeOf_247, bX1_typeOf_254, bX1_typeOf_261, bX1_typeOf_277, sX1_elementOf hd, mj_rI_k, h5, h9]
  simp only [sp_ty] at hr ⊢
  simp at hr ⊢ <;> grind [sp_b, sp_isv, sp_i, sp_bin, sp_el]
theorem tX1_y9 {d : Nat} (hd : 1 ≤ d) {y : mj_X} {nt : sp_NT} {N M : Nat} {res par : Nat → Int32} (hN : N ≤ 4000) (h5 : y.1 5 = nt 3) (h9 : y.1 9 = res) (hM40 : M ≤ 40) (hW : sp_W nt N M par) (a b : Int32) (hr : ¬ sp_ty nt (sp_nd N) (sp_fr nt N) M res par 9 a b = -1) : kX1 (d + 1) 20 [.ref 0, .int 9, .int a, .int b] y = some (some (.int (sp_ty nt (sp_nd N) (sp_fr nt N) M res par 9 a b)), y) := by
  rw [wX1_typeOf_0_9 _ _ _ _ _ rfl]
  have hg : ∀ (k q : Int32) r, sp_fk nt (sp_fr nt N) k q = true → mj_g k 4000 r = r := fun k q r hq => mj_g_k (sp_nd_in hN (sp_fk_nd hq) (Nat.le_refl _)) r
  have hv : ∀ (k : Int32) r, ¬ sp_val nt (sp_fr nt N) k = 0 → mj_g k 4000 r = r := fun k r hq => mj_g_k (sp_nd_in hN (sp_val_nd hq) (Nat.le_refl _)) r
  have ht : ∀ (k : Int32) r, ¬ sp_tg nt (sp_fr nt N) k = 0 → mj_g k 4000 r = r := fun k r hq => mj_g_k (sp_nd_in hN (sp_tg_nd hq) (Nat.le_refl _)) r
  have hw : ∀ (k : Int32) r, sp_nd N k = true → mj_g k 4000 r = r := fun k r hq => mj_g_k (sp_nd_in hN hq (Nat.le_refl _)) r
  have f4 : ∀ k, ¬ sp_val nt (sp_fr nt N) k = 0 → nt 3 k.toNatClampNeg = sp_val nt (sp_fr nt N) k := fun k => sp_val_v
  have f6 : ∀ k, ¬ sp_tg nt (sp_fr nt N) k = 0 → nt 3 k.toNatClampNeg = sp_tg nt (sp_fr nt N) k ∧ sp_tg nt (sp_fr nt N) k = sp_val nt (sp_fr nt N) k := fun k => sp_tg_v hW.2.2
  have hc : ∀ (g m : Int32) r, sp_call nt (sp_fr nt N) M par m g = true → mj_g m 40 r = r := fun g m r hq => mj_g_k (sp_call_in hM40 hq) r
  simp only [bX1_typeOf_220, bX1_typeOf_222, bX1_typeOf_224, bX1_typeOf_234, bX1_typeOf_245, bX1_typeOf_247, bX1_typeOf_254, bX1_typeOf_261, bX1_typeOf_277, sX1_elementOf hd, mj_rI_k, h5, h9]
  simp only [sp_ty] at hr ⊢
  simp at hr ⊢ <;> grind [sp_b, sp_isv, sp_i, sp_bin, sp_el]
theorem tX1_y10 {d : Nat} (hd : 1 ≤ d) {y : mj_X} {nt : sp_NT} {N M : Nat} {res par : Nat → Int32} (hN : N ≤ 4000) (h5 : y.1 5 = nt 3) (h9 : y.1 9 = res) (hM40 : M ≤ 40) (hW : sp_W nt N M par) (a b : Int32) (hr : ¬ sp_ty nt (sp_nd N) (sp_fr nt N) M res par 10 a b = -1) : kX1 (d + 1) 20 [.ref 0, .int 10, .int a, .int b] y = some (some (.int (sp_ty nt (sp_nd N) (sp_fr nt N) M res par 10 a b)), y) := by
  rw [wX1_typeOf_0_10 _ _ _ _ _ rfl]
  have hg : ∀ (k q : Int32) r, sp_fk nt (sp_fr nt N) k q = true → mj_g k 4000 r = r := fun k q r hq => mj_g_k (sp_nd_in hN (sp_fk_nd hq) (Nat.le_refl _)) r
  have hv : ∀ (k : Int32) r, ¬ sp_val nt (sp_fr nt N) k = 0 → mj_g k 4000 r = r := fun k r hq => mj_g_k (sp_nd_in hN (sp_val_nd hq) (Nat.le_refl _)) r
  have ht : ∀ (k : Int32) r, ¬ sp_tg nt (sp_fr nt N) k = 0 → mj_g k 4000 r = r := fun k r hq => mj_g_k (sp_nd_in hN (sp_tg_nd hq) (Nat.le_refl _)) r
  have hw : ∀ (k : Int32) r, sp_nd N k = true → mj_g k 4000 r = r := fun k r hq => mj_g_k (sp_nd_in hN hq (Nat.le_refl _)) r
  have f4 : ∀ k, ¬ sp_val nt (sp_fr nt N) k = 0 → nt 3 k.toNatClampNeg = sp_val nt (sp_fr nt N) k := fun k => sp_val_v
  have f6 : ∀ k, ¬ sp_tg nt (sp_fr nt N) k = 0 → nt 3 k.toNatClampNeg = sp_tg nt (sp_fr nt N) k ∧ sp_tg nt (sp_fr nt N) k = sp_val nt (sp_fr nt N) k := fun k => sp_tg_v hW.2.2
  have hc : ∀ (g m : Int32) r, sp_call nt (sp_fr nt N) M par m g = true → mj_g m 40 r = r := fun g m r hq => mj_g_k (sp_call_in hM40 hq) r
  simp only [bX1_typeOf_220, bX1_typeOf_222, bX1_typeOf_224, bX1_typeOf_234, bX1_typeOf_245, bX1_typeOf_247, bX1_typeOf_254, bX1_typeOf_261, bX1_typeOf_277, sX1_elementOf hd, mj_rI_k, h5, h9]
  simp only [sp_ty] at hr ⊢
  simp at hr ⊢ <;> grind [sp_b, sp_isv, sp_i, sp_bin, sp_el]
theorem tX1_y11 {d : Nat} (hd : 1 ≤ d) {y : mj_X} {nt : sp_NT} {N M : Nat} {res par : Nat → Int32} (hN : N ≤ 4000) (h5 : y.1 5 = nt 3) (h9 : y.1 9 = res) (hM40 : M ≤ 40) (hW : sp_W nt N M par) (a b : Int32) (hr : ¬ sp_ty nt (sp_nd N) (sp_fr nt N) M res par 11 a b = -1) : kX1 (d + 1) 20 [.ref 0, .int 11, .int a, .int b] y = some (some (.int (sp_ty nt (sp_nd N) (sp_fr nt N) M res par 11 a b)), y) := by
  rw [wX1_typeOf_0_11 _ _ _ _ _ rfl]
  have hg : ∀ (k q : Int32) r, sp_fk nt (sp_fr nt N) k q = true → mj_g k 4000 r = r := fun k q r hq => mj_g_k (sp_nd_in hN (sp_fk_nd hq) (Nat.le_refl _)) r
  have hv : ∀ (k : Int32) r, ¬ sp_val nt (sp_fr nt N) k = 0 → mj_g k 4000 r = r := fun k r hq => mj_g_k (sp_nd_in hN (sp_val_nd hq) (Nat.le_refl _)) r
  have ht : ∀ (k : Int32) r, ¬ sp_tg nt (sp_fr nt N) k = 0 → mj_g k 4000 r = r := fun k r hq => mj_g_k (sp_nd_in hN (sp_tg_nd hq) (Nat.le_refl _)) r
  have hw : ∀ (k : Int32) r, sp_nd N k = true → mj_g k 4000 r = r := fun k r hq => mj_g_k (sp_nd_in hN hq (Nat.le_refl _)) r
  have f4 : ∀ k, ¬ sp_val nt (sp_fr nt N) k = 0 → nt 3 k.toNatClampNeg = sp_val nt (sp_fr nt N) k := fun k => sp_val_v
  have f6 : ∀ k, ¬ sp_tg nt (sp_fr nt N) k = 0 → nt 3 k.toNatClampNeg = sp_tg nt (sp_fr nt N) k ∧ sp_tg nt (sp_fr nt N) k = sp_val nt (sp_fr nt N) k := fun k => sp_tg_v hW.2.2
  have hc : ∀ (g m : Int32) r, sp_call nt (sp_fr nt N) M par m g = true → mj_g m 40 r = r := fun g m r hq => mj_g_k (sp_call_in hM40 hq) r
  simp only [bX1_typeOf_220, bX1_typeOf_222, bX1_typeOf_224, bX1_typeOf_234, bX1_typeOf_245, bX1_typeOf_247, bX1_typeOf_254, bX1_typeOf_261, bX1_typeOf_277, sX1_elementOf hd, mj_rI_k, h5, h9]
  simp only [sp_ty] at hr ⊢
  simp at hr ⊢ <;> grind [sp_b, sp_isv, sp_i, sp_bin, sp_el]
theorem tX1_y12 {d : Nat} (hd : 1 ≤ d) {y : mj_X} {nt : sp_NT} {N M : Nat} {res par : Nat → Int32} (hN : N ≤ 4000) (h5 : y.1 5 = nt 3) (h9 : y.1 9 = res) (hM40 : M ≤ 40) (hW : sp_W nt N M par) (a b : Int32) (hr : ¬ sp_ty nt (sp_nd N) (sp_fr nt N) M res par 12 a b = -1) : kX1 (d + 1) 20 [.ref 0, .int 12, .int a, .int b] y = some (some (.int (sp_ty nt (sp_nd N) (sp_fr nt N) M res par 12 a b)), y) := by
  rw [wX1_typeOf_0_12 _ _ _ _ _ rfl]
  have hg : ∀ (k q : Int32) r, sp_fk nt (sp_fr nt N) k q = true → mj_g k 4000 r = r := fun k q r hq => mj_g_k (sp_nd_in hN (sp_fk_nd hq) (Nat.le_refl _)) r
  have hv : ∀ (k : Int32) r, ¬ sp_val nt (sp_fr nt N) k = 0 → mj_g k 4000 r = r := fun k r hq => mj_g_k (sp_nd_in hN (sp_val_nd hq) (Nat.le_refl _)) r
  have ht : ∀ (k : Int32) r, ¬ sp_tg nt (sp_fr nt N) k = 0 → mj_g k 4000 r = r := fun k r hq => mj_g_k (sp_nd_in hN (sp_tg_nd hq) (Nat.le_refl _)) r
  have hw : ∀ (k : Int32) r, sp_nd N k = true → mj_g k 4000 r = r := fun k r hq => mj_g_k (sp_nd_in hN hq (Nat.le_refl _)) r
  have f4 : ∀ k, ¬ sp_val nt (sp_fr nt N) k = 0 → nt 3 k.toNatClampNeg = sp_val nt (sp_fr nt N) k := fun k => sp_val_v
  have f6 : ∀ k, ¬ sp_tg nt (sp_fr nt N) k = 0 → nt 3 k.toNatClampNeg = sp_tg nt (sp_fr nt N) k ∧ sp_tg nt (sp_fr nt N) k = sp_val nt (sp_fr nt N) k := fun k => sp_tg_v hW.2.2
  have hc : ∀ (g m : Int32) r, sp_call nt (sp_fr nt N) M par m g = true → mj_g m 40 r = r := fun g m r hq => mj_g_k (sp_call_in hM40 hq) r
  simp only [bX1_typeOf_220, bX1_typeOf_222, bX1_typeOf_224, bX1_typeOf_234, bX1_typeOf_245, bX1_typeOf_247, bX1_typeOf_254, bX1_typeOf_261, bX1_typeOf_277, sX1_elementOf hd, mj_rI_k, h5, h9]
  simp only [sp_ty] at hr ⊢
  simp at hr ⊢ <;> grind [sp_b, sp_isv, sp_i, sp_bin, sp_el]
theorem tX1_y13 {d : Nat} (hd : 1 ≤ d) {y : mj_X} {nt : sp_NT} {N M : Nat} {res par : Nat → Int32} (hN : N ≤ 4000) (h5 : y.1 5 = nt 3) (h9 : y.1 9 = res) (hM40 : M ≤ 40) (hW : sp_W nt N M par) (a b : Int32) (hr : ¬ sp_ty nt (sp_nd N) (sp_fr nt N) M res par 13 a b = -1) : kX1 (d + 1) 20 [.ref 0, .int 13, .int a, .int b] y = some (some (.int (sp_ty nt (sp_nd N) (sp_fr nt N) M res par 13 a b)), y) := by
  rw [wX1_typeOf_0_13 _ _ _ _ _ rfl]
  have hg : ∀ (k q : Int32) r, sp_fk nt (sp_fr nt N) k q = true → mj_g k 4000 r = r := fun k q r hq => mj_g_k (sp_nd_in hN (sp_fk_nd hq) (Nat.le_refl _)) r
  have hv : ∀ (k : Int32) r, ¬ sp_val nt (sp_fr nt N) k = 0 → mj_g k 4000 r = r := fun k r hq => mj_g_k (sp_nd_in hN (sp_val_nd hq) (Nat.le_refl _)) r
  have ht : ∀ (k : Int32) r, ¬ sp_tg nt (sp_fr nt N) k = 0 → mj_g k 4000 r = r := fun k r hq => mj_g_k (sp_nd_in hN (sp_tg_nd hq) (Nat.le_refl _)) r
  have hw : ∀ (k : Int32) r, sp_nd N k = true → mj_g k 4000 r = r := fun k r hq => mj_g_k (sp_nd_in hN hq (Nat.le_refl _)) r
  have f4 : ∀ k, ¬ sp_val nt (sp_fr nt N) k = 0 → nt 3 k.toNatClampNeg = sp_val nt (sp_fr nt N) k := fun k => sp_val_v
  have f6 : ∀ k, ¬ sp_tg nt (sp_fr nt N) k = 0 → nt 3 k.toNatClampNeg = sp_tg nt (sp_fr nt N) k ∧ sp_tg nt (sp_fr nt N) k = sp_val nt (sp_fr nt N) k := fun k => sp_tg_v hW.2.2
  have hc : ∀ (g m : Int32) r, sp_call nt (sp_fr nt N) M par m g = true → mj_g m 40 r = r := fun g m r hq => mj_g_k (sp_call_in hM40 hq) r
  simp only [bX1_typeOf_220, bX1_typeOf_222, bX1_typeOf_224, bX1_typeOf_234, bX1_typeOf_245, bX1_typeOf_247, bX1_typeOf_254, bX1_typeOf_261, bX1_typeOf_277, sX1_elementOf hd, mj_rI_k, h5, h9]
  simp only [sp_ty] at hr ⊢
  simp at hr ⊢ <;> grind [sp_b, sp_isv, sp_i, sp_bin, sp_el]
theorem tX1_y14 {d : Nat} (hd : 1 ≤ d) {y : mj_X} {nt : sp_NT} {N M : Nat} {res par : Nat → Int32} (hN : N ≤ 4000) (h5 : y.1 5 = nt 3) (h9 : y.1 9 = res) (hM40 : M ≤ 40) (hW : sp_W nt N M par) (a b : Int32) (hr : ¬ sp_ty nt (sp_nd N) (sp_fr nt N) M res par 14 a b = -1) : kX1 (d + 1) 20 [.ref 0, .int 14, .int a, .int b] y = some (some (.int (sp_ty nt (sp_nd N) (sp_fr nt N) M res par 14 a b)), y) := by
  rw [wX1_typeOf_0_14 _ _ _ _ _ rfl]
  have hg : ∀ (k q : Int32) r, sp_fk nt (sp_fr nt N) k q = true → mj_g k 4000 r = r := fun k q r hq => mj_g_k (sp_nd_in hN (sp_fk_nd hq) (Nat.le_refl _)) r
  have hv : ∀ (k : Int32) r, ¬ sp_val nt (sp_fr nt N) k = 0 → mj_g k 4000 r = r := fun k r hq => mj_g_k (sp_nd_in hN (sp_val_nd hq) (Nat.le_refl _)) r
  have ht : ∀ (k : Int32) r, ¬ sp_tg nt (sp_fr nt N) k = 0 → mj_g k 4000 r = r := fun k r hq => mj_g_k (sp_nd_in hN (sp_tg_nd hq) (Nat.le_refl _)) r
  have hw : ∀ (k : Int32) r, sp_nd N k = true → mj_g k 4000 r = r := fun k r hq => mj_g_k (sp_nd_in hN hq (Nat.le_refl _)) r
  have f4 : ∀ k, ¬ sp_val nt (sp_fr nt N) k = 0 → nt 3 k.toNatClampNeg = sp_val nt (sp_fr nt N) k := fun k => sp_val_v
  have f6 : ∀ k, ¬ sp_tg nt (sp_fr nt N) k = 0 → nt 3 k.toNatClampNeg = sp_tg nt (sp_fr nt N) k ∧ sp_tg nt (sp_fr nt N) k = sp_val nt (sp_fr nt N) k := fun k => sp_tg_v hW.2.2
  have hc : ∀ (g m : Int32) r, sp_call nt (sp_fr nt N) M par m g = true → mj_g m 40 r = r := fun g m r hq => mj_g_k (sp_call_in hM40 hq) r
  simp only [bX1_typeOf_220, bX1_typeOf_222, bX1_typeOf_224, bX1_typeOf_234, bX1_typeOf_245, bX1_typeOf_247, bX1_typeOf_254, bX1_typeOf_261, bX1_typeOf_277, sX1_elementOf hd, mj_rI_k, h5, h9]
  simp only [sp_ty] at hr ⊢
  simp at hr ⊢ <;> grind [sp_b, sp_isv, sp_i, sp_bin, sp_el]
theorem tX1_y15 {d : Nat} (hd : 1 ≤ d) {y : mj_X} {nt : sp_NT} {N M : Nat} {res par : Nat → Int32} (hN : N ≤ 4000) (h5 : y.1 5 = nt 3) (h9 : y.1 9 = res) (hM40 : M ≤ 40) (hW : sp_W nt N M par) (a b : Int32) (hr : ¬ sp_ty nt (sp_nd N) (sp_fr nt N) M res par 15 a b = -1) : kX1 (d + 1) 20 [.ref 0, .int 15, .int a, .int b] y = some (some (.int (sp_ty nt (sp_nd N) (sp_fr nt N) M res par 15 a b)), y) := by
  rw [wX1_typeOf_0_15 _ _ _ _ _ rfl]
  have hg : ∀ (k q : Int32) r, sp_fk nt (sp_fr nt N) k q = true → mj_g k 4000 r = r := fun k q r hq => mj_g_k (sp_nd_in hN (sp_fk_nd hq) (Nat.le_refl _)) r
  have hv : ∀ (k : Int32) r, ¬ sp_val nt (sp_fr nt N) k = 0 → mj_g k 4000 r = r := fun k r hq => mj_g_k (sp_nd_in hN (sp_val_nd hq) (Nat.le_refl _)) r
  have ht : ∀ (k : Int32) r, ¬ sp_tg nt (sp_fr nt N) k = 0 → mj_g k 4000 r = r := fun k r hq => mj_g_k (sp_nd_in hN (sp_tg_nd hq) (Nat.le_refl _)) r
  have hw : ∀ (k : Int32) r, sp_nd N k = true → mj_g k 4000 r = r := fun k r hq => mj_g_k (sp_nd_in hN hq (Nat.le_refl _)) r
  have f4 : ∀ k, ¬ sp_val nt (sp_fr nt N) k = 0 → nt 3 k.toNatClampNeg = sp_val nt (sp_fr nt N) k := fun k => sp_val_v
  have f6 : ∀ k, ¬ sp_tg nt (sp_fr nt N) k = 0 → nt 3 k.toNatClampNeg = sp_tg nt (sp_fr nt N) k ∧ sp_tg nt (sp_fr nt N) k = sp_val nt (sp_fr nt N) k := fun k => sp_tg_v hW.2.2
  have hc : ∀ (g m : Int32) r, sp_call nt (sp_fr nt N) M par m g = true → mj_g m 40 r = r := fun g m r hq => mj_g_k (sp_call_in hM40 hq) r
  simp only [bX1_typeOf_220, bX1_typeOf_222, bX1_typeOf_224, bX1_typeOf_234, bX1_typeOf_245, bX1_typeOf_247, bX1_typeOf_254, bX1_typeOf_261, bX1_typeOf_277, sX1_elementOf hd, mj_rI_k, h5, h9]
  simp only [sp_ty] at hr ⊢
  simp at hr ⊢ <;> grind [sp_b, sp_isv, sp_i, sp_bin, sp_el]
theorem tX1_y16 {d : Nat} (hd : 1 ≤ d) {y : mj_X} {nt : sp_NT} {N M : Nat} {res par : Nat → Int32} (hN : N ≤ 4000) (h5 : y.1 5 = nt 3) (h9 : y.1 9 = res) (hM40 : M ≤ 40) (hW : sp_W nt N M par) (a b : Int32) (hr : ¬ sp_ty nt (sp_nd N) (sp_fr nt N) M res par 16 a b = -1) : kX1 (d + 1) 20 [.ref 0, .int 16, .int a, .int b] y = some (some (.int (sp_ty nt (sp_nd N) (sp_fr nt N) M res par 16 a b)), y) := by
  rw [wX1_typeOf_0_16 _ _ _ _ _ rfl]
  have hg : ∀ (k q : Int32) r, sp_fk nt (sp_fr nt N) k q = true → mj_g k 4000 r = r := fun k q r hq => mj_g_k (sp_nd_in hN (sp_fk_nd hq) (Nat.le_refl _)) r
  have hv : ∀ (k : Int32) r, ¬ sp_val nt (sp_fr nt N) k = 0 → mj_g k 4000 r = r := fun k r hq => mj_g_k (sp_nd_in hN (sp_val_nd hq) (Nat.le_refl _)) r
  have ht : ∀ (k : Int32) r, ¬ sp_tg nt (sp_fr nt N) k = 0 → mj_g k 4000 r = r := fun k r hq => mj_g_k (sp_nd_in hN (sp_tg_nd hq) (Nat.le_refl _)) r
  have hw : ∀ (k : Int32) r, sp_nd N k = true → mj_g k 4000 r = r := fun k r hq => mj_g_k (sp_nd_in hN hq (Nat.le_refl _)) r
  have f4 : ∀ k, ¬ sp_val nt (sp_fr nt N) k = 0 → nt 3 k.toNatClampNeg = sp_val nt (sp_fr nt N) k := fun k => sp_val_v
  have f6 : ∀ k, ¬ sp_tg nt (sp_fr nt N) k = 0 → nt 3 k.toNatClampNeg = sp_tg nt (sp_fr nt N) k ∧ sp_tg nt (sp_fr nt N) k = sp_val nt (sp_fr nt N) k := fun k => sp_tg_v hW.2.2
  have hc : ∀ (g m : Int32) r, sp_call nt (sp_fr nt N) M par m g = true → mj_g m 40 r = r := fun g m r hq => mj_g_k (sp_call_in hM40 hq) r
  simp only [bX1_typeOf_220, bX1_typeOf_222, bX1_typeOf_224, bX1_typeOf_234, bX1_typeOf_245, bX1_typeOf_247, bX1_typeOf_254, bX1_typeOf_261, bX1_typeOf_277, sX1_elementOf hd, mj_rI_k, h5, h9]
  simp only [sp_ty] at hr ⊢
  simp at hr ⊢ <;> grind [sp_b, sp_isv, sp_i, sp_bin, sp_el]
theorem tX1_y17 {d : Nat} (hd : 1 ≤ d) {y : mj_X} {nt : sp_NT} {N M : Nat} {res par : Nat → Int32} (hN : N ≤ 4000) (h5 : y.1 5 = nt 3) (h9 : y.1 9 = res) (hM40 : M ≤ 40) (hW : sp_W nt N M par) (a b : Int32) (hr : ¬ sp_ty nt (sp_nd N) (sp_fr nt N) M res par 17 a b = -1) : kX1 (d + 1) 20 [.ref 0, .int 17, .int a, .int b] y = some (some (.int (sp_ty nt (sp_nd N) (sp_fr nt N) M res par 17 a b)), y) := by
  rw [wX1_typeOf_0_17 _ _ _ _ _ rfl]
  have hg : ∀ (k q : Int32) r, sp_fk nt (sp_fr nt N) k q = true → mj_g k 4000 r = r := fun k q r hq => mj_g_k (sp_nd_in hN (sp_fk_nd hq) (Nat.le_refl _)) r
  have hv : ∀ (k : Int32) r, ¬ sp_val nt (sp_fr nt N) k = 0 → mj_g k 4000 r = r := fun k r hq => mj_g_k (sp_nd_in hN (sp_val_nd hq) (Nat.le_refl _)) r
  have ht : ∀ (k : Int32) r, ¬ sp_tg nt (sp_fr nt N) k = 0 → mj_g k 4000 r = r := fun k r hq => mj_g_k (sp_nd_in hN (sp_tg_nd hq) (Nat.le_refl _)) r
  have hw : ∀ (k : Int32) r, sp_nd N k = true → mj_g k 4000 r = r := fun k r hq => mj_g_k (sp_nd_in hN hq (Nat.le_refl _)) r
  have f4 : ∀ k, ¬ sp_val nt (sp_fr nt N) k = 0 → nt 3 k.toNatClampNeg = sp_val nt (sp_fr nt N) k := fun k => sp_val_v
  have f6 : ∀ k, ¬ sp_tg nt (sp_fr nt N) k = 0 → nt 3 k.toNatClampNeg = sp_tg nt (sp_fr nt N) k ∧ sp_tg nt (sp_fr nt N) k = sp_val nt (sp_fr nt N) k := fun k => sp_tg_v hW.2.2
  have hc : ∀ (g m : Int32) r, sp_call nt (sp_fr nt N) M par m g = true → mj_g m 40 r = r := fun g m r hq => mj_g_k (sp_call_in hM40 hq) r
  simp only [bX1_typeOf_220, bX1_typeOf_222, bX1_typeOf_224, bX1_typeOf_234, bX1_typeOf_245, bX1_typeOf_247, bX1_typeOf_254, bX1_typeOf_261, bX1_typeOf_277, sX1_elementOf hd, mj_rI_k, h5, h9]
  simp only [sp_ty] at hr ⊢
  simp at hr ⊢ <;> grind [sp_b, sp_isv, sp_i, sp_bin, sp_el]
theorem tX1_y18 {d : Nat} (hd : 1 ≤ d) {y : mj_X} {nt : sp_NT} {N M : Nat} {res par : Nat → Int32} (hN : N ≤ 4000) (h5 : y.1 5 = nt 3) (h9 : y.1 9 = res) (hM40 : M ≤ 40) (hW : sp_W nt N M par) (a b : Int32) (hr : ¬ sp_ty nt (sp_nd N) (sp_fr nt N) M res par 18 a b = -1) : kX1 (d + 1) 20 [.ref 0, .int 18, .int a, .int b] y = some (some (.int (sp_ty nt (sp_nd N) (sp_fr nt N) M res par 18 a b)), y) := by
  rw [wX1_typeOf_0_18 _ _ _ _ _ rfl]
  have hg : ∀ (k q : Int32) r, sp_fk nt (sp_fr nt N) k q = true → mj_g k 4000 r = r := fun k q r hq => mj_g_k (sp_nd_in hN (sp_fk_nd hq) (Nat.le_refl _)) r
  have hv : ∀ (k : Int32) r, ¬ sp_val nt (sp_fr nt N) k = 0 → mj_g k 4000 r = r := fun k r hq => mj_g_k (sp_nd_in hN (sp_val_nd hq) (Nat.le_refl _)) r
  have ht : ∀ (k : Int32) r, ¬ sp_tg nt (sp_fr nt N) k = 0 → mj_g k 4000 r = r := fun k r hq => mj_g_k (sp_nd_in hN (sp_tg_nd hq) (Nat.le_refl _)) r
  have hw : ∀ (k : Int32) r, sp_nd N k = true → mj_g k 4000 r = r := fun k r hq => mj_g_k (sp_nd_in hN hq (Nat.le_refl _)) r
  have f4 : ∀ k, ¬ sp_val nt (sp_fr nt N) k = 0 → nt 3 k.toNatClampNeg = sp_val nt (sp_fr nt N) k := fun k => sp_val_v
  have f6 : ∀ k, ¬ sp_tg nt (sp_fr nt N) k = 0 → nt 3 k.toNatClampNeg = sp_tg nt (sp_fr nt N) k ∧ sp_tg nt (sp_fr nt N) k = sp_val nt (sp_fr nt N) k := fun k => sp_tg_v hW.2.2
  have hc : ∀ (g m : Int32) r, sp_call nt (sp_fr nt N) M par m g = true → mj_g m 40 r = r := fun g m r hq => mj_g_k (sp_call_in hM40 hq) r
  simp only [bX1_typeOf_220, bX1_typeOf_222, bX1_typeOf_224, bX1_typeOf_234, bX1_typeOf_245, bX1_typeOf_247, bX1_typeOf_254, bX1_typeOf_261, bX1_typeOf_277, sX1_elementOf hd, mj_rI_k, h5, h9]
  simp only [sp_ty] at hr ⊢
  simp at hr ⊢ <;> grind [sp_b, sp_isv, sp_i, sp_bin, sp_el]
theorem tX1_y19 {d : Nat} (hd : 1 ≤ d) {y : mj_X} {nt : sp_NT} {N M : Nat} {res par : Nat → Int32} (hN : N ≤ 4000) (h5 : y.1 5 = nt 3) (h9 : y.1 9 = res) (hM40 : M ≤ 40) (hW : sp_W nt N M par) (a b : Int32) (hr : ¬ sp_ty nt (sp_nd N) (sp_fr nt N) M res par 19 a b = -1) : kX1 (d + 1) 20 [.ref 0, .int 19, .int a, .int b] y = some (some (.int (sp_ty nt (sp_nd N) (sp_fr nt N) M res par 19 a b)), y) := by
  rw [wX1_typeOf_0_19 _ _ _ _ _ rfl]
  have hg : ∀ (k q : Int32) r, sp_fk nt (sp_fr nt N) k q = true → mj_g k 4000 r = r := fun k q r hq => mj_g_k (sp_nd_in hN (sp_fk_nd hq) (Nat.le_refl _)) r
  have hv : ∀ (k : Int32) r, ¬ sp_val nt (sp_fr nt N) k = 0 → mj_g k 4000 r = r := fun k r hq => mj_g_k (sp_nd_in hN (sp_val_nd hq) (Nat.le_refl _)) r
  have ht : ∀ (k : Int32) r, ¬ sp_tg nt (sp_fr nt N) k = 0 → mj_g k 4000 r = r := fun k r hq => mj_g_k (sp_nd_in hN (sp_tg_nd hq) (Nat.le_refl _)) r
  have hw : ∀ (k : Int32) r, sp_nd N k = true → mj_g k 4000 r = r := fun k r hq => mj_g_k (sp_nd_in hN hq (Nat.le_refl _)) r
  have f4 : ∀ k, ¬ sp_val nt (sp_fr nt N) k = 0 → nt 3 k.toNatClampNeg = sp_val nt (sp_fr nt N) k := fun k => sp_val_v
  have f6 : ∀ k, ¬ sp_tg nt (sp_fr nt N) k = 0 → nt 3 k.toNatClampNeg = sp_tg nt (sp_fr nt N) k ∧ sp_tg nt (sp_fr nt N) k = sp_val nt (sp_fr nt N) k := fun k => sp_tg_v hW.2.2
  have hc : ∀ (g m : Int32) r, sp_call nt (sp_fr nt N) M par m g = true → mj_g m 40 r = r := fun g m r hq => mj_g_k (sp_call_in hM40 hq) r
  simp only [bX1_typeOf_220, bX1_typeOf_222, bX1_typeOf_224, bX1_typeOf_234, bX1_typeOf_245, bX1_typeOf_247, bX1_typeOf_254, bX1_typeOf_261, bX1_typeOf_277, sX1_elementOf hd, mj_rI_k, h5, h9]
  simp only [sp_ty] at hr ⊢
  simp at hr ⊢ <;> grind [sp_b, sp_isv, sp_i, sp_bin, sp_el]
theorem tX1_y20 {d : Nat} (hd : 1 ≤ d) {y : mj_X} {nt : sp_NT} {N M : Nat} {res par : Nat → Int32} (hN : N ≤ 4000) (h5 : y.1 5 = nt 3) (h9 : y.1 9 = res) (hM40 : M ≤ 40) (hW : sp_W nt N M par) (a b : Int32) (hr : ¬ sp_ty nt (sp_nd N) (sp_fr nt N) M res par 20 a b = -1) : kX1 (d + 1) 20 [.ref 0, .int 20, .int a, .int b] y = some (some (.int (sp_ty nt (sp_nd N) (sp_fr nt N) M res par 20 a b)), y) := by
  rw [wX1_typeOf_0_20 _ _ _ _ _ rfl]
  have hg : ∀ (k q : Int32) r, sp_fk nt (sp_fr nt N) k q = true → mj_g k 4000 r = r := fun k q r hq => mj_g_k (sp_nd_in hN (sp_fk_nd hq) (Nat.le_refl _)) r
  have hv : ∀ (k : Int32) r, ¬ sp_val nt (sp_fr nt N) k = 0 → mj_g k 4000 r = r := fun k r hq => mj_g_k (sp_nd_in hN (sp_val_nd hq) (Nat.le_refl _)) r
  have ht : ∀ (k : Int32) r, ¬ sp_tg nt (sp_fr nt N) k = 0 → mj_g k 4000 r = r := fun k r hq => mj_g_k (sp_nd_in hN (sp_tg_nd hq) (Nat.le_refl _)) r
  have hw : ∀ (k : Int32) r, sp_nd N k = true → mj_g k 4000 r = r := fun k r hq => mj_g_k (sp_nd_in hN hq (Nat.le_refl _)) r
  have f4 : ∀ k, ¬ sp_val nt (sp_fr nt N) k = 0 → nt 3 k.toNatClampNeg = sp_val nt (sp_fr nt N) k := fun k => sp_val_v
  have f6 : ∀ k, ¬ sp_tg nt (sp_fr nt N) k = 0 → nt 3 k.toNatClampNeg = sp_tg nt (sp_fr nt N) k ∧ sp_tg nt (sp_fr nt N) k = sp_val nt (sp_fr nt N) k := fun k => sp_tg_v hW.2.2
  have hc : ∀ (g m : Int32) r, sp_call nt (sp_fr nt N) M par m g = true → mj_g m 40 r = r := fun g m r hq => mj_g_k (sp_call_in hM40 hq) r
  simp only [bX1_typeOf_220, bX1_typeOf_222, bX1_typeOf_224, bX1_typeOf_234, bX1_typeOf_245, bX1_typeOf_247, bX1_typeOf_254, bX1_typeOf_261, bX1_typeOf_277, sX1_elementOf hd, mj_rI_k, h5, h9]
  simp only [sp_ty] at hr ⊢
  simp at hr ⊢ <;> grind [sp_b, sp_isv, sp_i, sp_bin, sp_el]
theorem tX1_y21 {d : Nat} (hd : 1 ≤ d) {y : mj_X} {nt : sp_NT} {N M : Nat} {res par : Nat → Int32} (hN : N ≤ 4000) (h5 : y.1 5 = nt 3) (h9 : y.1 9 = res) (hM40 : M ≤ 40) (hW : sp_W nt N M par) (a b : Int32) (hr : ¬ sp_ty nt (sp_nd N) (sp_fr nt N) M res par 21 a b = -1) : kX1 (d + 1) 20 [.ref 0, .int 21, .int a, .int b] y = some (some (.int (sp_ty nt (sp_nd N) (sp_fr nt N) M res par 21 a b)), y) := by
  rw [wX1_typeOf_0_21 _ _ _ _ _ rfl]
  have hg : ∀ (k q : Int32) r, sp_fk nt (sp_fr nt N) k q = true → mj_g k 4000 r = r := fun k q r hq => mj_g_k (sp_nd_in hN (sp_fk_nd hq) (Nat.le_refl _)) r
  have hv : ∀ (k : Int32) r, ¬ sp_val nt (sp_fr nt N) k = 0 → mj_g k 4000 r = r := fun k r hq => mj_g_k (sp_nd_in hN (sp_val_nd hq) (Nat.le_refl _)) r
  have ht : ∀ (k : Int32) r, ¬ sp_tg nt (sp_fr nt N) k = 0 → mj_g k 4000 r = r := fun k r hq => mj_g_k (sp_nd_in hN (sp_tg_nd hq) (Nat.le_refl _)) r
  have hw : ∀ (k : Int32) r, sp_nd N k = true → mj_g k 4000 r = r := fun k r hq => mj_g_k (sp_nd_in hN hq (Nat.le_refl _)) r
  have f4 : ∀ k, ¬ sp_val nt (sp_fr nt N) k = 0 → nt 3 k.toNatClampNeg = sp_val nt (sp_fr nt N) k := fun k => sp_val_v
  have f6 : ∀ k, ¬ sp_tg nt (sp_fr nt N) k = 0 → nt 3 k.toNatClampNeg = sp_tg nt (sp_fr nt N) k ∧ sp_tg nt (sp_fr nt N) k = sp_val nt (sp_fr nt N) k := fun k => sp_tg_v hW.2.2
  have hc : ∀ (g m : Int32) r, sp_call nt (sp_fr nt N) M par m g = true → mj_g m 40 r = r := fun g m r hq => mj_g_k (sp_call_in hM40 hq) r
  simp only [bX1_typeOf_220, bX1_typeOf_222, bX1_typeOf_224, bX1_typeOf_234, bX1_typeOf_245, bX1_typeOf_247, bX1_typeOf_254, bX1_typeOf_261, bX1_typeOf_277, sX1_elementOf hd, mj_rI_k, h5, h9]
  simp only [sp_ty] at hr ⊢
  simp at hr ⊢ <;> grind [sp_b, sp_isv, sp_i, sp_bin, sp_el]
theorem tX1_y22 {d : Nat} (hd : 1 ≤ d) {y : mj_X} {nt : sp_NT} {N M : Nat} {res par : Nat → Int32} (hN : N ≤ 4000) (h5 : y.1 5 = nt 3) (h9 : y.1 9 = res) (hM40 : M ≤ 40) (hW : sp_W nt N M par) (a b : Int32) (hr : ¬ sp_ty nt (sp_nd N) (sp_fr nt N) M res par 22 a b = -1) : kX1 (d + 1) 20 [.ref 0, .int 22, .int a, .int b] y = some (some (.int (sp_ty nt (sp_nd N) (sp_fr nt N) M res par 22 a b)), y) := by
  rw [wX1_typeOf_0_22 _ _ _ _ _ rfl]
  have hg : ∀ (k q : Int32) r, sp_fk nt (sp_fr nt N) k q = true → mj_g k 4000 r = r := fun k q r hq => mj_g_k (sp_nd_in hN (sp_fk_nd hq) (Nat.le_refl _)) r
  have hv : ∀ (k : Int32) r, ¬ sp_val nt (sp_fr nt N) k = 0 → mj_g k 4000 r = r := fun k r hq => mj_g_k (sp_nd_in hN (sp_val_nd hq) (Nat.le_refl _)) r
  have ht : ∀ (k : Int32) r, ¬ sp_tg nt (sp_fr nt N) k = 0 → mj_g k 4000 r = r := fun k r hq => mj_g_k (sp_nd_in hN (sp_tg_nd hq) (Nat.le_refl _)) r
  have hw : ∀ (k : Int32) r, sp_nd N k = true → mj_g k 4000 r = r := fun k r hq => mj_g_k (sp_nd_in hN hq (Nat.le_refl _)) r
  have f4 : ∀ k, ¬ sp_val nt (sp_fr nt N) k = 0 → nt 3 k.toNatClampNeg = sp_val nt (sp_fr nt N) k := fun k => sp_val_v
  have f6 : ∀ k, ¬ sp_tg nt (sp_fr nt N) k = 0 → nt 3 k.toNatClampNeg = sp_tg nt (sp_fr nt N) k ∧ sp_tg nt (sp_fr nt N) k = sp_val nt (sp_fr nt N) k := fun k => sp_tg_v hW.2.2
  have hc : ∀ (g m : Int32) r, sp_call nt (sp_fr nt N) M par m g = true → mj_g m 40 r = r := fun g m r hq => mj_g_k (sp_call_in hM40 hq) r
  simp only [bX1_typeOf_220, bX1_typeOf_222, bX1_typeOf_224, bX1_typeOf_234, bX1_typeOf_245, bX1_typeOf_247, bX1_typeOf_254, bX1_typeOf_261, bX1_typeOf_277, sX1_elementOf hd, mj_rI_k, h5, h9]
  simp only [sp_ty] at hr ⊢
  simp at hr ⊢ <;> grind [sp_b, sp_isv, sp_i, sp_bin, sp_el]
theorem tX1_y23 {d : Nat} (hd : 1 ≤ d) {y : mj_X} {nt : sp_NT} {N M : Nat} {res par : Nat → Int32} (hN : N ≤ 4000) (h5 : y.1 5 = nt 3) (h9 : y.1 9 = res) (hM40 : M ≤ 40) (hW : sp_W nt N M par) (a b : Int32) (hr : ¬ sp_ty nt (sp_nd N) (sp_fr nt N) M res par 23 a b = -1) : kX1 (d + 1) 20 [.ref 0, .int 23, .int a, .int b] y = some (some (.int (sp_ty nt (sp_nd N) (sp_fr nt N) M res par 23 a b)), y) := by
  rw [wX1_typeOf_0_23 _ _ _ _ _ rfl]
  have hg : ∀ (k q : Int32) r, sp_fk nt (sp_fr nt N) k q = true → mj_g k 4000 r = r := fun k q r hq => mj_g_k (sp_nd_in hN (sp_fk_nd hq) (Nat.le_refl _)) r
  have hv : ∀ (k : Int32) r, ¬ sp_val nt (sp_fr nt N) k = 0 → mj_g k 4000 r = r := fun k r hq => mj_g_k (sp_nd_in hN (sp_val_nd hq) (Nat.le_refl _)) r
  have ht : ∀ (k : Int32) r, ¬ sp_tg nt (sp_fr nt N) k = 0 → mj_g k 4000 r = r := fun k r hq => mj_g_k (sp_nd_in hN (sp_tg_nd hq) (Nat.le_refl _)) r
  have hw : ∀ (k : Int32) r, sp_nd N k = true → mj_g k 4000 r = r := fun k r hq => mj_g_k (sp_nd_in hN hq (Nat.le_refl _)) r
  have f4 : ∀ k, ¬ sp_val nt (sp_fr nt N) k = 0 → nt 3 k.toNatClampNeg = sp_val nt (sp_fr nt N) k := fun k => sp_val_v
  have f6 : ∀ k, ¬ sp_tg nt (sp_fr nt N) k = 0 → nt 3 k.toNatClampNeg = sp_tg nt (sp_fr nt N) k ∧ sp_tg nt (sp_fr nt N) k = sp_val nt (sp_fr nt N) k := fun k => sp_tg_v hW.2.2
  have hc : ∀ (g m : Int32) r, sp_call nt (sp_fr nt N) M par m g = true → mj_g m 40 r = r := fun g m r hq => mj_g_k (sp_call_in hM40 hq) r
  simp only [bX1_typeOf_220, bX1_typeOf_222, bX1_typeOf_224, bX1_typeOf_234, bX1_typeOf_245, bX1_typeOf_247, bX1_typeOf_254, bX1_typeOf_261, bX1_typeOf_277, sX1_elementOf hd, mj_rI_k, h5, h9]
  simp only [sp_ty] at hr ⊢
  simp at hr ⊢ <;> grind [sp_b, sp_isv, sp_i, sp_bin, sp_el]
theorem tX1_y24 {d : Nat} (hd : 1 ≤ d) {y : mj_X} {nt : sp_NT} {N M : Nat} {res par : Nat → Int32} (hN : N ≤ 4000) (h5 : y.1 5 = nt 3) (h9 : y.1 9 = res) (hM40 : M ≤ 40) (hW : sp_W nt N M par) (a b : Int32) (hr : ¬ sp_ty nt (sp_nd N) (sp_fr nt N) M res par 24 a b = -1) : kX1 (d + 1) 20 [.ref 0, .int 24, .int a, .int b] y = some (some (.int (sp_ty nt (sp_nd N) (sp_fr nt N) M res par 24 a b)), y) := by
  rw [wX1_typeOf_0_24 _ _ _ _ _ rfl]
  have hg : ∀ (k q : Int32) r, sp_fk nt (sp_fr nt N) k q = true → mj_g k 4000 r = r := fun k q r hq => mj_g_k (sp_nd_in hN (sp_fk_nd hq) (Nat.le_refl _)) r
  have hv : ∀ (k : Int32) r, ¬ sp_val nt (sp_fr nt N) k = 0 → mj_g k 4000 r = r := fun k r hq => mj_g_k (sp_nd_in hN (sp_val_nd hq) (Nat.le_refl _)) r
  have ht : ∀ (k : Int32) r, ¬ sp_tg nt (sp_fr nt N) k = 0 → mj_g k 4000 r = r := fun k r hq => mj_g_k (sp_nd_in hN (sp_tg_nd hq) (Nat.le_refl _)) r
  have hw : ∀ (k : Int32) r, sp_nd N k = true → mj_g k 4000 r = r := fun k r hq => mj_g_k (sp_nd_in hN hq (Nat.le_refl _)) r
  have f4 : ∀ k, ¬ sp_val nt (sp_fr nt N) k = 0 → nt 3 k.toNatClampNeg = sp_val nt (sp_fr nt N) k := fun k => sp_val_v
  have f6 : ∀ k, ¬ sp_tg nt (sp_fr nt N) k = 0 → nt 3 k.toNatClampNeg = sp_tg nt (sp_fr nt N) k ∧ sp_tg nt (sp_fr nt N) k = sp_val nt (sp_fr nt N) k := fun k => sp_tg_v hW.2.2
  have hc : ∀ (g m : Int32) r, sp_call nt (sp_fr nt N) M par m g = true → mj_g m 40 r = r := fun g m r hq => mj_g_k (sp_call_in hM40 hq) r
  simp only [bX1_typeOf_220, bX1_typeOf_222, bX1_typeOf_224, bX1_typeOf_234, bX1_typeOf_245, bX1_typeOf_247, bX1_typeOf_254, bX1_typeOf_261, bX1_typeOf_277, sX1_elementOf hd, mj_rI_k, h5, h9]
  simp only [sp_ty] at hr ⊢
  simp at hr ⊢ <;> grind [sp_b, sp_isv, sp_i, sp_bin, sp_el]
theorem tX1_y25 {d : Nat} (hd : 1 ≤ d) {y : mj_X} {nt : sp_NT} {N M : Nat} {res par : Nat → Int32} (hN : N ≤ 4000) (h5 : y.1 5 = nt 3) (h9 : y.1 9 = res) (hM40 : M ≤ 40) (hW : sp_W nt N M par) (a b : Int32) (hr : ¬ sp_ty nt (sp_nd N) (sp_fr nt N) M res par 25 a b = -1) : kX1 (d + 1) 20 [.ref 0, .int 25, .int a, .int b] y = some (some (.int (sp_ty nt (sp_nd N) (sp_fr nt N) M res par 25 a b)), y) := by
  rw [wX1_typeOf_0_25 _ _ _ _ _ rfl]
  have hg : ∀ (k q : Int32) r, sp_fk nt (sp_fr nt N) k q = true → mj_g k 4000 r = r := fun k q r hq => mj_g_k (sp_nd_in hN (sp_fk_nd hq) (Nat.le_refl _)) r
  have hv : ∀ (k : Int32) r, ¬ sp_val nt (sp_fr nt N) k = 0 → mj_g k 4000 r = r := fun k r hq => mj_g_k (sp_nd_in hN (sp_val_nd hq) (Nat.le_refl _)) r
  have ht : ∀ (k : Int32) r, ¬ sp_tg nt (sp_fr nt N) k = 0 → mj_g k 4000 r = r := fun k r hq => mj_g_k (sp_nd_in hN (sp_tg_nd hq) (Nat.le_refl _)) r
  have hw : ∀ (k : Int32) r, sp_nd N k = true → mj_g k 4000 r = r := fun k r hq => mj_g_k (sp_nd_in hN hq (Nat.le_refl _)) r
  have f4 : ∀ k, ¬ sp_val nt (sp_fr nt N) k = 0 → nt 3 k.toNatClampNeg = sp_val nt (sp_fr nt N) k := fun k => sp_val_v
  have f6 : ∀ k, ¬ sp_tg nt (sp_fr nt N) k = 0 → nt 3 k.toNatClampNeg = sp_tg nt (sp_fr nt N) k ∧ sp_tg nt (sp_fr nt N) k = sp_val nt (sp_fr nt N) k := fun k => sp_tg_v hW.2.2
  have hc : ∀ (g m : Int32) r, sp_call nt (sp_fr nt N) M par m g = true → mj_g m 40 r = r := fun g m r hq => mj_g_k (sp_call_in hM40 hq) r
  simp only [bX1_typeOf_220, bX1_typeOf_222, bX1_typeOf_224, bX1_typeOf_234, bX1_typeOf_245, bX1_typeOf_247, bX1_typeOf_254, bX1_typeOf_261, bX1_typeOf_277, sX1_elementOf hd, mj_rI_k, h5, h9]
  simp only [sp_ty] at hr ⊢
  simp at hr ⊢ <;> grind [sp_b, sp_isv, sp_i, sp_bin, sp_el]
theorem tX1_y26 {d : Nat} (hd : 1 ≤ d) {y : mj_X} {nt : sp_NT} {N M : Nat} {res par : Nat → Int32} (hN : N ≤ 4000) (h5 : y.1 5 = nt 3) (h9 : y.1 9 = res) (hM40 : M ≤ 40) (hW : sp_W nt N M par) (a b : Int32) (hr : ¬ sp_ty nt (sp_nd N) (sp_fr nt N) M res par 26 a b = -1) : kX1 (d + 1) 20 [.ref 0, .int 26, .int a, .int b] y = some (some (.int (sp_ty nt (sp_nd N) (sp_fr nt N) M res par 26 a b)), y) := by
  rw [wX1_typeOf_0_26 _ _ _ _ _ rfl]
  have hg : ∀ (k q : Int32) r, sp_fk nt (sp_fr nt N) k q = true → mj_g k 4000 r = r := fun k q r hq => mj_g_k (sp_nd_in hN (sp_fk_nd hq) (Nat.le_refl _)) r
  have hv : ∀ (k : Int32) r, ¬ sp_val nt (sp_fr nt N) k = 0 → mj_g k 4000 r = r := fun k r hq => mj_g_k (sp_nd_in hN (sp_val_nd hq) (Nat.le_refl _)) r
  have ht : ∀ (k : Int32) r, ¬ sp_tg nt (sp_fr nt N) k = 0 → mj_g k 4000 r = r := fun k r hq => mj_g_k (sp_nd_in hN (sp_tg_nd hq) (Nat.le_refl _)) r
  have hw : ∀ (k : Int32) r, sp_nd N k = true → mj_g k 4000 r = r := fun k r hq => mj_g_k (sp_nd_in hN hq (Nat.le_refl _)) r
  have f4 : ∀ k, ¬ sp_val nt (sp_fr nt N) k = 0 → nt 3 k.toNatClampNeg = sp_val nt (sp_fr nt N) k := fun k => sp_val_v
  have f6 : ∀ k, ¬ sp_tg nt (sp_fr nt N) k = 0 → nt 3 k.toNatClampNeg = sp_tg nt (sp_fr nt N) k ∧ sp_tg nt (sp_fr nt N) k = sp_val nt (sp_fr nt N) k := fun k => sp_tg_v hW.2.2
  have hc : ∀ (g m : Int32) r, sp_call nt (sp_fr nt N) M par m g = true → mj_g m 40 r = r := fun g m r hq => mj_g_k (sp_call_in hM40 hq) r
  simp only [bX1_typeOf_220, bX1_typeOf_222, bX1_typeOf_224, bX1_typeOf_234, bX1_typeOf_245, bX1_typeOf_247, bX1_typeOf_254, bX1_typeOf_261, bX1_typeOf_277, sX1_elementOf hd, mj_rI_k, h5, h9]
  simp only [sp_ty] at hr ⊢
  simp at hr ⊢ <;> grind [sp_b, sp_isv, sp_i, sp_bin, sp_el]
theorem tX1_y27 {d : Nat} (hd : 1 ≤ d) {y : mj_X} {nt : sp_NT} {N M : Nat} {res par : Nat → Int32} (hN : N ≤ 4000) (h5 : y.1 5 = nt 3) (h9 : y.1 9 = res) (hM40 : M ≤ 40) (hW : sp_W nt N M par) (a b : Int32) (hr : ¬ sp_ty nt (sp_nd N) (sp_fr nt N) M res par 27 a b = -1) : kX1 (d + 1) 20 [.ref 0, .int 27, .int a, .int b] y = some (some (.int (sp_ty nt (sp_nd N) (sp_fr nt N) M res par 27 a b)), y) := by
  rw [wX1_typeOf_0_27 _ _ _ _ _ rfl]
  have hg : ∀ (k q : Int32) r, sp_fk nt (sp_fr nt N) k q = true → mj_g k 4000 r = r := fun k q r hq => mj_g_k (sp_nd_in hN (sp_fk_nd hq) (Nat.le_refl _)) r
  have hv : ∀ (k : Int32) r, ¬ sp_val nt (sp_fr nt N) k = 0 → mj_g k 4000 r = r := fun k r hq => mj_g_k (sp_nd_in hN (sp_val_nd hq) (Nat.le_refl _)) r
  have ht : ∀ (k : Int32) r, ¬ sp_tg nt (sp_fr nt N) k = 0 → mj_g k 4000 r = r := fun k r hq => mj_g_k (sp_nd_in hN (sp_tg_nd hq) (Nat.le_refl _)) r
  have hw : ∀ (k : Int32) r, sp_nd N k = true → mj_g k 4000 r = r := fun k r hq => mj_g_k (sp_nd_in hN hq (Nat.le_refl _)) r
  have f4 : ∀ k, ¬ sp_val nt (sp_fr nt N) k = 0 → nt 3 k.toNatClampNeg = sp_val nt (sp_fr nt N) k := fun k => sp_val_v
  have f6 : ∀ k, ¬ sp_tg nt (sp_fr nt N) k = 0 → nt 3 k.toNatClampNeg = sp_tg nt (sp_fr nt N) k ∧ sp_tg nt (sp_fr nt N) k = sp_val nt (sp_fr nt N) k := fun k => sp_tg_v hW.2.2
  have hc : ∀ (g m : Int32) r, sp_call nt (sp_fr nt N) M par m g = true → mj_g m 40 r = r := fun g m r hq => mj_g_k (sp_call_in hM40 hq) r
  simp only [bX1_typeOf_220, bX1_typeOf_222, bX1_typeOf_224, bX1_typeOf_234, bX1_typeOf_245, bX1_typeOf_247, bX1_typeOf_254, bX1_typeOf_261, bX1_typeOf_277, sX1_elementOf hd, mj_rI_k, h5, h9]
  simp only [sp_ty] at hr ⊢
  simp at hr ⊢ <;> grind [sp_b, sp_isv, sp_i, sp_bin, sp_el]
theorem tX1_y28 {d : Nat} (hd : 1 ≤ d) {y : mj_X} {nt : sp_NT} {N M : Nat} {res par : Nat → Int32} (hN : N ≤ 4000) (h5 : y.1 5 = nt 3) (h9 : y.1 9 = res) (hM40 : M ≤ 40) (hW : sp_W nt N M par) (a b : Int32) (hr : ¬ sp_ty nt (sp_nd N) (sp_fr nt N) M res par 28 a b = -1) : kX1 (d + 1) 20 [.ref 0, .int 28, .int a, .int b] y = some (some (.int (sp_ty nt (sp_nd N) (sp_fr nt N) M res par 28 a b)), y) := by
  rw [wX1_typeOf_0_28 _ _ _ _ _ rfl]
  have hg : ∀ (k q : Int32) r, sp_fk nt (sp_fr nt N) k q = true → mj_g k 4000 r = r := fun k q r hq => mj_g_k (sp_nd_in hN (sp_fk_nd hq) (Nat.le_refl _)) r
  have hv : ∀ (k : Int32) r, ¬ sp_val nt (sp_fr nt N) k = 0 → mj_g k 4000 r = r := fun k r hq => mj_g_k (sp_nd_in hN (sp_val_nd hq) (Nat.le_refl _)) r
  have ht : ∀ (k : Int32) r, ¬ sp_tg nt (sp_fr nt N) k = 0 → mj_g k 4000 r = r := fun k r hq => mj_g_k (sp_nd_in hN (sp_tg_nd hq) (Nat.le_refl _)) r
  have hw : ∀ (k : Int32) r, sp_nd N k = true → mj_g k 4000 r = r := fun k r hq => mj_g_k (sp_nd_in hN hq (Nat.le_refl _)) r
  have f4 : ∀ k, ¬ sp_val nt (sp_fr nt N) k = 0 → nt 3 k.toNatClampNeg = sp_val nt (sp_fr nt N) k := fun k => sp_val_v
  have f6 : ∀ k, ¬ sp_tg nt (sp_fr nt N) k = 0 → nt 3 k.toNatClampNeg = sp_tg nt (sp_fr nt N) k ∧ sp_tg nt (sp_fr nt N) k = sp_val nt (sp_fr nt N) k := fun k => sp_tg_v hW.2.2
  have hc : ∀ (g m : Int32) r, sp_call nt (sp_fr nt N) M par m g = true → mj_g m 40 r = r := fun g m r hq => mj_g_k (sp_call_in hM40 hq) r
  simp only [bX1_typeOf_220, bX1_typeOf_222, bX1_typeOf_224, bX1_typeOf_234, bX1_typeOf_245, bX1_typeOf_247, bX1_typeOf_254, bX1_typeOf_261, bX1_typeOf_277, sX1_elementOf hd, mj_rI_k, h5, h9]
  simp only [sp_ty] at hr ⊢
  simp at hr ⊢ <;> grind [sp_b, sp_isv, sp_i, sp_bin, sp_el]
theorem tX1_y29 {d : Nat} (hd : 1 ≤ d) {y : mj_X} {nt : sp_NT} {N M : Nat} {res par : Nat → Int32} (hN : N ≤ 4000) (h5 : y.1 5 = nt 3) (h9 : y.1 9 = res) (hM40 : M ≤ 40) (hW : sp_W nt N M par) (a b : Int32) (hr : ¬ sp_ty nt (sp_nd N) (sp_fr nt N) M res par 29 a b = -1) : kX1 (d + 1) 20 [.ref 0, .int 29, .int a, .int b] y = some (some (.int (sp_ty nt (sp_nd N) (sp_fr nt N) M res par 29 a b)), y) := by
  rw [wX1_typeOf_0_29 _ _ _ _ _ rfl]
  have hg : ∀ (k q : Int32) r, sp_fk nt (sp_fr nt N) k q = true → mj_g k 4000 r = r := fun k q r hq => mj_g_k (sp_nd_in hN (sp_fk_nd hq) (Nat.le_refl _)) r
  have hv : ∀ (k : Int32) r, ¬ sp_val nt (sp_fr nt N) k = 0 → mj_g k 4000 r = r := fun k r hq => mj_g_k (sp_nd_in hN (sp_val_nd hq) (Nat.le_refl _)) r
  have ht : ∀ (k : Int32) r, ¬ sp_tg nt (sp_fr nt N) k = 0 → mj_g k 4000 r = r := fun k r hq => mj_g_k (sp_nd_in hN (sp_tg_nd hq) (Nat.le_refl _)) r
  have hw : ∀ (k : Int32) r, sp_nd N k = true → mj_g k 4000 r = r := fun k r hq => mj_g_k (sp_nd_in hN hq (Nat.le_refl _)) r
  have f4 : ∀ k, ¬ sp_val nt (sp_fr nt N) k = 0 → nt 3 k.toNatClampNeg = sp_val nt (sp_fr nt N) k := fun k => sp_val_v
  have f6 : ∀ k, ¬ sp_tg nt (sp_fr nt N) k = 0 → nt 3 k.toNatClampNeg = sp_tg nt (sp_fr nt N) k ∧ sp_tg nt (sp_fr nt N) k = sp_val nt (sp_fr nt N) k := fun k => sp_tg_v hW.2.2
  have hc : ∀ (g m : Int32) r, sp_call nt (sp_fr nt N) M par m g = true → mj_g m 40 r = r := fun g m r hq => mj_g_k (sp_call_in hM40 hq) r
  simp only [bX1_typeOf_220, bX1_typeOf_222, bX1_typeOf_224, bX1_typeOf_234, bX1_typeOf_245, bX1_typeOf_247, bX1_typeOf_254, bX1_typeOf_261, bX1_typeOf_277, sX1_elementOf hd, mj_rI_k, h5, h9]
  simp only [sp_ty] at hr ⊢
  simp at hr ⊢ <;> grind [sp_b, sp_isv, sp_i, sp_bin, sp_el]
theorem tX1_y30 {d : Nat} (hd : 1 ≤ d) {y : mj_X} {nt : sp_NT} {N M : Nat} {res par : Nat → Int32} (hN : N ≤ 4000) (h5 : y.1 5 = nt 3) (h9 : y.1 9 = res) (hM40 : M ≤ 40) (hW : sp_W nt N M par) (a b : Int32) (hr : ¬ sp_ty nt (sp_nd N) (sp_fr nt N) M res par 30 a b = -1) : kX1 (d + 1) 20 [.ref 0, .int 30, .int a, .int b] y = some (some (.int (sp_ty nt (sp_nd N) (sp_fr nt N) M res par 30 a b)), y) := by
  rw [wX1_typeOf_0_30 _ _ _ _ _ rfl]
  have hg : ∀ (k q : Int32) r, sp_fk nt (sp_fr nt N) k q = true → mj_g k 4000 r = r := fun k q r hq => mj_g_k (sp_nd_in hN (sp_fk_nd hq) (Nat.le_refl _)) r
  have hv : ∀ (k : Int32) r, ¬ sp_val nt (sp_fr nt N) k = 0 → mj_g k 4000 r = r := fun k r hq => mj_g_k (sp_nd_in hN (sp_val_nd hq) (Nat.le_refl _)) r
  have ht : ∀ (k : Int32) r, ¬ sp_tg nt (sp_fr nt N) k = 0 → mj_g k 4000 r = r := fun k r hq => mj_g_k (sp_nd_in hN (sp_tg_nd hq) (Nat.le_refl _)) r
  have hw : ∀ (k : Int32) r, sp_nd N k = true → mj_g k 4000 r = r := fun k r hq => mj_g_k (sp_nd_in hN hq (Nat.le_refl _)) r
  have f4 : ∀ k, ¬ sp_val nt (sp_fr nt N) k = 0 → nt 3 k.toNatClampNeg = sp_val nt (sp_fr nt N) k := fun k => sp_val_v
  have f6 : ∀ k, ¬ sp_tg nt (sp_fr nt N) k = 0 → nt 3 k.toNatClampNeg = sp_tg nt (sp_fr nt N) k ∧ sp_tg nt (sp_fr nt N) k = sp_val nt (sp_fr nt N) k := fun k => sp_tg_v hW.2.2
  have hc : ∀ (g m : Int32) r, sp_call nt (sp_fr nt N) M par m g = true → mj_g m 40 r = r := fun g m r hq => mj_g_k (sp_call_in hM40 hq) r
  simp only [bX1_typeOf_220, bX1_typeOf_222, bX1_typeOf_224, bX1_typeOf_234, bX1_typeOf_245, bX1_typeOf_247, bX1_typeOf_254, bX1_typeOf_261, bX1_typeOf_277, sX1_elementOf hd, mj_rI_k, h5, h9]
  simp only [sp_ty] at hr ⊢
  simp at hr ⊢ <;> grind [sp_b, sp_isv, sp_i, sp_bin, sp_el]
theorem tX1_y31 {d : Nat} (hd : 1 ≤ d) {y : mj_X} {nt : sp_NT} {N M : Nat} {res par : Nat → Int32} (hN : N ≤ 4000) (h5 : y.1 5 = nt 3) (h9 : y.1 9 = res) (hM40 : M ≤ 40) (hW : sp_W nt N M par) (a b : Int32) (hr : ¬ sp_ty nt (sp_nd N) (sp_fr nt N) M res par 31 a b = -1) : kX1 (d + 1) 20 [.ref 0, .int 31, .int a, .int b] y = some (some (.int (sp_ty nt (sp_nd N) (sp_fr nt N) M res par 31 a b)), y) := by
  rw [wX1_typeOf_0_31 _ _ _ _ _ rfl]
  have hg : ∀ (k q : Int32) r, sp_fk nt (sp_fr nt N) k q = true → mj_g k 4000 r = r := fun k q r hq => mj_g_k (sp_nd_in hN (sp_fk_nd hq) (Nat.le_refl _)) r
  have hv : ∀ (k : Int32) r, ¬ sp_val nt (sp_fr nt N) k = 0 → mj_g k 4000 r = r := fun k r hq => mj_g_k (sp_nd_in hN (sp_val_nd hq) (Nat.le_refl _)) r
  have ht : ∀ (k : Int32) r, ¬ sp_tg nt (sp_fr nt N) k = 0 → mj_g k 4000 r = r := fun k r hq => mj_g_k (sp_nd_in hN (sp_tg_nd hq) (Nat.le_refl _)) r
  have hw : ∀ (k : Int32) r, sp_nd N k = true → mj_g k 4000 r = r := fun k r hq => mj_g_k (sp_nd_in hN hq (Nat.le_refl _)) r
  have f4 : ∀ k, ¬ sp_val nt (sp_fr nt N) k = 0 → nt 3 k.toNatClampNeg = sp_val nt (sp_fr nt N) k := fun k => sp_val_v
  have f6 : ∀ k, ¬ sp_tg nt (sp_fr nt N) k = 0 → nt 3 k.toNatClampNeg = sp_tg nt (sp_fr nt N) k ∧ sp_tg nt (sp_fr nt N) k = sp_val nt (sp_fr nt N) k := fun k => sp_tg_v hW.2.2
  have hc : ∀ (g m : Int32) r, sp_call nt (sp_fr nt N) M par m g = true → mj_g m 40 r = r := fun g m r hq => mj_g_k (sp_call_in hM40 hq) r
  simp only [bX1_typeOf_220, bX1_typeOf_222, bX1_typeOf_224, bX1_typeOf_234, bX1_typeOf_245, bX1_typeOf_247, bX1_typeOf_254, bX1_typeOf_261, bX1_typeOf_277, sX1_elementOf hd, mj_rI_k, h5, h9]
  simp only [sp_ty] at hr ⊢
  simp at hr ⊢ <;> grind [sp_b, sp_isv, sp_i, sp_bin, sp_el]
theorem tX1_y32 {d : Nat} (hd : 1 ≤ d) {y : mj_X} {nt : sp_NT} {N M : Nat} {res par : Nat → Int32} (hN : N ≤ 4000) (h5 : y.1 5 = nt 3) (h9 : y.1 9 = res) (hM40 : M ≤ 40) (hW : sp_W nt N M par) (a b : Int32) (hr : ¬ sp_ty nt (sp_nd N) (sp_fr nt N) M res par 32 a b = -1) : kX1 (d + 1) 20 [.ref 0, .int 32, .int a, .int b] y = some (some (.int (sp_ty nt (sp_nd N) (sp_fr nt N) M res par 32 a b)), y) := by
  rw [wX1_typeOf_0_32 _ _ _ _ _ rfl]
  have hg : ∀ (k q : Int32) r, sp_fk nt (sp_fr nt N) k q = true → mj_g k 4000 r = r := fun k q r hq => mj_g_k (sp_nd_in hN (sp_fk_nd hq) (Nat.le_refl _)) r
  have hv : ∀ (k : Int32) r, ¬ sp_val nt (sp_fr nt N) k = 0 → mj_g k 4000 r = r := fun k r hq => mj_g_k (sp_nd_in hN (sp_val_nd hq) (Nat.le_refl _)) r
  have ht : ∀ (k : Int32) r, ¬ sp_tg nt (sp_fr nt N) k = 0 → mj_g k 4000 r = r := fun k r hq => mj_g_k (sp_nd_in hN (sp_tg_nd hq) (Nat.le_refl _)) r
  have hw : ∀ (k : Int32) r, sp_nd N k = true → mj_g k 4000 r = r := fun k r hq => mj_g_k (sp_nd_in hN hq (Nat.le_refl _)) r
  have f4 : ∀ k, ¬ sp_val nt (sp_fr nt N) k = 0 → nt 3 k.toNatClampNeg = sp_val nt (sp_fr nt N) k := fun k => sp_val_v
  have f6 : ∀ k, ¬ sp_tg nt (sp_fr nt N) k = 0 → nt 3 k.toNatClampNeg = sp_tg nt (sp_fr nt N) k ∧ sp_tg nt (sp_fr nt N) k = sp_val nt (sp_fr nt N) k := fun k => sp_tg_v hW.2.2
  have hc : ∀ (g m : Int32) r, sp_call nt (sp_fr nt N) M par m g = true → mj_g m 40 r = r := fun g m r hq => mj_g_k (sp_call_in hM40 hq) r
  simp only [bX1_typeOf_220, bX1_typeOf_222, bX1_typeOf_224, bX1_typeOf_234, bX1_typeOf_245, bX1_typeOf_247, bX1_typeOf_254, bX1_typeOf_261, bX1_typeOf_277, sX1_elementOf hd, mj_rI_k, h5, h9]
  simp only [sp_ty] at hr ⊢
  simp at hr ⊢ <;> grind [sp_b, sp_isv, sp_i, sp_bin, sp_el]
theorem tX1_y33 {d : Nat} (hd : 1 ≤ d) {y : mj_X} {nt : sp_NT} {N M : Nat} {res par : Nat → Int32} (hN : N ≤ 4000) (h5 : y.1 5 = nt 3) (h9 : y.1 9 = res) (hM40 : M ≤ 40) (hW : sp_W nt N M par) (a b : Int32) (hr : ¬ sp_ty nt (sp_nd N) (sp_fr nt N) M res par 33 a b = -1) : kX1 (d + 1) 20 [.ref 0, .int 33, .int a, .int b] y = some (some (.int (sp_ty nt (sp_nd N) (sp_fr nt N) M res par 33 a b)), y) := by
  rw [wX1_typeOf_0_33 _ _ _ _ _ rfl]
  have hg : ∀ (k q : Int32) r, sp_fk nt (sp_fr nt N) k q = true → mj_g k 4000 r = r := fun k q r hq => mj_g_k (sp_nd_in hN (sp_fk_nd hq) (Nat.le_refl _)) r
  have hv : ∀ (k : Int32) r, ¬ sp_val nt (sp_fr nt N) k = 0 → mj_g k 4000 r = r := fun k r hq => mj_g_k (sp_nd_in hN (sp_val_nd hq) (Nat.le_refl _)) r
  have ht : ∀ (k : Int32) r, ¬ sp_tg nt (sp_fr nt N) k = 0 → mj_g k 4000 r = r := fun k r hq => mj_g_k (sp_nd_in hN (sp_tg_nd hq) (Nat.le_refl _)) r
  have hw : ∀ (k : Int32) r, sp_nd N k = true → mj_g k 4000 r = r := fun k r hq => mj_g_k (sp_nd_in hN hq (Nat.le_refl _)) r
  have f4 : ∀ k, ¬ sp_val nt (sp_fr nt N) k = 0 → nt 3 k.toNatClampNeg = sp_val nt (sp_fr nt N) k := fun k => sp_val_v
  have f6 : ∀ k, ¬ sp_tg nt (sp_fr nt N) k = 0 → nt 3 k.toNatClampNeg = sp_tg nt (sp_fr nt N) k ∧ sp_tg nt (sp_fr nt N) k = sp_val nt (sp_fr nt N) k := fun k => sp_tg_v hW.2.2
  have hc : ∀ (g m : Int32) r, sp_call nt (sp_fr nt N) M par m g = true → mj_g m 40 r = r := fun g m r hq => mj_g_k (sp_call_in hM40 hq) r
  simp only [bX1_typeOf_220, bX1_typeOf_222, bX1_typeOf_224, bX1_typeOf_234, bX1_typeOf_245, bX1_typeOf_247, bX1_typeOf_254, bX1_typeOf_261, bX1_typeOf_277, sX1_elementOf hd, mj_rI_k, h5, h9]
  simp only [sp_ty] at hr ⊢
  simp at hr ⊢ <;> grind [sp_b, sp_isv, sp_i, sp_bin, sp_el]
theorem tX1_y34 {d : Nat} (hd : 1 ≤ d) {y : mj_X} {nt : sp_NT} {N M : Nat} {res par : Nat → Int32} (hN : N ≤ 4000) (h5 : y.1 5 = nt 3) (h9 : y.1 9 = res) (hM40 : M ≤ 40) (hW : sp_W nt N M par) (a b : Int32) (hr : ¬ sp_ty nt (sp_nd N) (sp_fr nt N) M res par 34 a b = -1) : kX1 (d + 1) 20 [.ref 0, .int 34, .int a, .int b] y = some (some (.int (sp_ty nt (sp_nd N) (sp_fr nt N) M res par 34 a b)), y) := by
  rw [wX1_typeOf_0_34 _ _ _ _ _ rfl]
  have hg : ∀ (k q : Int32) r, sp_fk nt (sp_fr nt N) k q = true → mj_g k 4000 r = r := fun k q r hq => mj_g_k (sp_nd_in hN (sp_fk_nd hq) (Nat.le_refl _)) r
  have hv : ∀ (k : Int32) r, ¬ sp_val nt (sp_fr nt N) k = 0 → mj_g k 4000 r = r := fun k r hq => mj_g_k (sp_nd_in hN (sp_val_nd hq) (Nat.le_refl _)) r
  have ht : ∀ (k : Int32) r, ¬ sp_tg nt (sp_fr nt N) k = 0 → mj_g k 4000 r = r := fun k r hq => mj_g_k (sp_nd_in hN (sp_tg_nd hq) (Nat.le_refl _)) r
  have hw : ∀ (k : Int32) r, sp_nd N k = true → mj_g k 4000 r = r := fun k r hq => mj_g_k (sp_nd_in hN hq (Nat.le_refl _)) r
  have f4 : ∀ k, ¬ sp_val nt (sp_fr nt N) k = 0 → nt 3 k.toNatClampNeg = sp_val nt (sp_fr nt N) k := fun k => sp_val_v
  have f6 : ∀ k, ¬ sp_tg nt (sp_fr nt N) k = 0 → nt 3 k.toNatClampNeg = sp_tg nt (sp_fr nt N) k ∧ sp_tg nt (sp_fr nt N) k = sp_val nt (sp_fr nt N) k := fun k => sp_tg_v hW.2.2
  have hc : ∀ (g m : Int32) r, sp_call nt (sp_fr nt N) M par m g = true → mj_g m 40 r = r := fun g m r hq => mj_g_k (sp_call_in hM40 hq) r
  simp only [bX1_typeOf_220, bX1_typeOf_222, bX1_typeOf_224, bX1_typeOf_234, bX1_typeOf_245, bX1_typeOf_247, bX1_typeOf_254, bX1_typeOf_261, bX1_typeOf_277, sX1_elementOf hd, mj_rI_k, h5, h9]
  simp only [sp_ty] at hr ⊢
  simp at hr ⊢ <;> grind [sp_b, sp_isv, sp_i, sp_bin, sp_el]
theorem tX1_y35 {d : Nat} (hd : 1 ≤ d) {y : mj_X} {nt : sp_NT} {N M : Nat} {res par : Nat → Int32} (hN : N ≤ 4000) (h5 : y.1 5 = nt 3) (h9 : y.1 9 = res) (hM40 : M ≤ 40) (hW : sp_W nt N M par) (a b : Int32) (hr : ¬ sp_ty nt (sp_nd N) (sp_fr nt N) M res par 35 a b = -1) : kX1 (d + 1) 20 [.ref 0, .int 35, .int a, .int b] y = some (some (.int (sp_ty nt (sp_nd N) (sp_fr nt N) M res par 35 a b)), y) := by
  rw [wX1_typeOf_0_35 _ _ _ _ _ rfl]
  have hg : ∀ (k q : Int32) r, sp_fk nt (sp_fr nt N) k q = true → mj_g k 4000 r = r := fun k q r hq => mj_g_k (sp_nd_in hN (sp_fk_nd hq) (Nat.le_refl _)) r
  have hv : ∀ (k : Int32) r, ¬ sp_val nt (sp_fr nt N) k = 0 → mj_g k 4000 r = r := fun k r hq => mj_g_k (sp_nd_in hN (sp_val_nd hq) (Nat.le_refl _)) r
  have ht : ∀ (k : Int32) r, ¬ sp_tg nt (sp_fr nt N) k = 0 → mj_g k 4000 r = r := fun k r hq => mj_g_k (sp_nd_in hN (sp_tg_nd hq) (Nat.le_refl _)) r
  have hw : ∀ (k : Int32) r, sp_nd N k = true → mj_g k 4000 r = r := fun k r hq => mj_g_k (sp_nd_in hN hq (Nat.le_refl _)) r
  have f4 : ∀ k, ¬ sp_val nt (sp_fr nt N) k = 0 → nt 3 k.toNatClampNeg = sp_val nt (sp_fr nt N) k := fun k => sp_val_v
  have f6 : ∀ k, ¬ sp_tg nt (sp_fr nt N) k = 0 → nt 3 k.toNatClampNeg = sp_tg nt (sp_fr nt N) k ∧ sp_tg nt (sp_fr nt N) k = sp_val nt (sp_fr nt N) k := fun k => sp_tg_v hW.2.2
  have hc : ∀ (g m : Int32) r, sp_call nt (sp_fr nt N) M par m g = true → mj_g m 40 r = r := fun g m r hq => mj_g_k (sp_call_in hM40 hq) r
  simp only [bX1_typeOf_220, bX1_typeOf_222, bX1_typeOf_224, bX1_typeOf_234, bX1_typeOf_245, bX1_typeOf_247, bX1_typeOf_254, bX1_typeOf_261, bX1_typeOf_277, sX1_elementOf hd, mj_rI_k, h5, h9]
  simp only [sp_ty] at hr ⊢
  simp at hr ⊢ <;> grind [sp_b, sp_isv, sp_i, sp_bin, sp_el]
theorem tX1_y36 {d : Nat} (hd : 1 ≤ d) {y : mj_X} {nt : sp_NT} {N M : Nat} {res par : Nat → Int32} (hN : N ≤ 4000) (h5 : y.1 5 = nt 3) (h9 : y.1 9 = res) (hM40 : M ≤ 40) (hW : sp_W nt N M par) (a b : Int32) (hr : ¬ sp_ty nt (sp_nd N) (sp_fr nt N) M res par 36 a b = -1) : kX1 (d + 1) 20 [.ref 0, .int 36, .int a, .int b] y = some (some (.int (sp_ty nt (sp_nd N) (sp_fr nt N) M res par 36 a b)), y) := by
  rw [wX1_typeOf_0_36 _ _ _ _ _ rfl]
  have hg : ∀ (k q : Int32) r, sp_fk nt (sp_fr nt N) k q = true → mj_g k 4000 r = r := fun k q r hq => mj_g_k (sp_nd_in hN (sp_fk_nd hq) (Nat.le_refl _)) r
  have hv : ∀ (k : Int32) r, ¬ sp_val nt (sp_fr nt N) k = 0 → mj_g k 4000 r = r := fun k r hq => mj_g_k (sp_nd_in hN (sp_val_nd hq) (Nat.le_refl _)) r
  have ht : ∀ (k : Int32) r, ¬ sp_tg nt (sp_fr nt N) k = 0 → mj_g k 4000 r = r := fun k r hq => mj_g_k (sp_nd_in hN (sp_tg_nd hq) (Nat.le_refl _)) r
  have hw : ∀ (k : Int32) r, sp_nd N k = true → mj_g k 4000 r = r := fun k r hq => mj_g_k (sp_nd_in hN hq (Nat.le_refl _)) r
  have f4 : ∀ k, ¬ sp_val nt (sp_fr nt N) k = 0 → nt 3 k.toNatClampNeg = sp_val nt (sp_fr nt N) k := fun k => sp_val_v
  have f6 : ∀ k, ¬ sp_tg nt (sp_fr nt N) k = 0 → nt 3 k.toNatClampNeg = sp_tg nt (sp_fr nt N) k ∧ sp_tg nt (sp_fr nt N) k = sp_val nt (sp_fr nt N) k := fun k => sp_tg_v hW.2.2
  have hc : ∀ (g m : Int32) r, sp_call nt (sp_fr nt N) M par m g = true → mj_g m 40 r = r := fun g m r hq => mj_g_k (sp_call_in hM40 hq) r
  simp only [bX1_typeOf_220, bX1_typeOf_222, bX1_typeOf_224, bX1_typeOf_234, bX1_typeOf_245, bX1_typeOf_247, bX1_typeOf_254, bX1_typeOf_261, bX1_typeOf_277, sX1_elementOf hd, mj_rI_k, h5, h9]
  simp only [sp_ty] at hr ⊢
  simp at hr ⊢ <;> grind [sp_b, sp_isv, sp_i, sp_bin, sp_el]
theorem tX1_y37 {d : Nat} (hd : 1 ≤ d) {y : mj_X} {nt : sp_NT} {N M : Nat} {res par : Nat → Int32} (hN : N ≤ 4000) (h5 : y.1 5 = nt 3) (h9 : y.1 9 = res) (hM40 : M ≤ 40) (hW : sp_W nt N M par) (a b : Int32) (hr : ¬ sp_ty nt (sp_nd N) (sp_fr nt N) M res par 37 a b = -1) : kX1 (d + 1) 20 [.ref 0, .int 37, .int a, .int b] y = some (some (.int (sp_ty nt (sp_nd N) (sp_fr nt N) M res par 37 a b)), y) := by
  rw [wX1_typeOf_0_37 _ _ _ _ _ rfl]
  have hg : ∀ (k q : Int32) r, sp_fk nt (sp_fr nt N) k q = true → mj_g k 4000 r = r := fun k q r hq => mj_g_k (sp_nd_in hN (sp_fk_nd hq) (Nat.le_refl _)) r
  have hv : ∀ (k : Int32) r, ¬ sp_val nt (sp_fr nt N) k = 0 → mj_g k 4000 r = r := fun k r hq => mj_g_k (sp_nd_in hN (sp_val_nd hq) (Nat.le_refl _)) r
  have ht : ∀ (k : Int32) r, ¬ sp_tg nt (sp_fr nt N) k = 0 → mj_g k 4000 r = r := fun k r hq => mj_g_k (sp_nd_in hN (sp_tg_nd hq) (Nat.le_refl _)) r
  have hw : ∀ (k : Int32) r, sp_nd N k = true → mj_g k 4000 r = r := fun k r hq => mj_g_k (sp_nd_in hN hq (Nat.le_refl _)) r
  have f4 : ∀ k, ¬ sp_val nt (sp_fr nt N) k = 0 → nt 3 k.toNatClampNeg = sp_val nt (sp_fr nt N) k := fun k => sp_val_v
  have f6 : ∀ k, ¬ sp_tg nt (sp_fr nt N) k = 0 → nt 3 k.toNatClampNeg = sp_tg nt (sp_fr nt N) k ∧ sp_tg nt (sp_fr nt N) k = sp_val nt (sp_fr nt N) k := fun k => sp_tg_v hW.2.2
  have hc : ∀ (g m : Int32) r, sp_call nt (sp_fr nt N) M par m g = true → mj_g m 40 r = r := fun g m r hq => mj_g_k (sp_call_in hM40 hq) r
  simp only [bX1_typeOf_220, bX1_typeOf_222, bX1_typeOf_224, bX1_typeOf_234, bX1_typeOf_245, bX1_typeOf_247, bX1_typeOf_254, bX1_typeOf_261, bX1_typeOf_277, sX1_elementOf hd, mj_rI_k, h5, h9]
  simp only [sp_ty] at hr ⊢
  simp at hr ⊢ <;> grind [sp_b, sp_isv, sp_i, sp_bin, sp_el]
theorem tX1_y38 {d : Nat} (hd : 1 ≤ d) {y : mj_X} {nt : sp_NT} {N M : Nat} {res par : Nat → Int32} (hN : N ≤ 4000) (h5 : y.1 5 = nt 3) (h9 : y.1 9 = res) (hM40 : M ≤ 40) (hW : sp_W nt N M par) (a b : Int32) (hr : ¬ sp_ty nt (sp_nd N) (sp_fr nt N) M res par 38 a b = -1) : kX1 (d + 1) 20 [.ref 0, .int 38, .int a, .int b] y = some (some (.int (sp_ty nt (sp_nd N) (sp_fr nt N) M res par 38 a b)), y) := by
  rw [wX1_typeOf_0_38 _ _ _ _ _ rfl]
  have hg : ∀ (k q : Int32) r, sp_fk nt (sp_fr nt N) k q = true → mj_g k 4000 r = r := fun k q r hq => mj_g_k (sp_nd_in hN (sp_fk_nd hq) (Nat.le_refl _)) r
  have hv : ∀ (k : Int32) r, ¬ sp_val nt (sp_fr nt N) k = 0 → mj_g k 4000 r = r := fun k r hq => mj_g_k (sp_nd_in hN (sp_val_nd hq) (Nat.le_refl _)) r
  have ht : ∀ (k : Int32) r, ¬ sp_tg nt (sp_fr nt N) k = 0 → mj_g k 4000 r = r := fun k r hq => mj_g_k (sp_nd_in hN (sp_tg_nd hq) (Nat.le_refl _)) r
  have hw : ∀ (k : Int32) r, sp_nd N k = true → mj_g k 4000 r = r := fun k r hq => mj_g_k (sp_nd_in hN hq (Nat.le_refl _)) r
  have f4 : ∀ k, ¬ sp_val nt (sp_fr nt N) k = 0 → nt 3 k.toNatClampNeg = sp_val nt (sp_fr nt N) k := fun k => sp_val_v
  have f6 : ∀ k, ¬ sp_tg nt (sp_fr nt N) k = 0 → nt 3 k.toNatClampNeg = sp_tg nt (sp_fr nt N) k ∧ sp_tg nt (sp_fr nt N) k = sp_val nt (sp_fr nt N) k := fun k => sp_tg_v hW.2.2
  have hc : ∀ (g m : Int32) r, sp_call nt (sp_fr nt N) M par m g = true → mj_g m 40 r = r := fun g m r hq => mj_g_k (sp_call_in hM40 hq) r
  simp only [bX1_typeOf_220, bX1_typeOf_222, bX1_typeOf_224, bX1_typeOf_234, bX1_typeOf_245, bX1_typeOf_247, bX1_typeOf_254, bX1_typeOf_261, bX1_typeOf_277, sX1_elementOf hd, mj_rI_k, h5, h9]
  simp only [sp_ty] at hr ⊢
  simp at hr ⊢ <;> grind [sp_b, sp_isv, sp_i, sp_bin, sp_el]
theorem tX1_y39 {d : Nat} (hd : 1 ≤ d) {y : mj_X} {nt : sp_NT} {N M : Nat} {res par : Nat → Int32} (hN : N ≤ 4000) (h5 : y.1 5 = nt 3) (h9 : y.1 9 = res) (hM40 : M ≤ 40) (hW : sp_W nt N M par) (a b : Int32) (hr : ¬ sp_ty nt (sp_nd N) (sp_fr nt N) M res par 39 a b = -1) : kX1 (d + 1) 20 [.ref 0, .int 39, .int a, .int b] y = some (some (.int (sp_ty nt (sp_nd N) (sp_fr nt N) M res par 39 a b)), y) := by
  rw [wX1_typeOf_0_39 _ _ _ _ _ rfl]
  have hg : ∀ (k q : Int32) r, sp_fk nt (sp_fr nt N) k q = true → mj_g k 4000 r = r := fun k q r hq => mj_g_k (sp_nd_in hN (sp_fk_nd hq) (Nat.le_refl _)) r
  have hv : ∀ (k : Int32) r, ¬ sp_val nt (sp_fr nt N) k = 0 → mj_g k 4000 r = r := fun k r hq => mj_g_k (sp_nd_in hN (sp_val_nd hq) (Nat.le_refl _)) r
  have ht : ∀ (k : Int32) r, ¬ sp_tg nt (sp_fr nt N) k = 0 → mj_g k 4000 r = r := fun k r hq => mj_g_k (sp_nd_in hN (sp_tg_nd hq) (Nat.le_refl _)) r
  have hw : ∀ (k : Int32) r, sp_nd N k = true → mj_g k 4000 r = r := fun k r hq => mj_g_k (sp_nd_in hN hq (Nat.le_refl _)) r
  have f4 : ∀ k, ¬ sp_val nt (sp_fr nt N) k = 0 → nt 3 k.toNatClampNeg = sp_val nt (sp_fr nt N) k := fun k => sp_val_v
  have f6 : ∀ k, ¬ sp_tg nt (sp_fr nt N) k = 0 → nt 3 k.toNatClampNeg = sp_tg nt (sp_fr nt N) k ∧ sp_tg nt (sp_fr nt N) k = sp_val nt (sp_fr nt N) k := fun k => sp_tg_v hW.2.2
  have hc : ∀ (g m : Int32) r, sp_call nt (sp_fr nt N) M par m g = true → mj_g m 40 r = r := fun g m r hq => mj_g_k (sp_call_in hM40 hq) r
  simp only [bX1_typeOf_220, bX1_typeOf_222, bX1_typeOf_224, bX1_typeOf_234, bX1_typeOf_245, bX1_typeOf_247, bX1_typeOf_254, bX1_typeOf_261, bX1_typeOf_277, sX1_elementOf hd, mj_rI_k, h5, h9]
  simp only [sp_ty] at hr ⊢
  simp at hr ⊢ <;> grind [sp_b, sp_isv, sp_i, sp_bin, sp_el]
theorem tX1_y40 {d : Nat} (hd : 1 ≤ d) {y : mj_X} {nt : sp_NT} {N M : Nat} {res par : Nat → Int32} (hN : N ≤ 4000) (h5 : y.1 5 = nt 3) (h9 : y.1 9 = res) (hM40 : M ≤ 40) (hW : sp_W nt N M par) (a b : Int32) (hr : ¬ sp_ty nt (sp_nd N) (sp_fr nt N) M res par 40 a b = -1) : kX1 (d + 1) 20 [.ref 0, .int 40, .int a, .int b] y = some (some (.int (sp_ty nt (sp_nd N) (sp_fr nt N) M res par 40 a b)), y) := by
  rw [wX1_typeOf_0_40 _ _ _ _ _ rfl]
  have hg : ∀ (k q : Int32) r, sp_fk nt (sp_fr nt N) k q = true → mj_g k 4000 r = r := fun k q r hq => mj_g_k (sp_nd_in hN (sp_fk_nd hq) (Nat.le_refl _)) r
  have hv : ∀ (k : Int32) r, ¬ sp_val nt (sp_fr nt N) k = 0 → mj_g k 4000 r = r := fun k r hq => mj_g_k (sp_nd_in hN (sp_val_nd hq) (Nat.le_refl _)) r
  have ht : ∀ (k : Int32) r, ¬ sp_tg nt (sp_fr nt N) k = 0 → mj_g k 4000 r = r := fun k r hq => mj_g_k (sp_nd_in hN (sp_tg_nd hq) (Nat.le_refl _)) r
  have hw : ∀ (k : Int32) r, sp_nd N k = true → mj_g k 4000 r = r := fun k r hq => mj_g_k (sp_nd_in hN hq (Nat.le_refl _)) r
  have f4 : ∀ k, ¬ sp_val nt (sp_fr nt N) k = 0 → nt 3 k.toNatClampNeg = sp_val nt (sp_fr nt N) k := fun k => sp_val_v
  have f6 : ∀ k, ¬ sp_tg nt (sp_fr nt N) k = 0 → nt 3 k.toNatClampNeg = sp_tg nt (sp_fr nt N) k ∧ sp_tg nt (sp_fr nt N) k = sp_val nt (sp_fr nt N) k := fun k => sp_tg_v hW.2.2
  have hc : ∀ (g m : Int32) r, sp_call nt (sp_fr nt N) M par m g = true → mj_g m 40 r = r := fun g m r hq => mj_g_k (sp_call_in hM40 hq) r
  simp only [bX1_typeOf_220, bX1_typeOf_222, bX1_typeOf_224, bX1_typeOf_234, bX1_typeOf_245, bX1_typeOf_247, bX1_typeOf_254, bX1_typeOf_261, bX1_typeOf_277, sX1_elementOf hd, mj_rI_k, h5, h9]
  simp only [sp_ty] at hr ⊢
  simp at hr ⊢ <;> grind [sp_b, sp_isv, sp_i, sp_bin, sp_el]
theorem tX1_y41 {d : Nat} (hd : 1 ≤ d) {y : mj_X} {nt : sp_NT} {N M : Nat} {res par : Nat → Int32} (hN : N ≤ 4000) (h5 : y.1 5 = nt 3) (h9 : y.1 9 = res) (hM40 : M ≤ 40) (hW : sp_W nt N M par) (a b : Int32) (hr : ¬ sp_ty nt (sp_nd N) (sp_fr nt N) M res par 41 a b = -1) : kX1 (d + 1) 20 [.ref 0, .int 41, .int a, .int b] y = some (some (.int (sp_ty nt (sp_nd N) (sp_fr nt N) M res par 41 a b)), y) := by
  rw [wX1_typeOf_0_41 _ _ _ _ _ rfl]
  have hg : ∀ (k q : Int32) r, sp_fk nt (sp_fr nt N) k q = true → mj_g k 4000 r = r := fun k q r hq => mj_g_k (sp_nd_in hN (sp_fk_nd hq) (Nat.le_refl _)) r
  have hv : ∀ (k : Int32) r, ¬ sp_val nt (sp_fr nt N) k = 0 → mj_g k 4000 r = r := fun k r hq => mj_g_k (sp_nd_in hN (sp_val_nd hq) (Nat.le_refl _)) r
  have ht : ∀ (k : Int32) r, ¬ sp_tg nt (sp_fr nt N) k = 0 → mj_g k 4000 r = r := fun k r hq => mj_g_k (sp_nd_in hN (sp_tg_nd hq) (Nat.le_refl _)) r
  have hw : ∀ (k : Int32) r, sp_nd N k = true → mj_g k 4000 r = r := fun k r hq => mj_g_k (sp_nd_in hN hq (Nat.le_refl _)) r
  have f4 : ∀ k, ¬ sp_val nt (sp_fr nt N) k = 0 → nt 3 k.toNatClampNeg = sp_val nt (sp_fr nt N) k := fun k => sp_val_v
  have f6 : ∀ k, ¬ sp_tg nt (sp_fr nt N) k = 0 → nt 3 k.toNatClampNeg = sp_tg nt (sp_fr nt N) k ∧ sp_tg nt (sp_fr nt N) k = sp_val nt (sp_fr nt N) k := fun k => sp_tg_v hW.2.2
  have hc : ∀ (g m : Int32) r, sp_call nt (sp_fr nt N) M par m g = true → mj_g m 40 r = r := fun g m r hq => mj_g_k (sp_call_in hM40 hq) r
  simp only [bX1_typeOf_220, bX1_typeOf_222, bX1_typeOf_224, bX1_typeOf_234, bX1_typeOf_245, bX1_typeOf_247, bX1_typeOf_254, bX1_typeOf_261, bX1_typeOf_277, sX1_elementOf hd, mj_rI_k, h5, h9]
  simp only [sp_ty] at hr ⊢
  simp at hr ⊢ <;> grind [sp_b, sp_isv, sp_i, sp_bin, sp_el]
theorem tX1_y42 {d : Nat} (hd : 1 ≤ d) {y : mj_X} {nt : sp_NT} {N M : Nat} {res par : Nat → Int32} (hN : N ≤ 4000) (h5 : y.1 5 = nt 3) (h9 : y.1 9 = res) (hM40 : M ≤ 40) (hW : sp_W nt N M par) (a b : Int32) (hr : ¬ sp_ty nt (sp_nd N) (sp_fr nt N) M res par 42 a b = -1) : kX1 (d + 1) 20 [.ref 0, .int 42, .int a, .int b] y = some (some (.int (sp_ty nt (sp_nd N) (sp_fr nt N) M res par 42 a b)), y) := by
  rw [wX1_typeOf_0_42 _ _ _ _ _ rfl]
  have hg : ∀ (k q : Int32) r, sp_fk nt (sp_fr nt N) k q = true → mj_g k 4000 r = r := fun k q r hq => mj_g_k (sp_nd_in hN (sp_fk_nd hq) (Nat.le_refl _)) r
  have hv : ∀ (k : Int32) r, ¬ sp_val nt (sp_fr nt N) k = 0 → mj_g k 4000 r = r := fun k r hq => mj_g_k (sp_nd_in hN (sp_val_nd hq) (Nat.le_refl _)) r
  have ht : ∀ (k : Int32) r, ¬ sp_tg nt (sp_fr nt N) k = 0 → mj_g k 4000 r = r := fun k r hq => mj_g_k (sp_nd_in hN (sp_tg_nd hq) (Nat.le_refl _)) r
  have hw : ∀ (k : Int32) r, sp_nd N k = true → mj_g k 4000 r = r := fun k r hq => mj_g_k (sp_nd_in hN hq (Nat.le_refl _)) r
  have f4 : ∀ k, ¬ sp_val nt (sp_fr nt N) k = 0 → nt 3 k.toNatClampNeg = sp_val nt (sp_fr nt N) k := fun k => sp_val_v
  have f6 : ∀ k, ¬ sp_tg nt (sp_fr nt N) k = 0 → nt 3 k.toNatClampNeg = sp_tg nt (sp_fr nt N) k ∧ sp_tg nt (sp_fr nt N) k = sp_val nt (sp_fr nt N) k := fun k => sp_tg_v hW.2.2
  have hc : ∀ (g m : Int32) r, sp_call nt (sp_fr nt N) M par m g = true → mj_g m 40 r = r := fun g m r hq => mj_g_k (sp_call_in hM40 hq) r
  simp only [bX1_typeOf_220, bX1_typeOf_222, bX1_typeOf_224, bX1_typeOf_234, bX1_typeOf_245, bX1_typeOf_247, bX1_typeOf_254, bX1_typeOf_261, bX1_typeOf_277, sX1_elementOf hd, mj_rI_k, h5, h9]
  simp only [sp_ty] at hr ⊢
  simp at hr ⊢ <;> grind [sp_b, sp_isv, sp_i, sp_bin, sp_el]
theorem tX1_y43 {d : Nat} (hd : 1 ≤ d) {y : mj_X} {nt : sp_NT} {N M : Nat} {res par : Nat → Int32} (hN : N ≤ 4000) (h5 : y.1 5 = nt 3) (h9 : y.1 9 = res) (hM40 : M ≤ 40) (hW : sp_W nt N M par) (a b : Int32) (hr : ¬ sp_ty nt (sp_nd N) (sp_fr nt N) M res par 43 a b = -1) : kX1 (d + 1) 20 [.ref 0, .int 43, .int a, .int b] y = some (some (.int (sp_ty nt (sp_nd N) (sp_fr nt N) M res par 43 a b)), y) := by
  rw [wX1_typeOf_0_43 _ _ _ _ _ rfl]
  have hg : ∀ (k q : Int32) r, sp_fk nt (sp_fr nt N) k q = true → mj_g k 4000 r = r := fun k q r hq => mj_g_k (sp_nd_in hN (sp_fk_nd hq) (Nat.le_refl _)) r
  have hv : ∀ (k : Int32) r, ¬ sp_val nt (sp_fr nt N) k = 0 → mj_g k 4000 r = r := fun k r hq => mj_g_k (sp_nd_in hN (sp_val_nd hq) (Nat.le_refl _)) r
  have ht : ∀ (k : Int32) r, ¬ sp_tg nt (sp_fr nt N) k = 0 → mj_g k 4000 r = r := fun k r hq => mj_g_k (sp_nd_in hN (sp_tg_nd hq) (Nat.le_refl _)) r
  have hw : ∀ (k : Int32) r, sp_nd N k = true → mj_g k 4000 r = r := fun k r hq => mj_g_k (sp_nd_in hN hq (Nat.le_refl _)) r
  have f4 : ∀ k, ¬ sp_val nt (sp_fr nt N) k = 0 → nt 3 k.toNatClampNeg = sp_val nt (sp_fr nt N) k := fun k => sp_val_v
  have f6 : ∀ k, ¬ sp_tg nt (sp_fr nt N) k = 0 → nt 3 k.toNatClampNeg = sp_tg nt (sp_fr nt N) k ∧ sp_tg nt (sp_fr nt N) k = sp_val nt (sp_fr nt N) k := fun k => sp_tg_v hW.2.2
  have hc : ∀ (g m : Int32) r, sp_call nt (sp_fr nt N) M par m g = true → mj_g m 40 r = r := fun g m r hq => mj_g_k (sp_call_in hM40 hq) r
  simp only [bX1_typeOf_220, bX1_typeOf_222, bX1_typeOf_224, bX1_typeOf_234, bX1_typeOf_245, bX1_typeOf_247, bX1_typeOf_254, bX1_typeOf_261, bX1_typeOf_277, sX1_elementOf hd, mj_rI_k, h5, h9]
  simp only [sp_ty] at hr ⊢
  simp at hr ⊢ <;> grind [sp_b, sp_isv, sp_i, sp_bin, sp_el]
theorem tX1_y44 {d : Nat} (hd : 1 ≤ d) {y : mj_X} {nt : sp_NT} {N M : Nat} {res par : Nat → Int32} (hN : N ≤ 4000) (h5 : y.1 5 = nt 3) (h9 : y.1 9 = res) (hM40 : M ≤ 40) (hW : sp_W nt N M par) (a b : Int32) (hr : ¬ sp_ty nt (sp_nd N) (sp_fr nt N) M res par 44 a b = -1) : kX1 (d + 1) 20 [.ref 0, .int 44, .int a, .int b] y = some (some (.int (sp_ty nt (sp_nd N) (sp_fr nt N) M res par 44 a b)), y) := by
  rw [wX1_typeOf_0_44 _ _ _ _ _ rfl]
  have hg : ∀ (k q : Int32) r, sp_fk nt (sp_fr nt N) k q = true → mj_g k 4000 r = r := fun k q r hq => mj_g_k (sp_nd_in hN (sp_fk_nd hq) (Nat.le_refl _)) r
  have hv : ∀ (k : Int32) r, ¬ sp_val nt (sp_fr nt N) k = 0 → mj_g k 4000 r = r := fun k r hq => mj_g_k (sp_nd_in hN (sp_val_nd hq) (Nat.le_refl _)) r
  have ht : ∀ (k : Int32) r, ¬ sp_tg nt (sp_fr nt N) k = 0 → mj_g k 4000 r = r := fun k r hq => mj_g_k (sp_nd_in hN (sp_tg_nd hq) (Nat.le_refl _)) r
  have hw : ∀ (k : Int32) r, sp_nd N k = true → mj_g k 4000 r = r := fun k r hq => mj_g_k (sp_nd_in hN hq (Nat.le_refl _)) r
  have f4 : ∀ k, ¬ sp_val nt (sp_fr nt N) k = 0 → nt 3 k.toNatClampNeg = sp_val nt (sp_fr nt N) k := fun k => sp_val_v
  have f6 : ∀ k, ¬ sp_tg nt (sp_fr nt N) k = 0 → nt 3 k.toNatClampNeg = sp_tg nt (sp_fr nt N) k ∧ sp_tg nt (sp_fr nt N) k = sp_val nt (sp_fr nt N) k := fun k => sp_tg_v hW.2.2
  have hc : ∀ (g m : Int32) r, sp_call nt (sp_fr nt N) M par m g = true → mj_g m 40 r = r := fun g m r hq => mj_g_k (sp_call_in hM40 hq) r
  simp only [bX1_typeOf_220, bX1_typeOf_222, bX1_typeOf_224, bX1_typeOf_234, bX1_typeOf_245, bX1_typeOf_247, bX1_typeOf_254, bX1_typeOf_261, bX1_typeOf_277, sX1_elementOf hd, mj_rI_k, h5, h9]
  simp only [sp_ty] at hr ⊢
  simp at hr ⊢ <;> grind [sp_b, sp_isv, sp_i, sp_bin, sp_el]
theorem tX1_y45 {d : Nat} (hd : 1 ≤ d) {y : mj_X} {nt : sp_NT} {N M : Nat} {res par : Nat → Int32} (hN : N ≤ 4000) (h5 : y.1 5 = nt 3) (h9 : y.1 9 = res) (hM40 : M ≤ 40) (hW : sp_W nt N M par) (a b : Int32) (hr : ¬ sp_ty nt (sp_nd N) (sp_fr nt N) M res par 45 a b = -1) : kX1 (d + 1) 20 [.ref 0, .int 45, .int a, .int b] y = some (some (.int (sp_ty nt (sp_nd N) (sp_fr nt N) M res par 45 a b)), y) := by
  rw [wX1_typeOf_0_45 _ _ _ _ _ rfl]
  have hg : ∀ (k q : Int32) r, sp_fk nt (sp_fr nt N) k q = true → mj_g k 4000 r = r := fun k q r hq => mj_g_k (sp_nd_in hN (sp_fk_nd hq) (Nat.le_refl _)) r
  have hv : ∀ (k : Int32) r, ¬ sp_val nt (sp_fr nt N) k = 0 → mj_g k 4000 r = r := fun k r hq => mj_g_k (sp_nd_in hN (sp_val_nd hq) (Nat.le_refl _)) r
  have ht : ∀ (k : Int32) r, ¬ sp_tg nt (sp_fr nt N) k = 0 → mj_g k 4000 r = r := fun k r hq => mj_g_k (sp_nd_in hN (sp_tg_nd hq) (Nat.le_refl _)) r
  have hw : ∀ (k : Int32) r, sp_nd N k = true → mj_g k 4000 r = r := fun k r hq => mj_g_k (sp_nd_in hN hq (Nat.le_refl _)) r
  have f4 : ∀ k, ¬ sp_val nt (sp_fr nt N) k = 0 → nt 3 k.toNatClampNeg = sp_val nt (sp_fr nt N) k := fun k => sp_val_v
  have f6 : ∀ k, ¬ sp_tg nt (sp_fr nt N) k = 0 → nt 3 k.toNatClampNeg = sp_tg nt (sp_fr nt N) k ∧ sp_tg nt (sp_fr nt N) k = sp_val nt (sp_fr nt N) k := fun k => sp_tg_v hW.2.2
  have hc : ∀ (g m : Int32) r, sp_call nt (sp_fr nt N) M par m g = true → mj_g m 40 r = r := fun g m r hq => mj_g_k (sp_call_in hM40 hq) r
  simp only [bX1_typeOf_220, bX1_typeOf_222, bX1_typeOf_224, bX1_typeOf_234, bX1_typeOf_245, bX1_typeOf_247, bX1_typeOf_254, bX1_typeOf_261, bX1_typeOf_277, sX1_elementOf hd, mj_rI_k, h5, h9]
  simp only [sp_ty] at hr ⊢
  simp at hr ⊢ <;> grind [sp_b, sp_isv, sp_i, sp_bin, sp_el]
theorem tX1_y46 {d : Nat} (hd : 1 ≤ d) {y : mj_X} {nt : sp_NT} {N M : Nat} {res par : Nat → Int32} (hN : N ≤ 4000) (h5 : y.1 5 = nt 3) (h9 : y.1 9 = res) (hM40 : M ≤ 40) (hW : sp_W nt N M par) (a b : Int32) (hr : ¬ sp_ty nt (sp_nd N) (sp_fr nt N) M res par 46 a b = -1) : kX1 (d + 1) 20 [.ref 0, .int 46, .int a, .int b] y = some (some (.int (sp_ty nt (sp_nd N) (sp_fr nt N) M res par 46 a b)), y) := by
  rw [wX1_typeOf_0_46 _ _ _ _ _ rfl]
  have hg : ∀ (k q : Int32) r, sp_fk nt (sp_fr nt N) k q = true → mj_g k 4000 r = r := fun k q r hq => mj_g_k (sp_nd_in hN (sp_fk_nd hq) (Nat.le_refl _)) r
  have hv : ∀ (k : Int32) r, ¬ sp_val nt (sp_fr nt N) k = 0 → mj_g k 4000 r = r := fun k r hq => mj_g_k (sp_nd_in hN (sp_val_nd hq) (Nat.le_refl _)) r
  have ht : ∀ (k : Int32) r, ¬ sp_tg nt (sp_fr nt N) k = 0 → mj_g k 4000 r = r := fun k r hq => mj_g_k (sp_nd_in hN (sp_tg_nd hq) (Nat.le_refl _)) r
  have hw : ∀ (k : Int32) r, sp_nd N k = true → mj_g k 4000 r = r := fun k r hq => mj_g_k (sp_nd_in hN hq (Nat.le_refl _)) r
  have f4 : ∀ k, ¬ sp_val nt (sp_fr nt N) k = 0 → nt 3 k.toNatClampNeg = sp_val nt (sp_fr nt N) k := fun k => sp_val_v
  have f6 : ∀ k, ¬ sp_tg nt (sp_fr nt N) k = 0 → nt 3 k.toNatClampNeg = sp_tg nt (sp_fr nt N) k ∧ sp_tg nt (sp_fr nt N) k = sp_val nt (sp_fr nt N) k := fun k => sp_tg_v hW.2.2
  have hc : ∀ (g m : Int32) r, sp_call nt (sp_fr nt N) M par m g = true → mj_g m 40 r = r := fun g m r hq => mj_g_k (sp_call_in hM40 hq) r
  simp only [bX1_typeOf_220, bX1_typeOf_222, bX1_typeOf_224, bX1_typeOf_234, bX1_typeOf_245, bX1_typeOf_247, bX1_typeOf_254, bX1_typeOf_261, bX1_typeOf_277, sX1_elementOf hd, mj_rI_k, h5, h9]
  simp only [sp_ty] at hr ⊢
  simp at hr ⊢ <;> grind [sp_b, sp_isv, sp_i, sp_bin, sp_el]
theorem tX1_y47 {d : Nat} (hd : 1 ≤ d) {y : mj_X} {nt : sp_NT} {N M : Nat} {res par : Nat → Int32} (hN : N ≤ 4000) (h5 : y.1 5 = nt 3) (h9 : y.1 9 = res) (hM40 : M ≤ 40) (hW : sp_W nt N M par) (a b : Int32) (hr : ¬ sp_ty nt (sp_nd N) (sp_fr nt N) M res par 47 a b = -1) : kX1 (d + 1) 20 [.ref 0, .int 47, .int a, .int b] y = some (some (.int (sp_ty nt (sp_nd N) (sp_fr nt N) M res par 47 a b)), y) := by
  rw [wX1_typeOf_0_47 _ _ _ _ _ rfl]
  have hg : ∀ (k q : Int32) r, sp_fk nt (sp_fr nt N) k q = true → mj_g k 4000 r = r := fun k q r hq => mj_g_k (sp_nd_in hN (sp_fk_nd hq) (Nat.le_refl _)) r
  have hv : ∀ (k : Int32) r, ¬ sp_val nt (sp_fr nt N) k = 0 → mj_g k 4000 r = r := fun k r hq => mj_g_k (sp_nd_in hN (sp_val_nd hq) (Nat.le_refl _)) r
  have ht : ∀ (k : Int32) r, ¬ sp_tg nt (sp_fr nt N) k = 0 → mj_g k 4000 r = r := fun k r hq => mj_g_k (sp_nd_in hN (sp_tg_nd hq) (Nat.le_refl _)) r
  have hw : ∀ (k : Int32) r, sp_nd N k = true → mj_g k 4000 r = r := fun k r hq => mj_g_k (sp_nd_in hN hq (Nat.le_refl _)) r
  have f4 : ∀ k, ¬ sp_val nt (sp_fr nt N) k = 0 → nt 3 k.toNatClampNeg = sp_val nt (sp_fr nt N) k := fun k => sp_val_v
  have f6 : ∀ k, ¬ sp_tg nt (sp_fr nt N) k = 0 → nt 3 k.toNatClampNeg = sp_tg nt (sp_fr nt N) k ∧ sp_tg nt (sp_fr nt N) k = sp_val nt (sp_fr nt N) k := fun k => sp_tg_v hW.2.2
  have hc : ∀ (g m : Int32) r, sp_call nt (sp_fr nt N) M par m g = true → mj_g m 40 r = r := fun g m r hq => mj_g_k (sp_call_in hM40 hq) r
  simp only [bX1_typeOf_220, bX1_typeOf_222, bX1_typeOf_224, bX1_typeOf_234, bX1_typeOf_245, bX1_typeOf_247, bX1_typeOf_254, bX1_typeOf_261, bX1_typeOf_277, sX1_elementOf hd, mj_rI_k, h5, h9]
  simp only [sp_ty] at hr ⊢
  simp at hr ⊢ <;> grind [sp_b, sp_isv, sp_i, sp_bin, sp_el]
theorem tX1_y48 {d : Nat} (hd : 1 ≤ d) {y : mj_X} {nt : sp_NT} {N M : Nat} {res par : Nat → Int32} (hN : N ≤ 4000) (h5 : y.1 5 = nt 3) (h9 : y.1 9 = res) (hM40 : M ≤ 40) (hW : sp_W nt N M par) (a b : Int32) (hr : ¬ sp_ty nt (sp_nd N) (sp_fr nt N) M res par 48 a b = -1) : kX1 (d + 1) 20 [.ref 0, .int 48, .int a, .int b] y = some (some (.int (sp_ty nt (sp_nd N) (sp_fr nt N) M res par 48 a b)), y) := by
  rw [wX1_typeOf_0_48 _ _ _ _ _ rfl]
  have hg : ∀ (k q : Int32) r, sp_fk nt (sp_fr nt N) k q = true → mj_g k 4000 r = r := fun k q r hq => mj_g_k (sp_nd_in hN (sp_fk_nd hq) (Nat.le_refl _)) r
  have hv : ∀ (k : Int32) r, ¬ sp_val nt (sp_fr nt N) k = 0 → mj_g k 4000 r = r := fun k r hq => mj_g_k (sp_nd_in hN (sp_val_nd hq) (Nat.le_refl _)) r
  have ht : ∀ (k : Int32) r, ¬ sp_tg nt (sp_fr nt N) k = 0 → mj_g k 4000 r = r := fun k r hq => mj_g_k (sp_nd_in hN (sp_tg_nd hq) (Nat.le_refl _)) r
  have hw : ∀ (k : Int32) r, sp_nd N k = true → mj_g k 4000 r = r := fun k r hq => mj_g_k (sp_nd_in hN hq (Nat.le_refl _)) r
  have f4 : ∀ k, ¬ sp_val nt (sp_fr nt N) k = 0 → nt 3 k.toNatClampNeg = sp_val nt (sp_fr nt N) k := fun k => sp_val_v
  have f6 : ∀ k, ¬ sp_tg nt (sp_fr nt N) k = 0 → nt 3 k.toNatClampNeg = sp_tg nt (sp_fr nt N) k ∧ sp_tg nt (sp_fr nt N) k = sp_val nt (sp_fr nt N) k := fun k => sp_tg_v hW.2.2
  have hc : ∀ (g m : Int32) r, sp_call nt (sp_fr nt N) M par m g = true → mj_g m 40 r = r := fun g m r hq => mj_g_k (sp_call_in hM40 hq) r
  simp only [bX1_typeOf_220, bX1_typeOf_222, bX1_typeOf_224, bX1_typeOf_234, bX1_typeOf_245, bX1_typeOf_247, bX1_typeOf_254, bX1_typeOf_261, bX1_typeOf_277, sX1_elementOf hd, mj_rI_k, h5, h9]
  simp only [sp_ty] at hr ⊢
  simp at hr ⊢ <;> grind [sp_b, sp_isv, sp_i, sp_bin, sp_el]
theorem tX1_y49 {d : Nat} (hd : 1 ≤ d) {y : mj_X} {nt : sp_NT} {N M : Nat} {res par : Nat → Int32} (hN : N ≤ 4000) (h5 : y.1 5 = nt 3) (h9 : y.1 9 = res) (hM40 : M ≤ 40) (hW : sp_W nt N M par) (a b : Int32) (hr : ¬ sp_ty nt (sp_nd N) (sp_fr nt N) M res par 49 a b = -1) : kX1 (d + 1) 20 [.ref 0, .int 49, .int a, .int b] y = some (some (.int (sp_ty nt (sp_nd N) (sp_fr nt N) M res par 49 a b)), y) := by
  rw [wX1_typeOf_0_49 _ _ _ _ _ rfl]
  have hg : ∀ (k q : Int32) r, sp_fk nt (sp_fr nt N) k q = true → mj_g k 4000 r = r := fun k q r hq => mj_g_k (sp_nd_in hN (sp_fk_nd hq) (Nat.le_refl _)) r
  have hv : ∀ (k : Int32) r, ¬ sp_val nt (sp_fr nt N) k = 0 → mj_g k 4000 r = r := fun k r hq => mj_g_k (sp_nd_in hN (sp_val_nd hq) (Nat.le_refl _)) r
  have ht : ∀ (k : Int32) r, ¬ sp_tg nt (sp_fr nt N) k = 0 → mj_g k 4000 r = r := fun k r hq => mj_g_k (sp_nd_in hN (sp_tg_nd hq) (Nat.le_refl _)) r
  have hw : ∀ (k : Int32) r, sp_nd N k = true → mj_g k 4000 r = r := fun k r hq => mj_g_k (sp_nd_in hN hq (Nat.le_refl _)) r
  have f4 : ∀ k, ¬ sp_val nt (sp_fr nt N) k = 0 → nt 3 k.toNatClampNeg = sp_val nt (sp_fr nt N) k := fun k => sp_val_v
  have f6 : ∀ k, ¬ sp_tg nt (sp_fr nt N) k = 0 → nt 3 k.toNatClampNeg = sp_tg nt (sp_fr nt N) k ∧ sp_tg nt (sp_fr nt N) k = sp_val nt (sp_fr nt N) k := fun k => sp_tg_v hW.2.2
  have hc : ∀ (g m : Int32) r, sp_call nt (sp_fr nt N) M par m g = true → mj_g m 40 r = r := fun g m r hq => mj_g_k (sp_call_in hM40 hq) r
  simp only [bX1_typeOf_220, bX1_typeOf_222, bX1_typeOf_224, bX1_typeOf_234, bX1_typeOf_245, bX1_typeOf_247, bX1_typeOf_254, bX1_typeOf_261, bX1_typeOf_277, sX1_elementOf hd, mj_rI_k, h5, h9]
  simp only [sp_ty] at hr ⊢
  simp at hr ⊢ <;> grind [sp_b, sp_isv, sp_i, sp_bin, sp_el]
theorem tX1_y51 {d : Nat} (hd : 1 ≤ d) {y : mj_X} {nt : sp_NT} {N M : Nat} {res par : Nat → Int32} (hN : N ≤ 4000) (h5 : y.1 5 = nt 3) (h9 : y.1 9 = res) (hM40 : M ≤ 40) (hW : sp_W nt N M par) (a b : Int32) (hr : ¬ sp_ty nt (sp_nd N) (sp_fr nt N) M res par 51 a b = -1) : kX1 (d + 1) 20 [.ref 0, .int 51, .int a, .int b] y = some (some (.int (sp_ty nt (sp_nd N) (sp_fr nt N) M res par 51 a b)), y) := by
  rw [wX1_typeOf_0_51 _ _ _ _ _ rfl]
  have hg : ∀ (k q : Int32) r, sp_fk nt (sp_fr nt N) k q = true → mj_g k 4000 r = r := fun k q r hq => mj_g_k (sp_nd_in hN (sp_fk_nd hq) (Nat.le_refl _)) r
  have hv : ∀ (k : Int32) r, ¬ sp_val nt (sp_fr nt N) k = 0 → mj_g k 4000 r = r := fun k r hq => mj_g_k (sp_nd_in hN (sp_val_nd hq) (Nat.le_refl _)) r
  have ht : ∀ (k : Int32) r, ¬ sp_tg nt (sp_fr nt N) k = 0 → mj_g k 4000 r = r := fun k r hq => mj_g_k (sp_nd_in hN (sp_tg_nd hq) (Nat.le_refl _)) r
  have hw : ∀ (k : Int32) r, sp_nd N k = true → mj_g k 4000 r = r := fun k r hq => mj_g_k (sp_nd_in hN hq (Nat.le_refl _)) r
  have f4 : ∀ k, ¬ sp_val nt (sp_fr nt N) k = 0 → nt 3 k.toNatClampNeg = sp_val nt (sp_fr nt N) k := fun k => sp_val_v
  have f6 : ∀ k, ¬ sp_tg nt (sp_fr nt N) k = 0 → nt 3 k.toNatClampNeg = sp_tg nt (sp_fr nt N) k ∧ sp_tg nt (sp_fr nt N) k = sp_val nt (sp_fr nt N) k := fun k => sp_tg_v hW.2.2
  have hc : ∀ (g m : Int32) r, sp_call nt (sp_fr nt N) M par m g = true → mj_g m 40 r = r := fun g m r hq => mj_g_k (sp_call_in hM40 hq) r
  simp only [bX1_typeOf_220, bX1_typeOf_222, bX1_typeOf_224, bX1_typeOf_234, bX1_typeOf_245, bX1_typeOf_247, bX1_typeOf_254, bX1_typeOf_261, bX1_typeOf_277, sX1_elementOf hd, mj_rI_k, h5, h9]
  simp only [sp_ty] at hr ⊢
  simp at hr ⊢ <;> grind [sp_b, sp_isv, sp_i, sp_bin, sp_el]
theorem tX1_y60 {d : Nat} (hd : 1 ≤ d) {y : mj_X} {nt : sp_NT} {N M : Nat} {res par : Nat → Int32} (hN : N ≤ 4000) (h5 : y.1 5 = nt 3) (h9 : y.1 9 = res) (hM40 : M ≤ 40) (hW : sp_W nt N M par) (a b : Int32) (hr : ¬ sp_ty nt (sp_nd N) (sp_fr nt N) M res par 60 a b = -1) : kX1 (d + 1) 20 [.ref 0, .int 60, .int a, .int b] y = some (some (.int (sp_ty nt (sp_nd N) (sp_fr nt N) M res par 60 a b)), y) := by
  rw [wX1_typeOf_0_out _ _ _ _ _ (by decide)]
  have hg : ∀ (k q : Int32) r, sp_fk nt (sp_fr nt N) k q = true → mj_g k 4000 r = r := fun k q r hq => mj_g_k (sp_nd_in hN (sp_fk_nd hq) (Nat.le_refl _)) r
  have hv : ∀ (k : Int32) r, ¬ sp_val nt (sp_fr nt N) k = 0 → mj_g k 4000 r = r := fun k r hq => mj_g_k (sp_nd_in hN (sp_val_nd hq) (Nat.le_refl _)) r
  have ht : ∀ (k : Int32) r, ¬ sp_tg nt (sp_fr nt N) k = 0 → mj_g k 4000 r = r := fun k r hq => mj_g_k (sp_nd_in hN (sp_tg_nd hq) (Nat.le_refl _)) r
  have hw : ∀ (k : Int32) r, sp_nd N k = true → mj_g k 4000 r = r := fun k r hq => mj_g_k (sp_nd_in hN hq (Nat.le_refl _)) r
  have f4 : ∀ k, ¬ sp_val nt (sp_fr nt N) k = 0 → nt 3 k.toNatClampNeg = sp_val nt (sp_fr nt N) k := fun k => sp_val_v
  have f6 : ∀ k, ¬ sp_tg nt (sp_fr nt N) k = 0 → nt 3 k.toNatClampNeg = sp_tg nt (sp_fr nt N) k ∧ sp_tg nt (sp_fr nt N) k = sp_val nt (sp_fr nt N) k := fun k => sp_tg_v hW.2.2
  have hc : ∀ (g m : Int32) r, sp_call nt (sp_fr nt N) M par m g = true → mj_g m 40 r = r := fun g m r hq => mj_g_k (sp_call_in hM40 hq) r
  simp only [bX1_typeOf_220, bX1_typeOf_222, bX1_typeOf_224, bX1_typeOf_234, bX1_typeOf_245, bX1_typeOf_247, bX1_typeOf_254, bX1_typeOf_261, bX1_typeOf_277, sX1_elementOf hd, mj_rI_k, h5, h9]
  simp only [sp_ty] at hr ⊢
  simp at hr ⊢ <;> grind [sp_b, sp_isv, sp_i, sp_bin, sp_el]
theorem tX1_y61 {d : Nat} (hd : 1 ≤ d) {y : mj_X} {nt : sp_NT} {N M : Nat} {res par : Nat → Int32} (hN : N ≤ 4000) (h5 : y.1 5 = nt 3) (h9 : y.1 9 = res) (hM40 : M ≤ 40) (hW : sp_W nt N M par) (a b : Int32) (hr : ¬ sp_ty nt (sp_nd N) (sp_fr nt N) M res par 61 a b = -1) : kX1 (d + 1) 20 [.ref 0, .int 61, .int a, .int b] y = some (some (.int (sp_ty nt (sp_nd N) (sp_fr nt N) M res par 61 a b)), y) := by
  rw [wX1_typeOf_0_out _ _ _ _ _ (by decide)]
  have hg : ∀ (k q : Int32) r, sp_fk nt (sp_fr nt N) k q = true → mj_g k 4000 r = r := fun k q r hq => mj_g_k (sp_nd_in hN (sp_fk_nd hq) (Nat.le_refl _)) r
  have hv : ∀ (k : Int32) r, ¬ sp_val nt (sp_fr nt N) k = 0 → mj_g k 4000 r = r := fun k r hq => mj_g_k (sp_nd_in hN (sp_val_nd hq) (Nat.le_refl _)) r
  have ht : ∀ (k : Int32) r, ¬ sp_tg nt (sp_fr nt N) k = 0 → mj_g k 4000 r = r := fun k r hq => mj_g_k (sp_nd_in hN (sp_tg_nd hq) (Nat.le_refl _)) r
  have hw : ∀ (k : Int32) r, sp_nd N k = true → mj_g k 4000 r = r := fun k r hq => mj_g_k (sp_nd_in hN hq (Nat.le_refl _)) r
  have f4 : ∀ k, ¬ sp_val nt (sp_fr nt N) k = 0 → nt 3 k.toNatClampNeg = sp_val nt (sp_fr nt N) k := fun k => sp_val_v
  have f6 : ∀ k, ¬ sp_tg nt (sp_fr nt N) k = 0 → nt 3 k.toNatClampNeg = sp_tg nt (sp_fr nt N) k ∧ sp_tg nt (sp_fr nt N) k = sp_val nt (sp_fr nt N) k := fun k => sp_tg_v hW.2.2
  have hc : ∀ (g m : Int32) r, sp_call nt (sp_fr nt N) M par m g = true → mj_g m 40 r = r := fun g m r hq => mj_g_k (sp_call_in hM40 hq) r
  simp only [bX1_typeOf_220, bX1_typeOf_222, bX1_typeOf_224, bX1_typeOf_234, bX1_typeOf_245, bX1_typeOf_247, bX1_typeOf_254, bX1_typeOf_261, bX1_typeOf_277, sX1_elementOf hd, mj_rI_k, h5, h9]
  simp only [sp_ty] at hr ⊢
  simp at hr ⊢ <;> grind [sp_b, sp_isv, sp_i, sp_bin, sp_el]
theorem tX1_y62 {d : Nat} (hd : 1 ≤ d) {y : mj_X} {nt : sp_NT} {N M : Nat} {res par : Nat → Int32} (hN : N ≤ 4000) (h5 : y.1 5 = nt 3) (h9 : y.1 9 = res) (hM40 : M ≤ 40) (hW : sp_W nt N M par) (a b : Int32) (hr : ¬ sp_ty nt (sp_nd N) (sp_fr nt N) M res par 62 a b = -1) : kX1 (d + 1) 20 [.ref 0, .int 62, .int a, .int b] y = some (some (.int (sp_ty nt (sp_nd N) (sp_fr nt N) M res par 62 a b)), y) := by
  rw [wX1_typeOf_0_out _ _ _ _ _ (by decide)]
  have hg : ∀ (k q : Int32) r, sp_fk nt (sp_fr nt N) k q = true → mj_g k 4000 r = r := fun k q r hq => mj_g_k (sp_nd_in hN (sp_fk_nd hq) (Nat.le_refl _)) r
  have hv : ∀ (k : Int32) r, ¬ sp_val nt (sp_fr nt N) k = 0 → mj_g k 4000 r = r := fun k r hq => mj_g_k (sp_nd_in hN (sp_val_nd hq) (Nat.le_refl _)) r
  have ht : ∀ (k : Int32) r, ¬ sp_tg nt (sp_fr nt N) k = 0 → mj_g k 4000 r = r := fun k r hq => mj_g_k (sp_nd_in hN (sp_tg_nd hq) (Nat.le_refl _)) r
  have hw : ∀ (k : Int32) r, sp_nd N k = true → mj_g k 4000 r = r := fun k r hq => mj_g_k (sp_nd_in hN hq (Nat.le_refl _)) r
  have f4 : ∀ k, ¬ sp_val nt (sp_fr nt N) k = 0 → nt 3 k.toNatClampNeg = sp_val nt (sp_fr nt N) k := fun k => sp_val_v
  have f6 : ∀ k, ¬ sp_tg nt (sp_fr nt N) k = 0 → nt 3 k.toNatClampNeg = sp_tg nt (sp_fr nt N) k ∧ sp_tg nt (sp_fr nt N) k = sp_val nt (sp_fr nt N) k := fun k => sp_tg_v hW.2.2
  have hc : ∀ (g m : Int32) r, sp_call nt (sp_fr nt N) M par m g = true → mj_g m 40 r = r := fun g m r hq => mj_g_k (sp_call_in hM40 hq) r
  simp only [bX1_typeOf_220, bX1_typeOf_222, bX1_typeOf_224, bX1_typeOf_234, bX1_typeOf_245, bX1_typeOf_247, bX1_typeOf_254, bX1_typeOf_261, bX1_typeOf_277, sX1_elementOf hd, mj_rI_k, h5, h9]
  simp only [sp_ty] at hr ⊢
  simp at hr ⊢ <;> grind [sp_b, sp_isv, sp_i, sp_bin, sp_el]
theorem tX1_y63 {d : Nat} (hd : 1 ≤ d) {y : mj_X} {nt : sp_NT} {N M : Nat} {res par : Nat → Int32} (hN : N ≤ 4000) (h5 : y.1 5 = nt 3) (h9 : y.1 9 = res) (hM40 : M ≤ 40) (hW : sp_W nt N M par) (a b : Int32) (hr : ¬ sp_ty nt (sp_nd N) (sp_fr nt N) M res par 63 a b = -1) : kX1 (d + 1) 20 [.ref 0, .int 63, .int a, .int b] y = some (some (.int (sp_ty nt (sp_nd N) (sp_fr nt N) M res par 63 a b)), y) := by
  rw [wX1_typeOf_0_out _ _ _ _ _ (by decide)]
  have hg : ∀ (k q : Int32) r, sp_fk nt (sp_fr nt N) k q = true → mj_g k 4000 r = r := fun k q r hq => mj_g_k (sp_nd_in hN (sp_fk_nd hq) (Nat.le_refl _)) r
  have hv : ∀ (k : Int32) r, ¬ sp_val nt (sp_fr nt N) k = 0 → mj_g k 4000 r = r := fun k r hq => mj_g_k (sp_nd_in hN (sp_val_nd hq) (Nat.le_refl _)) r
  have ht : ∀ (k : Int32) r, ¬ sp_tg nt (sp_fr nt N) k = 0 → mj_g k 4000 r = r := fun k r hq => mj_g_k (sp_nd_in hN (sp_tg_nd hq) (Nat.le_refl _)) r
  have hw : ∀ (k : Int32) r, sp_nd N k = true → mj_g k 4000 r = r := fun k r hq => mj_g_k (sp_nd_in hN hq (Nat.le_refl _)) r
  have f4 : ∀ k, ¬ sp_val nt (sp_fr nt N) k = 0 → nt 3 k.toNatClampNeg = sp_val nt (sp_fr nt N) k := fun k => sp_val_v
  have f6 : ∀ k, ¬ sp_tg nt (sp_fr nt N) k = 0 → nt 3 k.toNatClampNeg = sp_tg nt (sp_fr nt N) k ∧ sp_tg nt (sp_fr nt N) k = sp_val nt (sp_fr nt N) k := fun k => sp_tg_v hW.2.2
  have hc : ∀ (g m : Int32) r, sp_call nt (sp_fr nt N) M par m g = true → mj_g m 40 r = r := fun g m r hq => mj_g_k (sp_call_in hM40 hq) r
  simp only [bX1_typeOf_220, bX1_typeOf_222, bX1_typeOf_224, bX1_typeOf_234, bX1_typeOf_245, bX1_typeOf_247, bX1_typeOf_254, bX1_typeOf_261, bX1_typeOf_277, sX1_elementOf hd, mj_rI_k, h5, h9]
  simp only [sp_ty] at hr ⊢
  simp at hr ⊢ <;> grind [sp_b, sp_isv, sp_i, sp_bin, sp_el]
theorem tX1_y64 {d : Nat} (hd : 1 ≤ d) {y : mj_X} {nt : sp_NT} {N M : Nat} {res par : Nat → Int32} (hN : N ≤ 4000) (h5 : y.1 5 = nt 3) (h9 : y.1 9 = res) (hM40 : M ≤ 40) (hW : sp_W nt N M par) (a b : Int32) (hr : ¬ sp_ty nt (sp_nd N) (sp_fr nt N) M res par 64 a b = -1) : kX1 (d + 1) 20 [.ref 0, .int 64, .int a, .int b] y = some (some (.int (sp_ty nt (sp_nd N) (sp_fr nt N) M res par 64 a b)), y) := by
  rw [wX1_typeOf_0_out _ _ _ _ _ (by decide)]
  have hg : ∀ (k q : Int32) r, sp_fk nt (sp_fr nt N) k q = true → mj_g k 4000 r = r := fun k q r hq => mj_g_k (sp_nd_in hN (sp_fk_nd hq) (Nat.le_refl _)) r
  have hv : ∀ (k : Int32) r, ¬ sp_val nt (sp_fr nt N) k = 0 → mj_g k 4000 r = r := fun k r hq => mj_g_k (sp_nd_in hN (sp_val_nd hq) (Nat.le_refl _)) r
  have ht : ∀ (k : Int32) r, ¬ sp_tg nt (sp_fr nt N) k = 0 → mj_g k 4000 r = r := fun k r hq => mj_g_k (sp_nd_in hN (sp_tg_nd hq) (Nat.le_refl _)) r
  have hw : ∀ (k : Int32) r, sp_nd N k = true → mj_g k 4000 r = r := fun k r hq => mj_g_k (sp_nd_in hN hq (Nat.le_refl _)) r
  have f4 : ∀ k, ¬ sp_val nt (sp_fr nt N) k = 0 → nt 3 k.toNatClampNeg = sp_val nt (sp_fr nt N) k := fun k => sp_val_v
  have f6 : ∀ k, ¬ sp_tg nt (sp_fr nt N) k = 0 → nt 3 k.toNatClampNeg = sp_tg nt (sp_fr nt N) k ∧ sp_tg nt (sp_fr nt N) k = sp_val nt (sp_fr nt N) k := fun k => sp_tg_v hW.2.2
  have hc : ∀ (g m : Int32) r, sp_call nt (sp_fr nt N) M par m g = true → mj_g m 40 r = r := fun g m r hq => mj_g_k (sp_call_in hM40 hq) r
  simp only [bX1_typeOf_220, bX1_typeOf_222, bX1_typeOf_224, bX1_typeOf_234, bX1_typeOf_245, bX1_typeOf_247, bX1_typeOf_254, bX1_typeOf_261, bX1_typeOf_277, sX1_elementOf hd, mj_rI_k, h5, h9]
  simp only [sp_ty] at hr ⊢
  simp at hr ⊢ <;> grind [sp_b, sp_isv, sp_i, sp_bin, sp_el]
theorem tX1_y65 {d : Nat} (hd : 1 ≤ d) {y : mj_X} {nt : sp_NT} {N M : Nat} {res par : Nat → Int32} (hN : N ≤ 4000) (h5 : y.1 5 = nt 3) (h9 : y.1 9 = res) (hM40 : M ≤ 40) (hW : sp_W nt N M par) (a b : Int32) (hr : ¬ sp_ty nt (sp_nd N) (sp_fr nt N) M res par 65 a b = -1) : kX1 (d + 1) 20 [.ref 0, .int 65, .int a, .int b] y = some (some (.int (sp_ty nt (sp_nd N) (sp_fr nt N) M res par 65 a b)), y) := by
  rw [wX1_typeOf_0_out _ _ _ _ _ (by decide)]
  have hg : ∀ (k q : Int32) r, sp_fk nt (sp_fr nt N) k q = true → mj_g k 4000 r = r := fun k q r hq => mj_g_k (sp_nd_in hN (sp_fk_nd hq) (Nat.le_refl _)) r
  have hv : ∀ (k : Int32) r, ¬ sp_val nt (sp_fr nt N) k = 0 → mj_g k 4000 r = r := fun k r hq => mj_g_k (sp_nd_in hN (sp_val_nd hq) (Nat.le_refl _)) r
  have ht : ∀ (k : Int32) r, ¬ sp_tg nt (sp_fr nt N) k = 0 → mj_g k 4000 r = r := fun k r hq => mj_g_k (sp_nd_in hN (sp_tg_nd hq) (Nat.le_refl _)) r
  have hw : ∀ (k : Int32) r, sp_nd N k = true → mj_g k 4000 r = r := fun k r hq => mj_g_k (sp_nd_in hN hq (Nat.le_refl _)) r
  have f4 : ∀ k, ¬ sp_val nt (sp_fr nt N) k = 0 → nt 3 k.toNatClampNeg = sp_val nt (sp_fr nt N) k := fun k => sp_val_v
  have f6 : ∀ k, ¬ sp_tg nt (sp_fr nt N) k = 0 → nt 3 k.toNatClampNeg = sp_tg nt (sp_fr nt N) k ∧ sp_tg nt (sp_fr nt N) k = sp_val nt (sp_fr nt N) k := fun k => sp_tg_v hW.2.2
  have hc : ∀ (g m : Int32) r, sp_call nt (sp_fr nt N) M par m g = true → mj_g m 40 r = r := fun g m r hq => mj_g_k (sp_call_in hM40 hq) r
  simp only [bX1_typeOf_220, bX1_typeOf_222, bX1_typeOf_224, bX1_typeOf_234, bX1_typeOf_245, bX1_typeOf_247, bX1_typeOf_254, bX1_typeOf_261, bX1_typeOf_277, sX1_elementOf hd, mj_rI_k, h5, h9]
  simp only [sp_ty] at hr ⊢
  simp at hr ⊢ <;> grind [sp_b, sp_isv, sp_i, sp_bin, sp_el]
theorem tX1_y66 {d : Nat} (hd : 1 ≤ d) {y : mj_X} {nt : sp_NT} {N M : Nat} {res par : Nat → Int32} (hN : N ≤ 4000) (h5 : y.1 5 = nt 3) (h9 : y.1 9 = res) (hM40 : M ≤ 40) (hW : sp_W nt N M par) (a b : Int32) (hr : ¬ sp_ty nt (sp_nd N) (sp_fr nt N) M res par 66 a b = -1) : kX1 (d + 1) 20 [.ref 0, .int 66, .int a, .int b] y = some (some (.int (sp_ty nt (sp_nd N) (sp_fr nt N) M res par 66 a b)), y) := by
  rw [wX1_typeOf_0_out _ _ _ _ _ (by decide)]
  have hg : ∀ (k q : Int32) r, sp_fk nt (sp_fr nt N) k q = true → mj_g k 4000 r = r := fun k q r hq => mj_g_k (sp_nd_in hN (sp_fk_nd hq) (Nat.le_refl _)) r
  have hv : ∀ (k : Int32) r, ¬ sp_val nt (sp_fr nt N) k = 0 → mj_g k 4000 r = r := fun k r hq => mj_g_k (sp_nd_in hN (sp_val_nd hq) (Nat.le_refl _)) r
  have ht : ∀ (k : Int32) r, ¬ sp_tg nt (sp_fr nt N) k = 0 → mj_g k 4000 r = r := fun k r hq => mj_g_k (sp_nd_in hN (sp_tg_nd hq) (Nat.le_refl _)) r
  have hw : ∀ (k : Int32) r, sp_nd N k = true → mj_g k 4000 r = r := fun k r hq => mj_g_k (sp_nd_in hN hq (Nat.le_refl _)) r
  have f4 : ∀ k, ¬ sp_val nt (sp_fr nt N) k = 0 → nt 3 k.toNatClampNeg = sp_val nt (sp_fr nt N) k := fun k => sp_val_v
  have f6 : ∀ k, ¬ sp_tg nt (sp_fr nt N) k = 0 → nt 3 k.toNatClampNeg = sp_tg nt (sp_fr nt N) k ∧ sp_tg nt (sp_fr nt N) k = sp_val nt (sp_fr nt N) k := fun k => sp_tg_v hW.2.2
  have hc : ∀ (g m : Int32) r, sp_call nt (sp_fr nt N) M par m g = true → mj_g m 40 r = r := fun g m r hq => mj_g_k (sp_call_in hM40 hq) r
  simp only [bX1_typeOf_220, bX1_typeOf_222, bX1_typeOf_224, bX1_typeOf_234, bX1_typeOf_245, bX1_typeOf_247, bX1_typeOf_254, bX1_typeOf_261, bX1_typeOf_277, sX1_elementOf hd, mj_rI_k, h5, h9]
  simp only [sp_ty] at hr ⊢
  simp at hr ⊢ <;> grind [sp_b, sp_isv, sp_i, sp_bin, sp_el]
theorem tX1_y67 {d : Nat} (hd : 1 ≤ d) {y : mj_X} {nt : sp_NT} {N M : Nat} {res par : Nat → Int32} (hN : N ≤ 4000) (h5 : y.1 5 = nt 3) (h9 : y.1 9 = res) (hM40 : M ≤ 40) (hW : sp_W nt N M par) (a b : Int32) (hr : ¬ sp_ty nt (sp_nd N) (sp_fr nt N) M res par 67 a b = -1) : kX1 (d + 1) 20 [.ref 0, .int 67, .int a, .int b] y = some (some (.int (sp_ty nt (sp_nd N) (sp_fr nt N) M res par 67 a b)), y) := by
  rw [wX1_typeOf_0_out _ _ _ _ _ (by decide)]
  have hg : ∀ (k q : Int32) r, sp_fk nt (sp_fr nt N) k q = true → mj_g k 4000 r = r := fun k q r hq => mj_g_k (sp_nd_in hN (sp_fk_nd hq) (Nat.le_refl _)) r
  have hv : ∀ (k : Int32) r, ¬ sp_val nt (sp_fr nt N) k = 0 → mj_g k 4000 r = r := fun k r hq => mj_g_k (sp_nd_in hN (sp_val_nd hq) (Nat.le_refl _)) r
  have ht : ∀ (k : Int32) r, ¬ sp_tg nt (sp_fr nt N) k = 0 → mj_g k 4000 r = r := fun k r hq => mj_g_k (sp_nd_in hN (sp_tg_nd hq) (Nat.le_refl _)) r
  have hw : ∀ (k : Int32) r, sp_nd N k = true → mj_g k 4000 r = r := fun k r hq => mj_g_k (sp_nd_in hN hq (Nat.le_refl _)) r
  have f4 : ∀ k, ¬ sp_val nt (sp_fr nt N) k = 0 → nt 3 k.toNatClampNeg = sp_val nt (sp_fr nt N) k := fun k => sp_val_v
  have f6 : ∀ k, ¬ sp_tg nt (sp_fr nt N) k = 0 → nt 3 k.toNatClampNeg = sp_tg nt (sp_fr nt N) k ∧ sp_tg nt (sp_fr nt N) k = sp_val nt (sp_fr nt N) k := fun k => sp_tg_v hW.2.2
  have hc : ∀ (g m : Int32) r, sp_call nt (sp_fr nt N) M par m g = true → mj_g m 40 r = r := fun g m r hq => mj_g_k (sp_call_in hM40 hq) r
  simp only [bX1_typeOf_220, bX1_typeOf_222, bX1_typeOf_224, bX1_typeOf_234, bX1_typeOf_245, bX1_typeOf_247, bX1_typeOf_254, bX1_typeOf_261, bX1_typeOf_277, sX1_elementOf hd, mj_rI_k, h5, h9]
  simp only [sp_ty] at hr ⊢
  simp at hr ⊢ <;> grind [sp_b, sp_isv, sp_i, sp_bin, sp_el]
theorem tX1_y68 {d : Nat} (hd : 1 ≤ d) {y : mj_X} {nt : sp_NT} {N M : Nat} {res par : Nat → Int32} (hN : N ≤ 4000) (h5 : y.1 5 = nt 3) (h9 : y.1 9 = res) (hM40 : M ≤ 40) (hW : sp_W nt N M par) (a b : Int32) (hr : ¬ sp_ty nt (sp_nd N) (sp_fr nt N) M res par 68 a b = -1) : kX1 (d + 1) 20 [.ref 0, .int 68, .int a, .int b] y = some (some (.int (sp_ty nt (sp_nd N) (sp_fr nt N) M res par 68 a b)), y) := by
  rw [wX1_typeOf_0_out _ _ _ _ _ (by decide)]
  have hg : ∀ (k q : Int32) r, sp_fk nt (sp_fr nt N) k q = true → mj_g k 4000 r = r := fun k q r hq => mj_g_k (sp_nd_in hN (sp_fk_nd hq) (Nat.le_refl _)) r
  have hv : ∀ (k : Int32) r, ¬ sp_val nt (sp_fr nt N) k = 0 → mj_g k 4000 r = r := fun k r hq => mj_g_k (sp_nd_in hN (sp_val_nd hq) (Nat.le_refl _)) r
  have ht : ∀ (k : Int32) r, ¬ sp_tg nt (sp_fr nt N) k = 0 → mj_g k 4000 r = r := fun k r hq => mj_g_k (sp_nd_in hN (sp_tg_nd hq) (Nat.le_refl _)) r
  have hw : ∀ (k : Int32) r, sp_nd N k = true → mj_g k 4000 r = r := fun k r hq => mj_g_k (sp_nd_in hN hq (Nat.le_refl _)) r
  have f4 : ∀ k, ¬ sp_val nt (sp_fr nt N) k = 0 → nt 3 k.toNatClampNeg = sp_val nt (sp_fr nt N) k := fun k => sp_val_v
  have f6 : ∀ k, ¬ sp_tg nt (sp_fr nt N) k = 0 → nt 3 k.toNatClampNeg = sp_tg nt (sp_fr nt N) k ∧ sp_tg nt (sp_fr nt N) k = sp_val nt (sp_fr nt N) k := fun k => sp_tg_v hW.2.2
  have hc : ∀ (g m : Int32) r, sp_call nt (sp_fr nt N) M par m g = true → mj_g m 40 r = r := fun g m r hq => mj_g_k (sp_call_in hM40 hq) r
  simp only [bX1_typeOf_220, bX1_typeOf_222, bX1_typeOf_224, bX1_typeOf_234, bX1_typeOf_245, bX1_typeOf_247, bX1_typeOf_254, bX1_typeOf_261, bX1_typeOf_277, sX1_elementOf hd, mj_rI_k, h5, h9]
  simp only [sp_ty] at hr ⊢
  simp at hr ⊢ <;> grind [sp_b, sp_isv, sp_i, sp_bin, sp_el]
theorem tX1_y69 {d : Nat} (hd : 1 ≤ d) {y : mj_X} {nt : sp_NT} {N M : Nat} {res par : Nat → Int32} (hN : N ≤ 4000) (h5 : y.1 5 = nt 3) (h9 : y.1 9 = res) (hM40 : M ≤ 40) (hW : sp_W nt N M par) (a b : Int32) (hr : ¬ sp_ty nt (sp_nd N) (sp_fr nt N) M res par 69 a b = -1) : kX1 (d + 1) 20 [.ref 0, .int 69, .int a, .int b] y = some (some (.int (sp_ty nt (sp_nd N) (sp_fr nt N) M res par 69 a b)), y) := by
  rw [wX1_typeOf_0_out _ _ _ _ _ (by decide)]
  have hg : ∀ (k q : Int32) r, sp_fk nt (sp_fr nt N) k q = true → mj_g k 4000 r = r := fun k q r hq => mj_g_k (sp_nd_in hN (sp_fk_nd hq) (Nat.le_refl _)) r
  have hv : ∀ (k : Int32) r, ¬ sp_val nt (sp_fr nt N) k = 0 → mj_g k 4000 r = r := fun k r hq => mj_g_k (sp_nd_in hN (sp_val_nd hq) (Nat.le_refl _)) r
  have ht : ∀ (k : Int32) r, ¬ sp_tg nt (sp_fr nt N) k = 0 → mj_g k 4000 r = r := fun k r hq => mj_g_k (sp_nd_in hN (sp_tg_nd hq) (Nat.le_refl _)) r
  have hw : ∀ (k : Int32) r, sp_nd N k = true → mj_g k 4000 r = r := fun k r hq => mj_g_k (sp_nd_in hN hq (Nat.le_refl _)) r
  have f4 : ∀ k, ¬ sp_val nt (sp_fr nt N) k = 0 → nt 3 k.toNatClampNeg = sp_val nt (sp_fr nt N) k := fun k => sp_val_v
  have f6 : ∀ k, ¬ sp_tg nt (sp_fr nt N) k = 0 → nt 3 k.toNatClampNeg = sp_tg nt (sp_fr nt N) k ∧ sp_tg nt (sp_fr nt N) k = sp_val nt (sp_fr nt N) k := fun k => sp_tg_v hW.2.2
  have hc : ∀ (g m : Int32) r, sp_call nt (sp_fr nt N) M par m g = true → mj_g m 40 r = r := fun g m r hq => mj_g_k (sp_call_in hM40 hq) r
  simp only [bX1_typeOf_220, bX1_typeOf_222, bX1_typeOf_224, bX1_typeOf_234, bX1_typeOf_245, bX1_typeOf_247, bX1_typeOf_254, bX1_typeOf_261, bX1_typeOf_277, sX1_elementOf hd, mj_rI_k, h5, h9]
  simp only [sp_ty] at hr ⊢
  simp at hr ⊢ <;> grind [sp_b, sp_isv, sp_i, sp_bin, sp_el]
theorem tX1_y70 {d : Nat} (hd : 1 ≤ d) {y : mj_X} {nt : sp_NT} {N M : Nat} {res par : Nat → Int32} (hN : N ≤ 4000) (h5 : y.1 5 = nt 3) (h9 : y.1 9 = res) (hM40 : M ≤ 40) (hW : sp_W nt N M par) (a b : Int32) (hr : ¬ sp_ty nt (sp_nd N) (sp_fr nt N) M res par 70 a b = -1) : kX1 (d + 1) 20 [.ref 0, .int 70, .int a, .int b] y = some (some (.int (sp_ty nt (sp_nd N) (sp_fr nt N) M res par 70 a b)), y) := by
  rw [wX1_typeOf_0_out _ _ _ _ _ (by decide)]
  have hg : ∀ (k q : Int32) r, sp_fk nt (sp_fr nt N) k q = true → mj_g k 4000 r = r := fun k q r hq => mj_g_k (sp_nd_in hN (sp_fk_nd hq) (Nat.le_refl _)) r
  have hv : ∀ (k : Int32) r, ¬ sp_val nt (sp_fr nt N) k = 0 → mj_g k 4000 r = r := fun k r hq => mj_g_k (sp_nd_in hN (sp_val_nd hq) (Nat.le_refl _)) r
  have ht : ∀ (k : Int32) r, ¬ sp_tg nt (sp_fr nt N) k = 0 → mj_g k 4000 r = r := fun k r hq => mj_g_k (sp_nd_in hN (sp_tg_nd hq) (Nat.le_refl _)) r
  have hw : ∀ (k : Int32) r, sp_nd N k = true → mj_g k 4000 r = r := fun k r hq => mj_g_k (sp_nd_in hN hq (Nat.le_refl _)) r
  have f4 : ∀ k, ¬ sp_val nt (sp_fr nt N) k = 0 → nt 3 k.toNatClampNeg = sp_val nt (sp_fr nt N) k := fun k => sp_val_v
  have f6 : ∀ k, ¬ sp_tg nt (sp_fr nt N) k = 0 → nt 3 k.toNatClampNeg = sp_tg nt (sp_fr nt N) k ∧ sp_tg nt (sp_fr nt N) k = sp_val nt (sp_fr nt N) k := fun k => sp_tg_v hW.2.2
  have hc : ∀ (g m : Int32) r, sp_call nt (sp_fr nt N) M par m g = true → mj_g m 40 r = r := fun g m r hq => mj_g_k (sp_call_in hM40 hq) r
  simp only [bX1_typeOf_220, bX1_typeOf_222, bX1_typeOf_224, bX1_typeOf_234, bX1_typeOf_245, bX1_typeOf_247, bX1_typeOf_254, bX1_typeOf_261, bX1_typeOf_277, sX1_elementOf hd, mj_rI_k, h5, h9]
  simp only [sp_ty] at hr ⊢
  simp at hr ⊢ <;> grind [sp_b, sp_isv, sp_i, sp_bin, sp_el]
theorem tX1_y71 {d : Nat} (hd : 1 ≤ d) {y : mj_X} {nt : sp_NT} {N M : Nat} {res par : Nat → Int32} (hN : N ≤ 4000) (h5 : y.1 5 = nt 3) (h9 : y.1 9 = res) (hM40 : M ≤ 40) (hW : sp_W nt N M par) (a b : Int32) (hr : ¬ sp_ty nt (sp_nd N) (sp_fr nt N) M res par 71 a b = -1) : kX1 (d + 1) 20 [.ref 0, .int 71, .int a, .int b] y = some (some (.int (sp_ty nt (sp_nd N) (sp_fr nt N) M res par 71 a b)), y) := by
  rw [wX1_typeOf_0_out _ _ _ _ _ (by decide)]
  have hg : ∀ (k q : Int32) r, sp_fk nt (sp_fr nt N) k q = true → mj_g k 4000 r = r := fun k q r hq => mj_g_k (sp_nd_in hN (sp_fk_nd hq) (Nat.le_refl _)) r
  have hv : ∀ (k : Int32) r, ¬ sp_val nt (sp_fr nt N) k = 0 → mj_g k 4000 r = r := fun k r hq => mj_g_k (sp_nd_in hN (sp_val_nd hq) (Nat.le_refl _)) r
  have ht : ∀ (k : Int32) r, ¬ sp_tg nt (sp_fr nt N) k = 0 → mj_g k 4000 r = r := fun k r hq => mj_g_k (sp_nd_in hN (sp_tg_nd hq) (Nat.le_refl _)) r
  have hw : ∀ (k : Int32) r, sp_nd N k = true → mj_g k 4000 r = r := fun k r hq => mj_g_k (sp_nd_in hN hq (Nat.le_refl _)) r
  have f4 : ∀ k, ¬ sp_val nt (sp_fr nt N) k = 0 → nt 3 k.toNatClampNeg = sp_val nt (sp_fr nt N) k := fun k => sp_val_v
  have f6 : ∀ k, ¬ sp_tg nt (sp_fr nt N) k = 0 → nt 3 k.toNatClampNeg = sp_tg nt (sp_fr nt N) k ∧ sp_tg nt (sp_fr nt N) k = sp_val nt (sp_fr nt N) k := fun k => sp_tg_v hW.2.2
  have hc : ∀ (g m : Int32) r, sp_call nt (sp_fr nt N) M par m g = true → mj_g m 40 r = r := fun g m r hq => mj_g_k (sp_call_in hM40 hq) r
  simp only [bX1_typeOf_220, bX1_typeOf_222, bX1_typeOf_224, bX1_typeOf_234, bX1_typeOf_245, bX1_typeOf_247, bX1_typeOf_254, bX1_typeOf_261, bX1_typeOf_277, sX1_elementOf hd, mj_rI_k, h5, h9]
  simp only [sp_ty] at hr ⊢
  simp at hr ⊢ <;> grind [sp_b, sp_isv, sp_i, sp_bin, sp_el]
theorem tX1_y72 {d : Nat} (hd : 1 ≤ d) {y : mj_X} {nt : sp_NT} {N M : Nat} {res par : Nat → Int32} (hN : N ≤ 4000) (h5 : y.1 5 = nt 3) (h9 : y.1 9 = res) (hM40 : M ≤ 40) (hW : sp_W nt N M par) (a b : Int32) (hr : ¬ sp_ty nt (sp_nd N) (sp_fr nt N) M res par 72 a b = -1) : kX1 (d + 1) 20 [.ref 0, .int 72, .int a, .int b] y = some (some (.int (sp_ty nt (sp_nd N) (sp_fr nt N) M res par 72 a b)), y) := by
  rw [wX1_typeOf_0_out _ _ _ _ _ (by decide)]
  have hg : ∀ (k q : Int32) r, sp_fk nt (sp_fr nt N) k q = true → mj_g k 4000 r = r := fun k q r hq => mj_g_k (sp_nd_in hN (sp_fk_nd hq) (Nat.le_refl _)) r
  have hv : ∀ (k : Int32) r, ¬ sp_val nt (sp_fr nt N) k = 0 → mj_g k 4000 r = r := fun k r hq => mj_g_k (sp_nd_in hN (sp_val_nd hq) (Nat.le_refl _)) r
  have ht : ∀ (k : Int32) r, ¬ sp_tg nt (sp_fr nt N) k = 0 → mj_g k 4000 r = r := fun k r hq => mj_g_k (sp_nd_in hN (sp_tg_nd hq) (Nat.le_refl _)) r
  have hw : ∀ (k : Int32) r, sp_nd N k = true → mj_g k 4000 r = r := fun k r hq => mj_g_k (sp_nd_in hN hq (Nat.le_refl _)) r
  have f4 : ∀ k, ¬ sp_val nt (sp_fr nt N) k = 0 → nt 3 k.toNatClampNeg = sp_val nt (sp_fr nt N) k := fun k => sp_val_v
  have f6 : ∀ k, ¬ sp_tg nt (sp_fr nt N) k = 0 → nt 3 k.toNatClampNeg = sp_tg nt (sp_fr nt N) k ∧ sp_tg nt (sp_fr nt N) k = sp_val nt (sp_fr nt N) k := fun k => sp_tg_v hW.2.2
  have hc : ∀ (g m : Int32) r, sp_call nt (sp_fr nt N) M par m g = true → mj_g m 40 r = r := fun g m r hq => mj_g_k (sp_call_in hM40 hq) r
  simp only [bX1_typeOf_220, bX1_typeOf_222, bX1_typeOf_224, bX1_typeOf_234, bX1_typeOf_245, bX1_typeOf_247, bX1_typeOf_254, bX1_typeOf_261, bX1_typeOf_277, sX1_elementOf hd, mj_rI_k, h5, h9]
  simp only [sp_ty] at hr ⊢
  simp at hr ⊢ <;> grind [sp_b, sp_isv, sp_i, sp_bin, sp_el]
theorem tX1_y73 {d : Nat} (hd : 1 ≤ d) {y : mj_X} {nt : sp_NT} {N M : Nat} {res par : Nat → Int32} (hN : N ≤ 4000) (h5 : y.1 5 = nt 3) (h9 : y.1 9 = res) (hM40 : M ≤ 40) (hW : sp_W nt N M par) (a b : Int32) (hr : ¬ sp_ty nt (sp_nd N) (sp_fr nt N) M res par 73 a b = -1) : kX1 (d + 1) 20 [.ref 0, .int 73, .int a, .int b] y = some (some (.int (sp_ty nt (sp_nd N) (sp_fr nt N) M res par 73 a b)), y) := by
  rw [wX1_typeOf_0_out _ _ _ _ _ (by decide)]
  have hg : ∀ (k q : Int32) r, sp_fk nt (sp_fr nt N) k q = true → mj_g k 4000 r = r := fun k q r hq => mj_g_k (sp_nd_in hN (sp_fk_nd hq) (Nat.le_refl _)) r
  have hv : ∀ (k : Int32) r, ¬ sp_val nt (sp_fr nt N) k = 0 → mj_g k 4000 r = r := fun k r hq => mj_g_k (sp_nd_in hN (sp_val_nd hq) (Nat.le_refl _)) r
  have ht : ∀ (k : Int32) r, ¬ sp_tg nt (sp_fr nt N) k = 0 → mj_g k 4000 r = r := fun k r hq => mj_g_k (sp_nd_in hN (sp_tg_nd hq) (Nat.le_refl _)) r
  have hw : ∀ (k : Int32) r, sp_nd N k = true → mj_g k 4000 r = r := fun k r hq => mj_g_k (sp_nd_in hN hq (Nat.le_refl _)) r
  have f4 : ∀ k, ¬ sp_val nt (sp_fr nt N) k = 0 → nt 3 k.toNatClampNeg = sp_val nt (sp_fr nt N) k := fun k => sp_val_v
  have f6 : ∀ k, ¬ sp_tg nt (sp_fr nt N) k = 0 → nt 3 k.toNatClampNeg = sp_tg nt (sp_fr nt N) k ∧ sp_tg nt (sp_fr nt N) k = sp_val nt (sp_fr nt N) k := fun k => sp_tg_v hW.2.2
  have hc : ∀ (g m : Int32) r, sp_call nt (sp_fr nt N) M par m g = true → mj_g m 40 r = r := fun g m r hq => mj_g_k (sp_call_in hM40 hq) r
  simp only [bX1_typeOf_220, bX1_typeOf_222, bX1_typeOf_224, bX1_typeOf_234, bX1_typeOf_245, bX1_typeOf_247, bX1_typeOf_254, bX1_typeOf_261, bX1_typeOf_277, sX1_elementOf hd, mj_rI_k, h5, h9]
  simp only [sp_ty] at hr ⊢
  simp at hr ⊢ <;> grind [sp_b, sp_isv, sp_i, sp_bin, sp_el]
theorem tX1_y74 {d : Nat} (hd : 1 ≤ d) {y : mj_X} {nt : sp_NT} {N M : Nat} {res par : Nat → Int32} (hN : N ≤ 4000) (h5 : y.1 5 = nt 3) (h9 : y.1 9 = res) (hM40 : M ≤ 40) (hW : sp_W nt N M par) (a b : Int32) (hr : ¬ sp_ty nt (sp_nd N) (sp_fr nt N) M res par 74 a b = -1) : kX1 (d + 1) 20 [.ref 0, .int 74, .int a, .int b] y = some (some (.int (sp_ty nt (sp_nd N) (sp_fr nt N) M res par 74 a b)), y) := by
  rw [wX1_typeOf_0_out _ _ _ _ _ (by decide)]
  have hg : ∀ (k q : Int32) r, sp_fk nt (sp_fr nt N) k q = true → mj_g k 4000 r = r := fun k q r hq => mj_g_k (sp_nd_in hN (sp_fk_nd hq) (Nat.le_refl _)) r
  have hv : ∀ (k : Int32) r, ¬ sp_val nt (sp_fr nt N) k = 0 → mj_g k 4000 r = r := fun k r hq => mj_g_k (sp_nd_in hN (sp_val_nd hq) (Nat.le_refl _)) r
  have ht : ∀ (k : Int32) r, ¬ sp_tg nt (sp_fr nt N) k = 0 → mj_g k 4000 r = r := fun k r hq => mj_g_k (sp_nd_in hN (sp_tg_nd hq) (Nat.le_refl _)) r
  have hw : ∀ (k : Int32) r, sp_nd N k = true → mj_g k 4000 r = r := fun k r hq => mj_g_k (sp_nd_in hN hq (Nat.le_refl _)) r
  have f4 : ∀ k, ¬ sp_val nt (sp_fr nt N) k = 0 → nt 3 k.toNatClampNeg = sp_val nt (sp_fr nt N) k := fun k => sp_val_v
  have f6 : ∀ k, ¬ sp_tg nt (sp_fr nt N) k = 0 → nt 3 k.toNatClampNeg = sp_tg nt (sp_fr nt N) k ∧ sp_tg nt (sp_fr nt N) k = sp_val nt (sp_fr nt N) k := fun k => sp_tg_v hW.2.2
  have hc : ∀ (g m : Int32) r, sp_call nt (sp_fr nt N) M par m g = true → mj_g m 40 r = r := fun g m r hq => mj_g_k (sp_call_in hM40 hq) r
  simp only [bX1_typeOf_220, bX1_typeOf_222, bX1_typeOf_224, bX1_typeOf_234, bX1_typeOf_245, bX1_typeOf_247, bX1_typeOf_254, bX1_typeOf_261, bX1_typeOf_277, sX1_elementOf hd, mj_rI_k, h5, h9]
  simp only [sp_ty] at hr ⊢
  simp at hr ⊢ <;> grind [sp_b, sp_isv, sp_i, sp_bin, sp_el]
theorem tX1_y75 {d : Nat} (hd : 1 ≤ d) {y : mj_X} {nt : sp_NT} {N M : Nat} {res par : Nat → Int32} (hN : N ≤ 4000) (h5 : y.1 5 = nt 3) (h9 : y.1 9 = res) (hM40 : M ≤ 40) (hW : sp_W nt N M par) (a b : Int32) (hr : ¬ sp_ty nt (sp_nd N) (sp_fr nt N) M res par 75 a b = -1) : kX1 (d + 1) 20 [.ref 0, .int 75, .int a, .int b] y = some (some (.int (sp_ty nt (sp_nd N) (sp_fr nt N) M res par 75 a b)), y) := by
  rw [wX1_typeOf_0_out _ _ _ _ _ (by decide)]
  have hg : ∀ (k q : Int32) r, sp_fk nt (sp_fr nt N) k q = true → mj_g k 4000 r = r := fun k q r hq => mj_g_k (sp_nd_in hN (sp_fk_nd hq) (Nat.le_refl _)) r
  have hv : ∀ (k : Int32) r, ¬ sp_val nt (sp_fr nt N) k = 0 → mj_g k 4000 r = r := fun k r hq => mj_g_k (sp_nd_in hN (sp_val_nd hq) (Nat.le_refl _)) r
  have ht : ∀ (k : Int32) r, ¬ sp_tg nt (sp_fr nt N) k = 0 → mj_g k 4000 r = r := fun k r hq => mj_g_k (sp_nd_in hN (sp_tg_nd hq) (Nat.le_refl _)) r
  have hw : ∀ (k : Int32) r, sp_nd N k = true → mj_g k 4000 r = r := fun k r hq => mj_g_k (sp_nd_in hN hq (Nat.le_refl _)) r
  have f4 : ∀ k, ¬ sp_val nt (sp_fr nt N) k = 0 → nt 3 k.toNatClampNeg = sp_val nt (sp_fr nt N) k := fun k => sp_val_v
  have f6 : ∀ k, ¬ sp_tg nt (sp_fr nt N) k = 0 → nt 3 k.toNatClampNeg = sp_tg nt (sp_fr nt N) k ∧ sp_tg nt (sp_fr nt N) k = sp_val nt (sp_fr nt N) k := fun k => sp_tg_v hW.2.2
  have hc : ∀ (g m : Int32) r, sp_call nt (sp_fr nt N) M par m g = true → mj_g m 40 r = r := fun g m r hq => mj_g_k (sp_call_in hM40 hq) r
  simp only [bX1_typeOf_220, bX1_typeOf_222, bX1_typeOf_224, bX1_typeOf_234, bX1_typeOf_245, bX1_typeOf_247, bX1_typeOf_254, bX1_typeOf_261, bX1_typeOf_277, sX1_elementOf hd, mj_rI_k, h5, h9]
  simp only [sp_ty] at hr ⊢
  simp at hr ⊢ <;> grind [sp_b, sp_isv, sp_i, sp_bin, sp_el]
theorem tX1_y76 {d : Nat} (hd : 1 ≤ d) {y : mj_X} {nt : sp_NT} {N M : Nat} {res par : Nat → Int32} (hN : N ≤ 4000) (h5 : y.1 5 = nt 3) (h9 : y.1 9 = res) (hM40 : M ≤ 40) (hW : sp_W nt N M par) (a b : Int32) (hr : ¬ sp_ty nt (sp_nd N) (sp_fr nt N) M res par 76 a b = -1) : kX1 (d + 1) 20 [.ref 0, .int 76, .int a, .int b] y = some (some (.int (sp_ty nt (sp_nd N) (sp_fr nt N) M res par 76 a b)), y) := by
  rw [wX1_typeOf_0_out _ _ _ _ _ (by decide)]
  have hg : ∀ (k q : Int32) r, sp_fk nt (sp_fr nt N) k q = true → mj_g k 4000 r = r := fun k q r hq => mj_g_k (sp_nd_in hN (sp_fk_nd hq) (Nat.le_refl _)) r
  have hv : ∀ (k : Int32) r, ¬ sp_val nt (sp_fr nt N) k = 0 → mj_g k 4000 r = r := fun k r hq => mj_g_k (sp_nd_in hN (sp_val_nd hq) (Nat.le_refl _)) r
  have ht : ∀ (k : Int32) r, ¬ sp_tg nt (sp_fr nt N) k = 0 → mj_g k 4000 r = r := fun k r hq => mj_g_k (sp_nd_in hN (sp_tg_nd hq) (Nat.le_refl _)) r
  have hw : ∀ (k : Int32) r, sp_nd N k = true → mj_g k 4000 r = r := fun k r hq => mj_g_k (sp_nd_in hN hq (Nat.le_refl _)) r
  have f4 : ∀ k, ¬ sp_val nt (sp_fr nt N) k = 0 → nt 3 k.toNatClampNeg = sp_val nt (sp_fr nt N) k := fun k => sp_val_v
  have f6 : ∀ k, ¬ sp_tg nt (sp_fr nt N) k = 0 → nt 3 k.toNatClampNeg = sp_tg nt (sp_fr nt N) k ∧ sp_tg nt (sp_fr nt N) k = sp_val nt (sp_fr nt N) k := fun k => sp_tg_v hW.2.2
  have hc : ∀ (g m : Int32) r, sp_call nt (sp_fr nt N) M par m g = true → mj_g m 40 r = r := fun g m r hq => mj_g_k (sp_call_in hM40 hq) r
  simp only [bX1_typeOf_220, bX1_typeOf_222, bX1_typeOf_224, bX1_typeOf_234, bX1_typeOf_245, bX1_typeOf_247, bX1_typeOf_254, bX1_typeOf_261, bX1_typeOf_277, sX1_elementOf hd, mj_rI_k, h5, h9]
  simp only [sp_ty] at hr ⊢
  simp at hr ⊢ <;> grind [sp_b, sp_isv, sp_i, sp_bin, sp_el]
theorem tX1_y77 {d : Nat} (hd : 1 ≤ d) {y : mj_X} {nt : sp_NT} {N M : Nat} {res par : Nat → Int32} (hN : N ≤ 4000) (h5 : y.1 5 = nt 3) (h9 : y.1 9 = res) (hM40 : M ≤ 40) (hW : sp_W nt N M par) (a b : Int32) (hr : ¬ sp_ty nt (sp_nd N) (sp_fr nt N) M res par 77 a b = -1) : kX1 (d + 1) 20 [.ref 0, .int 77, .int a, .int b] y = some (some (.int (sp_ty nt (sp_nd N) (sp_fr nt N) M res par 77 a b)), y) := by
  rw [wX1_typeOf_0_out _ _ _ _ _ (by decide)]
  have hg : ∀ (k q : Int32) r, sp_fk nt (sp_fr nt N) k q = true → mj_g k 4000 r = r := fun k q r hq => mj_g_k (sp_nd_in hN (sp_fk_nd hq) (Nat.le_refl _)) r
  have hv : ∀ (k : Int32) r, ¬ sp_val nt (sp_fr nt N) k = 0 → mj_g k 4000 r = r := fun k r hq => mj_g_k (sp_nd_in hN (sp_val_nd hq) (Nat.le_refl _)) r
  have ht : ∀ (k : Int32) r, ¬ sp_tg nt (sp_fr nt N) k = 0 → mj_g k 4000 r = r := fun k r hq => mj_g_k (sp_nd_in hN (sp_tg_nd hq) (Nat.le_refl _)) r
  have hw : ∀ (k : Int32) r, sp_nd N k = true → mj_g k 4000 r = r := fun k r hq => mj_g_k (sp_nd_in hN hq (Nat.le_refl _)) r
  have f4 : ∀ k, ¬ sp_val nt (sp_fr nt N) k = 0 → nt 3 k.toNatClampNeg = sp_val nt (sp_fr nt N) k := fun k => sp_val_v
  have f6 : ∀ k, ¬ sp_tg nt (sp_fr nt N) k = 0 → nt 3 k.toNatClampNeg = sp_tg nt (sp_fr nt N) k ∧ sp_tg nt (sp_fr nt N) k = sp_val nt (sp_fr nt N) k := fun k => sp_tg_v hW.2.2
  have hc : ∀ (g m : Int32) r, sp_call nt (sp_fr nt N) M par m g = true → mj_g m 40 r = r := fun g m r hq => mj_g_k (sp_call_in hM40 hq) r
  simp only [bX1_typeOf_220, bX1_typeOf_222, bX1_typeOf_224, bX1_typeOf_234, bX1_typeOf_245, bX1_typeOf_247, bX1_typeOf_254, bX1_typeOf_261, bX1_typeOf_277, sX1_elementOf hd, mj_rI_k, h5, h9]
  simp only [sp_ty] at hr ⊢
  simp at hr ⊢ <;> grind [sp_b, sp_isv, sp_i, sp_bin, sp_el]
theorem tX1_y78 {d : Nat} (hd : 1 ≤ d) {y : mj_X} {nt : sp_NT} {N M : Nat} {res par : Nat → Int32} (hN : N ≤ 4000) (h5 : y.1 5 = nt 3) (h9 : y.1 9 = res) (hM40 : M ≤ 40) (hW : sp_W nt N M par) (a b : Int32) (hr : ¬ sp_ty nt (sp_nd N) (sp_fr nt N) M res par 78 a b = -1) : kX1 (d + 1) 20 [.ref 0, .int 78, .int a, .int b] y = some (some (.int (sp_ty nt (sp_nd N) (sp_fr nt N) M res par 78 a b)), y) := by
  rw [wX1_typeOf_0_out _ _ _ _ _ (by decide)]
  have hg : ∀ (k q : Int32) r, sp_fk nt (sp_fr nt N) k q = true → mj_g k 4000 r = r := fun k q r hq => mj_g_k (sp_nd_in hN (sp_fk_nd hq) (Nat.le_refl _)) r
  have hv : ∀ (k : Int32) r, ¬ sp_val nt (sp_fr nt N) k = 0 → mj_g k 4000 r = r := fun k r hq => mj_g_k (sp_nd_in hN (sp_val_nd hq) (Nat.le_refl _)) r
  have ht : ∀ (k : Int32) r, ¬ sp_tg nt (sp_fr nt N) k = 0 → mj_g k 4000 r = r := fun k r hq => mj_g_k (sp_nd_in hN (sp_tg_nd hq) (Nat.le_refl _)) r
  have hw : ∀ (k : Int32) r, sp_nd N k = true → mj_g k 4000 r = r := fun k r hq => mj_g_k (sp_nd_in hN hq (Nat.le_refl _)) r
  have f4 : ∀ k, ¬ sp_val nt (sp_fr nt N) k = 0 → nt 3 k.toNatClampNeg = sp_val nt (sp_fr nt N) k := fun k => sp_val_v
  have f6 : ∀ k, ¬ sp_tg nt (sp_fr nt N) k = 0 → nt 3 k.toNatClampNeg = sp_tg nt (sp_fr nt N) k ∧ sp_tg nt (sp_fr nt N) k = sp_val nt (sp_fr nt N) k := fun k => sp_tg_v hW.2.2
  have hc : ∀ (g m : Int32) r, sp_call nt (sp_fr nt N) M par m g = true → mj_g m 40 r = r := fun g m r hq => mj_g_k (sp_call_in hM40 hq) r
  simp only [bX1_typeOf_220, bX1_typeOf_222, bX1_typeOf_224, bX1_typeOf_234, bX1_typeOf_245, bX1_typeOf_247, bX1_typeOf_254, bX1_typeOf_261, bX1_typeOf_277, sX1_elementOf hd, mj_rI_k, h5, h9]
  simp only [sp_ty] at hr ⊢
  simp at hr ⊢ <;> grind [sp_b, sp_isv, sp_i, sp_bin, sp_el]
theorem tX1_y79 {d : Nat} (hd : 1 ≤ d) {y : mj_X} {nt : sp_NT} {N M : Nat} {res par : Nat → Int32} (hN : N ≤ 4000) (h5 : y.1 5 = nt 3) (h9 : y.1 9 = res) (hM40 : M ≤ 40) (hW : sp_W nt N M par) (a b : Int32) (hr : ¬ sp_ty nt (sp_nd N) (sp_fr nt N) M res par 79 a b = -1) : kX1 (d + 1) 20 [.ref 0, .int 79, .int a, .int b] y = some (some (.int (sp_ty nt (sp_nd N) (sp_fr nt N) M res par 79 a b)), y) := by
  rw [wX1_typeOf_0_out _ _ _ _ _ (by decide)]
  have hg : ∀ (k q : Int32) r, sp_fk nt (sp_fr nt N) k q = true → mj_g k 4000 r = r := fun k q r hq => mj_g_k (sp_nd_in hN (sp_fk_nd hq) (Nat.le_refl _)) r
  have hv : ∀ (k : Int32) r, ¬ sp_val nt (sp_fr nt N) k = 0 → mj_g k 4000 r = r := fun k r hq => mj_g_k (sp_nd_in hN (sp_val_nd hq) (Nat.le_refl _)) r
  have ht : ∀ (k : Int32) r, ¬ sp_tg nt (sp_fr nt N) k = 0 → mj_g k 4000 r = r := fun k r hq => mj_g_k (sp_nd_in hN (sp_tg_nd hq) (Nat.le_refl _)) r
  have hw : ∀ (k : Int32) r, sp_nd N k = true → mj_g k 4000 r = r := fun k r hq => mj_g_k (sp_nd_in hN hq (Nat.le_refl _)) r
  have f4 : ∀ k, ¬ sp_val nt (sp_fr nt N) k = 0 → nt 3 k.toNatClampNeg = sp_val nt (sp_fr nt N) k := fun k => sp_val_v
  have f6 : ∀ k, ¬ sp_tg nt (sp_fr nt N) k = 0 → nt 3 k.toNatClampNeg = sp_tg nt (sp_fr nt N) k ∧ sp_tg nt (sp_fr nt N) k = sp_val nt (sp_fr nt N) k := fun k => sp_tg_v hW.2.2
  have hc : ∀ (g m : Int32) r, sp_call nt (sp_fr nt N) M par m g = true → mj_g m 40 r = r := fun g m r hq => mj_g_k (sp_call_in hM40 hq) r
  simp only [bX1_typeOf_220, bX1_typeOf_222, bX1_typeOf_224, bX1_typeOf_234, bX1_typeOf_245, bX1_typeOf_247, bX1_typeOf_254, bX1_typeOf_261, bX1_typeOf_277, sX1_elementOf hd, mj_rI_k, h5, h9]
  simp only [sp_ty] at hr ⊢
  simp at hr ⊢ <;> grind [sp_b, sp_isv, sp_i, sp_bin, sp_el]
theorem tX1_y80 {d : Nat} (hd : 1 ≤ d) {y : mj_X} {nt : sp_NT} {N M : Nat} {res par : Nat → Int32} (hN : N ≤ 4000) (h5 : y.1 5 = nt 3) (h9 : y.1 9 = res) (hM40 : M ≤ 40) (hW : sp_W nt N M par) (a b : Int32) (hr : ¬ sp_ty nt (sp_nd N) (sp_fr nt N) M res par 80 a b = -1) : kX1 (d + 1) 20 [.ref 0, .int 80, .int a, .int b] y = some (some (.int (sp_ty nt (sp_nd N) (sp_fr nt N) M res par 80 a b)), y) := by
  rw [wX1_typeOf_0_out _ _ _ _ _ (by decide)]
  have hg : ∀ (k q : Int32) r, sp_fk nt (sp_fr nt N) k q = true → mj_g k 4000 r = r := fun k q r hq => mj_g_k (sp_nd_in hN (sp_fk_nd hq) (Nat.le_refl _)) r
  have hv : ∀ (k : Int32) r, ¬ sp_val nt (sp_fr nt N) k = 0 → mj_g k 4000 r = r := fun k r hq => mj_g_k (sp_nd_in hN (sp_val_nd hq) (Nat.le_refl _)) r
  have ht : ∀ (k : Int32) r, ¬ sp_tg nt (sp_fr nt N) k = 0 → mj_g k 4000 r = r := fun k r hq => mj_g_k (sp_nd_in hN (sp_tg_nd hq) (Nat.le_refl _)) r
  have hw : ∀ (k : Int32) r, sp_nd N k = true → mj_g k 4000 r = r := fun k r hq => mj_g_k (sp_nd_in hN hq (Nat.le_refl _)) r
  have f4 : ∀ k, ¬ sp_val nt (sp_fr nt N) k = 0 → nt 3 k.toNatClampNeg = sp_val nt (sp_fr nt N) k := fun k => sp_val_v
  have f6 : ∀ k, ¬ sp_tg nt (sp_fr nt N) k = 0 → nt 3 k.toNatClampNeg = sp_tg nt (sp_fr nt N) k ∧ sp_tg nt (sp_fr nt N) k = sp_val nt (sp_fr nt N) k := fun k => sp_tg_v hW.2.2
  have hc : ∀ (g m : Int32) r, sp_call nt (sp_fr nt N) M par m g = true → mj_g m 40 r = r := fun g m r hq => mj_g_k (sp_call_in hM40 hq) r
  simp only [bX1_typeOf_220, bX1_typeOf_222, bX1_typeOf_224, bX1_typeOf_234, bX1_typeOf_245, bX1_typeOf_247, bX1_typeOf_254, bX1_typeOf_261, bX1_typeOf_277, sX1_elementOf hd, mj_rI_k, h5, h9]
  simp only [sp_ty] at hr ⊢
  simp at hr ⊢ <;> grind [sp_b, sp_isv, sp_i, sp_bin, sp_el]
theorem tX1_y81 {d : Nat} (hd : 1 ≤ d) {y : mj_X} {nt : sp_NT} {N M : Nat} {res par : Nat → Int32} (hN : N ≤ 4000) (h5 : y.1 5 = nt 3) (h9 : y.1 9 = res) (hM40 : M ≤ 40) (hW : sp_W nt N M par) (a b : Int32) (hr : ¬ sp_ty nt (sp_nd N) (sp_fr nt N) M res par 81 a b = -1) : kX1 (d + 1) 20 [.ref 0, .int 81, .int a, .int b] y = some (some (.int (sp_ty nt (sp_nd N) (sp_fr nt N) M res par 81 a b)), y) := by
  rw [wX1_typeOf_0_out _ _ _ _ _ (by decide)]
  have hg : ∀ (k q : Int32) r, sp_fk nt (sp_fr nt N) k q = true → mj_g k 4000 r = r := fun k q r hq => mj_g_k (sp_nd_in hN (sp_fk_nd hq) (Nat.le_refl _)) r
  have hv : ∀ (k : Int32) r, ¬ sp_val nt (sp_fr nt N) k = 0 → mj_g k 4000 r = r := fun k r hq => mj_g_k (sp_nd_in hN (sp_val_nd hq) (Nat.le_refl _)) r
  have ht : ∀ (k : Int32) r, ¬ sp_tg nt (sp_fr nt N) k = 0 → mj_g k 4000 r = r := fun k r hq => mj_g_k (sp_nd_in hN (sp_tg_nd hq) (Nat.le_refl _)) r
  have hw : ∀ (k : Int32) r, sp_nd N k = true → mj_g k 4000 r = r := fun k r hq => mj_g_k (sp_nd_in hN hq (Nat.le_refl _)) r
  have f4 : ∀ k, ¬ sp_val nt (sp_fr nt N) k = 0 → nt 3 k.toNatClampNeg = sp_val nt (sp_fr nt N) k := fun k => sp_val_v
  have f6 : ∀ k, ¬ sp_tg nt (sp_fr nt N) k = 0 → nt 3 k.toNatClampNeg = sp_tg nt (sp_fr nt N) k ∧ sp_tg nt (sp_fr nt N) k = sp_val nt (sp_fr nt N) k := fun k => sp_tg_v hW.2.2
  have hc : ∀ (g m : Int32) r, sp_call nt (sp_fr nt N) M par m g = true → mj_g m 40 r = r := fun g m r hq => mj_g_k (sp_call_in hM40 hq) r
  simp only [bX1_typeOf_220, bX1_typeOf_222, bX1_typeOf_224, bX1_typeOf_234, bX1_typeOf_245, bX1_typeOf_247, bX1_typeOf_254, bX1_typeOf_261, bX1_typeOf_277, sX1_elementOf hd, mj_rI_k, h5, h9]
  simp only [sp_ty] at hr ⊢
  simp at hr ⊢ <;> grind [sp_b, sp_isv, sp_i, sp_bin, sp_el]
theorem tX1_y82 {d : Nat} (hd : 1 ≤ d) {y : mj_X} {nt : sp_NT} {N M : Nat} {res par : Nat → Int32} (hN : N ≤ 4000) (h5 : y.1 5 = nt 3) (h9 : y.1 9 = res) (hM40 : M ≤ 40) (hW : sp_W nt N M par) (a b : Int32) (hr : ¬ sp_ty nt (sp_nd N) (sp_fr nt N) M res par 82 a b = -1) : kX1 (d + 1) 20 [.ref 0, .int 82, .int a, .int b] y = some (some (.int (sp_ty nt (sp_nd N) (sp_fr nt N) M res par 82 a b)), y) := by
  rw [wX1_typeOf_0_out _ _ _ _ _ (by decide)]
  have hg : ∀ (k q : Int32) r, sp_fk nt (sp_fr nt N) k q = true → mj_g k 4000 r = r := fun k q r hq => mj_g_k (sp_nd_in hN (sp_fk_nd hq) (Nat.le_refl _)) r
  have hv : ∀ (k : Int32) r, ¬ sp_val nt (sp_fr nt N) k = 0 → mj_g k 4000 r = r := fun k r hq => mj_g_k (sp_nd_in hN (sp_val_nd hq) (Nat.le_refl _)) r
  have ht : ∀ (k : Int32) r, ¬ sp_tg nt (sp_fr nt N) k = 0 → mj_g k 4000 r = r := fun k r hq => mj_g_k (sp_nd_in hN (sp_tg_nd hq) (Nat.le_refl _)) r
  have hw : ∀ (k : Int32) r, sp_nd N k = true → mj_g k 4000 r = r := fun k r hq => mj_g_k (sp_nd_in hN hq (Nat.le_refl _)) r
  have f4 : ∀ k, ¬ sp_val nt (sp_fr nt N) k = 0 → nt 3 k.toNatClampNeg = sp_val nt (sp_fr nt N) k := fun k => sp_val_v
  have f6 : ∀ k, ¬ sp_tg nt (sp_fr nt N) k = 0 → nt 3 k.toNatClampNeg = sp_tg nt (sp_fr nt N) k ∧ sp_tg nt (sp_fr nt N) k = sp_val nt (sp_fr nt N) k := fun k => sp_tg_v hW.2.2
  have hc : ∀ (g m : Int32) r, sp_call nt (sp_fr nt N) M par m g = true → mj_g m 40 r = r := fun g m r hq => mj_g_k (sp_call_in hM40 hq) r
  simp only [bX1_typeOf_220, bX1_typeOf_222, bX1_typeOf_224, bX1_typeOf_234, bX1_typeOf_245, bX1_typeOf_247, bX1_typeOf_254, bX1_typeOf_261, bX1_typeOf_277, sX1_elementOf hd, mj_rI_k, h5, h9]
  simp only [sp_ty] at hr ⊢
  simp at hr ⊢ <;> grind [sp_b, sp_isv, sp_i, sp_bin, sp_el]
theorem tX1_y83 {d : Nat} (hd : 1 ≤ d) {y : mj_X} {nt : sp_NT} {N M : Nat} {res par : Nat → Int32} (hN : N ≤ 4000) (h5 : y.1 5 = nt 3) (h9 : y.1 9 = res) (hM40 : M ≤ 40) (hW : sp_W nt N M par) (a b : Int32) (hr : ¬ sp_ty nt (sp_nd N) (sp_fr nt N) M res par 83 a b = -1) : kX1 (d + 1) 20 [.ref 0, .int 83, .int a, .int b] y = some (some (.int (sp_ty nt (sp_nd N) (sp_fr nt N) M res par 83 a b)), y) := by
  rw [wX1_typeOf_0_out _ _ _ _ _ (by decide)]
  have hg : ∀ (k q : Int32) r, sp_fk nt (sp_fr nt N) k q = true → mj_g k 4000 r = r := fun k q r hq => mj_g_k (sp_nd_in hN (sp_fk_nd hq) (Nat.le_refl _)) r
  have hv : ∀ (k : Int32) r, ¬ sp_val nt (sp_fr nt N) k = 0 → mj_g k 4000 r = r := fun k r hq => mj_g_k (sp_nd_in hN (sp_val_nd hq) (Nat.le_refl _)) r
  have ht : ∀ (k : Int32) r, ¬ sp_tg nt (sp_fr nt N) k = 0 → mj_g k 4000 r = r := fun k r hq => mj_g_k (sp_nd_in hN (sp_tg_nd hq) (Nat.le_refl _)) r
  have hw : ∀ (k : Int32) r, sp_nd N k = true → mj_g k 4000 r = r := fun k r hq => mj_g_k (sp_nd_in hN hq (Nat.le_refl _)) r
  have f4 : ∀ k, ¬ sp_val nt (sp_fr nt N) k = 0 → nt 3 k.toNatClampNeg = sp_val nt (sp_fr nt N) k := fun k => sp_val_v
  have f6 : ∀ k, ¬ sp_tg nt (sp_fr nt N) k = 0 → nt 3 k.toNatClampNeg = sp_tg nt (sp_fr nt N) k ∧ sp_tg nt (sp_fr nt N) k = sp_val nt (sp_fr nt N) k := fun k => sp_tg_v hW.2.2
  have hc : ∀ (g m : Int32) r, sp_call nt (sp_fr nt N) M par m g = true → mj_g m 40 r = r := fun g m r hq => mj_g_k (sp_call_in hM40 hq) r
  simp only [bX1_typeOf_220, bX1_typeOf_222, bX1_typeOf_224, bX1_typeOf_234, bX1_typeOf_245, bX1_typeOf_247, bX1_typeOf_254, bX1_typeOf_261, bX1_typeOf_277, sX1_elementOf hd, mj_rI_k, h5, h9]
  simp only [sp_ty] at hr ⊢
  simp at hr ⊢ <;> grind [sp_b, sp_isv, sp_i, sp_bin, sp_el]
theorem tX1_y84 {d : Nat} (hd : 1 ≤ d) {y : mj_X} {nt : sp_NT} {N M : Nat} {res par : Nat → Int32} (hN : N ≤ 4000) (h5 : y.1 5 = nt 3) (h9 : y.1 9 = res) (hM40 : M ≤ 40) (hW : sp_W nt N M par) (a b : Int32) (hr : ¬ sp_ty nt (sp_nd N) (sp_fr nt N) M res par 84 a b = -1) : kX1 (d + 1) 20 [.ref 0, .int 84, .int a, .int b] y = some (some (.int (sp_ty nt (sp_nd N) (sp_fr nt N) M res par 84 a b)), y) := by
  rw [wX1_typeOf_0_out _ _ _ _ _ (by decide)]
  have hg : ∀ (k q : Int32) r, sp_fk nt (sp_fr nt N) k q = true → mj_g k 4000 r = r := fun k q r hq => mj_g_k (sp_nd_in hN (sp_fk_nd hq) (Nat.le_refl _)) r
  have hv : ∀ (k : Int32) r, ¬ sp_val nt (sp_fr nt N) k = 0 → mj_g k 4000 r = r := fun k r hq => mj_g_k (sp_nd_in hN (sp_val_nd hq) (Nat.le_refl _)) r
  have ht : ∀ (k : Int32) r, ¬ sp_tg nt (sp_fr nt N) k = 0 → mj_g k 4000 r = r := fun k r hq => mj_g_k (sp_nd_in hN (sp_tg_nd hq) (Nat.le_refl _)) r
  have hw : ∀ (k : Int32) r, sp_nd N k = true → mj_g k 4000 r = r := fun k r hq => mj_g_k (sp_nd_in hN hq (Nat.le_refl _)) r
  have f4 : ∀ k, ¬ sp_val nt (sp_fr nt N) k = 0 → nt 3 k.toNatClampNeg = sp_val nt (sp_fr nt N) k := fun k => sp_val_v
  have f6 : ∀ k, ¬ sp_tg nt (sp_fr nt N) k = 0 → nt 3 k.toNatClampNeg = sp_tg nt (sp_fr nt N) k ∧ sp_tg nt (sp_fr nt N) k = sp_val nt (sp_fr nt N) k := fun k => sp_tg_v hW.2.2
  have hc : ∀ (g m : Int32) r, sp_call nt (sp_fr nt N) M par m g = true → mj_g m 40 r = r := fun g m r hq => mj_g_k (sp_call_in hM40 hq) r
  simp only [bX1_typeOf_220, bX1_typeOf_222, bX1_typeOf_224, bX1_typeOf_234, bX1_typeOf_245, bX1_typeOf_247, bX1_typeOf_254, bX1_typeOf_261, bX1_typeOf_277, sX1_elementOf hd, mj_rI_k, h5, h9]
  simp only [sp_ty] at hr ⊢
  simp at hr ⊢ <;> grind [sp_b, sp_isv, sp_i, sp_bin, sp_el]
theorem tX1_y85 {d : Nat} (hd : 1 ≤ d) {y : mj_X} {nt : sp_NT} {N M : Nat} {res par : Nat → Int32} (hN : N ≤ 4000) (h5 : y.1 5 = nt 3) (h9 : y.1 9 = res) (hM40 : M ≤ 40) (hW : sp_W nt N M par) (a b : Int32) (hr : ¬ sp_ty nt (sp_nd N) (sp_fr nt N) M res par 85 a b = -1) : kX1 (d + 1) 20 [.ref 0, .int 85, .int a, .int b] y = some (some (.int (sp_ty nt (sp_nd N) (sp_fr nt N) M res par 85 a b)), y) := by
  rw [wX1_typeOf_0_out _ _ _ _ _ (by decide)]
  have hg : ∀ (k q : Int32) r, sp_fk nt (sp_fr nt N) k q = true → mj_g k 4000 r = r := fun k q r hq => mj_g_k (sp_nd_in hN (sp_fk_nd hq) (Nat.le_refl _)) r
  have hv : ∀ (k : Int32) r, ¬ sp_val nt (sp_fr nt N) k = 0 → mj_g k 4000 r = r := fun k r hq => mj_g_k (sp_nd_in hN (sp_val_nd hq) (Nat.le_refl _)) r
  have ht : ∀ (k : Int32) r, ¬ sp_tg nt (sp_fr nt N) k = 0 → mj_g k 4000 r = r := fun k r hq => mj_g_k (sp_nd_in hN (sp_tg_nd hq) (Nat.le_refl _)) r
  have hw : ∀ (k : Int32) r, sp_nd N k = true → mj_g k 4000 r = r := fun k r hq => mj_g_k (sp_nd_in hN hq (Nat.le_refl _)) r
  have f4 : ∀ k, ¬ sp_val nt (sp_fr nt N) k = 0 → nt 3 k.toNatClampNeg = sp_val nt (sp_fr nt N) k := fun k => sp_val_v
  have f6 : ∀ k, ¬ sp_tg nt (sp_fr nt N) k = 0 → nt 3 k.toNatClampNeg = sp_tg nt (sp_fr nt N) k ∧ sp_tg nt (sp_fr nt N) k = sp_val nt (sp_fr nt N) k := fun k => sp_tg_v hW.2.2
  have hc : ∀ (g m : Int32) r, sp_call nt (sp_fr nt N) M par m g = true → mj_g m 40 r = r := fun g m r hq => mj_g_k (sp_call_in hM40 hq) r
  simp only [bX1_typeOf_220, bX1_typeOf_222, bX1_typeOf_224, bX1_typeOf_234, bX1_typeOf_245, bX1_typeOf_247, bX1_typeOf_254, bX1_typeOf_261, bX1_typeOf_277, sX1_elementOf hd, mj_rI_k, h5, h9]
  simp only [sp_ty] at hr ⊢
  simp at hr ⊢ <;> grind [sp_b, sp_isv, sp_i, sp_bin, sp_el]
theorem tX1_y86 {d : Nat} (hd : 1 ≤ d) {y : mj_X} {nt : sp_NT} {N M : Nat} {res par : Nat → Int32} (hN : N ≤ 4000) (h5 : y.1 5 = nt 3) (h9 : y.1 9 = res) (hM40 : M ≤ 40) (hW : sp_W nt N M par) (a b : Int32) (hr : ¬ sp_ty nt (sp_nd N) (sp_fr nt N) M res par 86 a b = -1) : kX1 (d + 1) 20 [.ref 0, .int 86, .int a, .int b] y = some (some (.int (sp_ty nt (sp_nd N) (sp_fr nt N) M res par 86 a b)), y) := by
  rw [wX1_typeOf_0_out _ _ _ _ _ (by decide)]
  have hg : ∀ (k q : Int32) r, sp_fk nt (sp_fr nt N) k q = true → mj_g k 4000 r = r := fun k q r hq => mj_g_k (sp_nd_in hN (sp_fk_nd hq) (Nat.le_refl _)) r
  have hv : ∀ (k : Int32) r, ¬ sp_val nt (sp_fr nt N) k = 0 → mj_g k 4000 r = r := fun k r hq => mj_g_k (sp_nd_in hN (sp_val_nd hq) (Nat.le_refl _)) r
  have ht : ∀ (k : Int32) r, ¬ sp_tg nt (sp_fr nt N) k = 0 → mj_g k 4000 r = r := fun k r hq => mj_g_k (sp_nd_in hN (sp_tg_nd hq) (Nat.le_refl _)) r
  have hw : ∀ (k : Int32) r, sp_nd N k = true → mj_g k 4000 r = r := fun k r hq => mj_g_k (sp_nd_in hN hq (Nat.le_refl _)) r
  have f4 : ∀ k, ¬ sp_val nt (sp_fr nt N) k = 0 → nt 3 k.toNatClampNeg = sp_val nt (sp_fr nt N) k := fun k => sp_val_v
  have f6 : ∀ k, ¬ sp_tg nt (sp_fr nt N) k = 0 → nt 3 k.toNatClampNeg = sp_tg nt (sp_fr nt N) k ∧ sp_tg nt (sp_fr nt N) k = sp_val nt (sp_fr nt N) k := fun k => sp_tg_v hW.2.2
  have hc : ∀ (g m : Int32) r, sp_call nt (sp_fr nt N) M par m g = true → mj_g m 40 r = r := fun g m r hq => mj_g_k (sp_call_in hM40 hq) r
  simp only [bX1_typeOf_220, bX1_typeOf_222, bX1_typeOf_224, bX1_typeOf_234, bX1_typeOf_245, bX1_typeOf_247, bX1_typeOf_254, bX1_typeOf_261, bX1_typeOf_277, sX1_elementOf hd, mj_rI_k, h5, h9]
  simp only [sp_ty] at hr ⊢
  simp at hr ⊢ <;> grind [sp_b, sp_isv, sp_i, sp_bin, sp_el]
theorem sX1_typeOf {d : Nat} (hd : 2 ≤ d) {y : mj_X} {nt : sp_NT} {N M : Nat} {res par : Nat → Int32} (hN : N ≤ 4000) (h5 : y.1 5 = nt 3) (h9 : y.1 9 = res) (hM40 : M ≤ 40) (hW : sp_W nt N M par) (k a b : Int32) (hk : sp_isK k = true) (hr : ¬ sp_ty nt (sp_nd N) (sp_fr nt N) M res par k a b = -1) : kX1 d 20 [.ref 0, .int k, .int a, .int b] y = some (some (.int (sp_ty nt (sp_nd N) (sp_fr nt N) M res par k a b)), y) := by
  obtain ⟨d, rfl⟩ : ∃ c, d = c + 1 := ⟨d - 1, by omega⟩
  have hd : 1 ≤ d := by omega
  have hin := sp_isK_in k hk
  simp only [List.mem_cons, List.not_mem_nil, or_false] at hin
  rcases hin with rfl | rfl | rfl | rfl | rfl | rfl | rfl | rfl | rfl | rfl | rfl | rfl | rfl | rfl | rfl | rfl | rfl | rfl | rfl | rfl | rfl | rfl | rfl | rfl | rfl | rfl | rfl | rfl | rfl | rfl | rfl | rfl | rfl | rfl | rfl | rfl | rfl | rfl | rfl | rfl | rfl | rfl | rfl | rfl | rfl | rfl | rfl | rfl | rfl | rfl | rfl | rfl | rfl | rfl | rfl | rfl | rfl | rfl | rfl | rfl | rfl | rfl | rfl | rfl | rfl | rfl | rfl | rfl | rfl | rfl | rfl | rfl | rfl | rfl | rfl | rfl | rfl
  · exact tX1_y1 hd hN h5 h9 hM40 hW a b hr
  · exact tX1_y2 hd hN h5 h9 hM40 hW a b hr
  · exact tX1_y3 hd hN h5 h9 hM40 hW a b hr
  · exact tX1_y4 hd hN h5 h9 hM40 hW a b hr
  · exact tX1_y5 hd hN h5 h9 hM40 hW a b hr
  · exact tX1_y6 hd hN h5 h9 hM40 hW a b hr
  · exact tX1_y7 hd hN h5 h9 hM40 hW a b hr
  · exact tX1_y8 hd hN h5 h9 hM40 hW a b hr
  · exact tX1_y9 hd hN h5 h9 hM40 hW a b hr
  · exact tX1_y10 hd hN h5 h9 hM40 hW a b hr
  · exact tX1_y11 hd hN h5 h9 hM40 hW a b hr
  · exact tX1_y12 hd hN h5 h9 hM40 hW a b hr
  · exact tX1_y13 hd hN h5 h9 hM40 hW a b hr
  · exact tX1_y14 hd hN h5 h9 hM40 hW a b hr
  · exact tX1_y15 hd hN h5 h9 hM40 hW a b hr
  · exact tX1_y16 hd hN h5 h9 hM40 hW a b hr
  · exact tX1_y17 hd hN h5 h9 hM40 hW a b hr
  · exact tX1_y18 hd hN h5 h9 hM40 hW a b hr
  · exact tX1_y19 hd hN h5 h9 hM40 hW a b hr
  · exact tX1_y20 hd hN h5 h9 hM40 hW a b hr
  · exact tX1_y21 hd hN h5 h9 hM40 hW a b hr
  · exact tX1_y22 hd hN h5 h9 hM40 hW a b hr
  · exact tX1_y23 hd hN h5 h9 hM40 hW a b hr
  · exact tX1_y24 hd hN h5 h9 hM40 hW a b hr
  · exact tX1_y25 hd hN h5 h9 hM40 hW a b hr
  · exact tX1_y26 hd hN h5 h9 hM40 hW a b hr
  · exact tX1_y27 hd hN h5 h9 hM40 hW a b hr
  · exact tX1_y28 hd hN h5 h9 hM40 hW a b hr
  · exact tX1_y29 hd hN h5 h9 hM40 hW a b hr
  · exact tX1_y30 hd hN h5 h9 hM40 hW a b hr
  · exact tX1_y31 hd hN h5 h9 hM40 hW a b hr
  · exact tX1_y32 hd hN h5 h9 hM40 hW a b hr
  · exact tX1_y33 hd hN h5 h9 hM40 hW a b hr
  · exact tX1_y34 hd hN h5 h9 hM40 hW a b hr
  · exact tX1_y35 hd hN h5 h9 hM40 hW a b hr
  · exact tX1_y36 hd hN h5 h9 hM40 hW a b hr
  · exact tX1_y37 hd hN h5 h9 hM40 hW a b hr
  · exact tX1_y38 hd hN h5 h9 hM40 hW a b hr
  · exact tX1_y39 hd hN h5 h9 hM40 hW a b hr
  · exact tX1_y40 hd hN h5 h9 hM40 hW a b hr
  · exact tX1_y41 hd hN h5 h9 hM40 hW a b hr
  · exact tX1_y42 hd hN h5 h9 hM40 hW a b hr
  · exact tX1_y43 hd hN h5 h9 hM40 hW a b hr
  · exact tX1_y44 hd hN h5 h9 hM40 hW a b hr
  · exact tX1_y45 hd hN h5 h9 hM40 hW a b hr
  · exact tX1_y46 hd hN h5 h9 hM40 hW a b hr
  · exact tX1_y47 hd hN h5 h9 hM40 hW a b hr
  · exact tX1_y48 hd hN h5 h9 hM40 hW a b hr
  · exact tX1_y49 hd hN h5 h9 hM40 hW a b hr
  · exact tX1_y51 hd hN h5 h9 hM40 hW a b hr
  · exact tX1_y60 hd hN h5 h9 hM40 hW a b hr
  · exact tX1_y61 hd hN h5 h9 hM40 hW a b hr
  · exact tX1_y62 hd hN h5 h9 hM40 hW a b hr
  · exact tX1_y63 hd hN h5 h9 hM40 hW a b hr
  · exact tX1_y64 hd hN h5 h9 hM40 hW a b hr
  · exact tX1_y65 hd hN h5 h9 hM40 hW a b hr
  · exact tX1_y66 hd hN h5 h9 hM40 hW a b hr
  · exact tX1_y67 hd hN h5 h9 hM40 hW a b hr
  · exact tX1_y68 hd hN h5 h9 hM40 hW a b hr
  · exact tX1_y69 hd hN h5 h9 hM40 hW a b hr
  · exact tX1_y70 hd hN h5 h9 hM40 hW a b hr
  · exact tX1_y71 hd hN h5 h9 hM40 hW a b hr
  · exact tX1_y72 hd hN h5 h9 hM40 hW a b hr
  · exact tX1_y73 hd hN h5 h9 hM40 hW a b hr
  · exact tX1_y74 hd hN h5 h9 hM40 hW a b hr
  · exact tX1_y75 hd hN h5 h9 hM40 hW a b hr
  · exact tX1_y76 hd hN h5 h9 hM40 hW a b hr
  · exact tX1_y77 hd hN h5 h9 hM40 hW a b hr
  · exact tX1_y78 hd hN h5 h9 hM40 hW a b hr
  · exact tX1_y79 hd hN h5 h9 hM40 hW a b hr
  · exact tX1_y80 hd hN h5 h9 hM40 hW a b hr
  · exact tX1_y81 hd hN h5 h9 hM40 hW a b hr
  · exact tX1_y82 hd hN h5 h9 hM40 hW a b hr
  · exact tX1_y83 hd hN h5 h9 hM40 hW a b hr
  · exact tX1_y84 hd hN h5 h9 hM40 hW a b hr
  · exact tX1_y85 hd hN h5 h9 hM40 hW a b hr
  · exact tX1_y86 hd hN h5 h9 hM40 hW a b hr
