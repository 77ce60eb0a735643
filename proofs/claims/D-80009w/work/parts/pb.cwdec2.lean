/-! codes of items, by kind -/
theorem dec_12 : ∀ k, k < 153 → 148 ≤ k → cOK k 1 false = true ∧ chF (nI k) = (if k = 149 ∨ k = 150 then nI 1 - nI 2 else nI 1 - nI 4) := by decide
theorem o16_len (v : Int32) : (o16 v).length = 2 := rfl
theorem dec_132 : chF (nI 132) = nI 0 - nI 0 := by decide
theorem dec_132' : cWd 132 6 = true := by decide
theorem dec_wide6 (a b : Int32) : cDec ([o8 196, o8 132] ++ (o16 a ++ o16 b)) false 0 0 := by
  have h : cWd 132 ((o16 a ++ o16 b).length + 2) = true := by rw [List.length_append, o16_len, o16_len]; exact dec_132'
  have := cDec.two (a := 0) (b := 0) h dec_132
  exact this
theorem dec_20 : cOK 20 3 false = true ∧ chF (nI 20) = nI 2 - nI 0 := by decide
theorem dec_18 : cOK 18 2 false = true ∧ chF (nI 18) = nI 1 - nI 0 := by decide
theorem dec_19 : cOK 19 3 false = true ∧ chF (nI 19) = nI 1 - nI 0 := by decide
theorem dec_16 : cOK 16 2 false = true ∧ chF (nI 16) = nI 1 - nI 0 := by decide
theorem dec_17 : cOK 17 3 false = true ∧ chF (nI 17) = nI 1 - nI 0 := by decide
theorem dec_1 : cOK 1 1 false = true ∧ chF (nI 1) = nI 1 - nI 0 := by decide
theorem dec_9 : ∀ k, k < 2 → cOK (9 + k) 1 false = true ∧ chF (nI (9 + k)) = nI 2 - nI 0 := by decide
theorem dec_11 : ∀ k, k < 3 → cOK (11 + k) 1 false = true ∧ chF (nI (11 + k)) = nI 1 - nI 0 := by decide
theorem dec_14 : ∀ k, k < 2 → cOK (14 + k) 1 false = true ∧ chF (nI (14 + k)) = nI 2 - nI 0 := by decide
theorem dec_small_v {v : Int64} (h1 : -1 ≤ v) (h2 : v ≤ 5) : ∃ k, k < 7 ∧ 3 + v.toInt32 = nI (2 + k) := by
  have a1 := Int64.le_iff_toInt_le.mp h1
  have a2 := Int64.le_iff_toInt_le.mp h2
  have e1 : (-1 : Int64).toInt = -1 := rfl
  have e2 : (5 : Int64).toInt = 5 := rfl
  rw [e1] at a1
  rw [e2] at a2
  refine ⟨(v.toInt + 1).toNat, by omega, ?_⟩
  apply Int32.toInt_inj.mp
  rw [nI_toInt (by omega), Int32.toInt_add, Int64.toInt_toInt32]
  have e3 : (3 : Int32).toInt = 3 := rfl
  rw [e3, Int.bmod_def, Int.bmod_def]; omega
theorem o8_1 (k : Int32) (n : Nat) (h : k = nI n) : o8 k = o8 (nI n) := by rw [h]
/-- what reading an item back finds -/
def dGo (w : Bool) (o : Nat → Nat → Int32) (p : Nat) (i : wI) (F G : wF) : Prop :=
  (oTerm i = true ∧ ∃ c, (w_enc w o p i)[0]? = some (o8 (nI c)) ∧ cOK c (w_enc w o p i).length true = true) ∨ (oTerm i = false ∧ ∃ a b r, cDec (w_enc w o p i) false a b ∧ G.2.length = a + r ∧ F.2.length = b + r)
section
variable {w : Bool} {o : Nat → Nat → Int32} {p x1 x2 : Nat} {v : Int64} {lb : List (Int32 × Nat)} {F G : wF}
theorem dec_k0 (ht : w_ty (0, x1, x2, v, lb) F G) : dGo w o p (0, x1, x2, v, lb) F G := by
  right
  refine ⟨rfl, ?_⟩
  show ∃ a b r, cDec (w_cst x1 v) false a b ∧ _ ∧ _
  obtain ⟨-, ⟨⟨n1, n2⟩, sm, e⟩ | ⟨n1, a, -, e⟩⟩ := ht
  · have n1 : 1 ≤ x1 := n1
    have n2 : x1 ≤ 4 := n2
    refine ⟨(w_tl x1).length, 0, F.2.length, ?_, by rw [e, List.length_append], by omega⟩
    have sm : w_sm x1 v = true := sm
    have cs : x1 = 1 ∨ x1 = 2 ∨ x1 = 3 ∨ x1 = 4 := by omega
    unfold w_cst
    rcases cs with rfl | rfl | rfl | rfl
    · rw [if_pos rfl]
      by_cases q : -1 ≤ v ∧ v ≤ 5
      · rw [if_pos q]
        obtain ⟨k, k1, k2⟩ := dec_small_v q.1 q.2
        rw [k2]; exact cDec.one (dec_cst1 k k1).1 (dec_cst1 k k1).2
      · rw [if_neg q]
        by_cases q2 : -128 ≤ v ∧ v ≤ 127
        · rw [if_pos q2]; exact cDec.one (c := 16) dec_16.1 dec_16.2
        · rw [if_neg q2]; exact cDec.one (c := 17) (r := o16 v.toInt32) dec_17.1 dec_17.2
    · rw [if_neg (by decide), if_pos rfl]
      have sm : v = 0 ∨ v = 1 := by unfold w_sm at sm; simpa using sm
      rcases sm with rfl | rfl
      · exact cDec.one (dec_9 0 (by decide)).1 (dec_9 0 (by decide)).2
      · exact cDec.one (dec_9 1 (by decide)).1 (dec_9 1 (by decide)).2
    · rw [if_neg (by decide), if_neg (by decide), if_pos rfl]
      by_cases q : v = 0
      · rw [if_pos q]; exact cDec.one (dec_11 0 (by decide)).1 (dec_11 0 (by decide)).2
      · rw [if_neg q]
        by_cases q2 : v = 0x3F800000
        · rw [if_pos q2]; exact cDec.one (dec_11 1 (by decide)).1 (dec_11 1 (by decide)).2
        · rw [if_neg q2]; exact cDec.one (dec_11 2 (by decide)).1 (dec_11 2 (by decide)).2
    · rw [if_neg (by decide), if_neg (by decide), if_neg (by decide), if_pos rfl]
      by_cases q : v = 0
      · rw [if_pos q]; exact cDec.one (dec_14 0 (by decide)).1 (dec_14 0 (by decide)).2
      · rw [if_neg q]; exact cDec.one (dec_14 1 (by decide)).1 (dec_14 1 (by decide)).2
  · have n1 : x1 = 5 := n1
    subst n1
    refine ⟨1, 0, F.2.length, ?_, by rw [e, List.length_cons]; omega, by omega⟩
    unfold w_cst
    rw [if_neg (by decide), if_neg (by decide), if_neg (by decide), if_neg (by decide)]
    exact cDec.one (c := 1) dec_1.1 dec_1.2
theorem dec_k1 (ht : w_ty (1, x1, x2, v, lb) F G) : dGo w o p (1, x1, x2, v, lb) F G := by
  right
  refine ⟨rfl, ?_⟩
  obtain ⟨-, ⟨n1, n2⟩, e⟩ := ht
  have n1 : 1 ≤ x1 := n1
  have n2 : x1 ≤ 4 := n2
  have e1 : w_enc w o p (1, x1, x2, v, lb) = if x1 = 2 ∨ x1 = 4 then [o8 20] ++ o16 (nI x2) else if x2 < 256 then [o8 18, o8 (nI x2)] else [o8 19] ++ o16 (nI x2) := rfl
  rw [e1]
  refine ⟨(w_tl x1).length, 0, F.2.length, ?_, by rw [e, List.length_append], by omega⟩
  by_cases q : x1 = 2 ∨ x1 = 4
  · have l2 : (w_tl x1).length = 2 := by unfold w_tl; rw [if_neg (by omega), if_pos q]; rfl
    rw [if_pos q, l2]; exact cDec.one (c := 20) (r := o16 (nI x2)) dec_20.1 dec_20.2
  · have l1 : (w_tl x1).length = 1 := by unfold w_tl; rw [if_neg (by omega), if_neg q]; rfl
    rw [if_neg q, l1]
    by_cases q2 : x2 < 256
    · rw [if_pos q2]; exact cDec.one (c := 18) dec_18.1 dec_18.2
    · rw [if_neg q2]; exact cDec.one (c := 19) (r := o16 (nI x2)) dec_19.1 dec_19.2
theorem dec_k2 (ht : w_ty (2, x1, x2, v, lb) F G) : dGo w o p (2, x1, x2, v, lb) F G := by
  right
  refine ⟨rfl, ?_⟩
  obtain ⟨-, ⟨⟨n1, n2⟩, -, e⟩ | ⟨⟨n1, n2⟩, a, -, -, e⟩⟩ := ht
  · exact ⟨(w_tl x1).length, 0, F.2.length, dec_loc_ld n1 (by omega), by rw [e, List.length_append], by omega⟩
  · have n1 : 5 ≤ x1 := n1
    have n2 : x1 ≤ 8 := n2
    refine ⟨(w_tl x1).length, 0, F.2.length, dec_loc_ld (by omega) n2, ?_, by omega⟩
    rw [e, List.length_cons]
    have : (w_tl x1).length = 1 := by unfold w_tl; rw [if_neg (by omega), if_neg (by omega)]; rfl
    omega
theorem dec_k3 (ht : w_ty (3, x1, x2, v, lb) F G) : dGo w o p (3, x1, x2, v, lb) F G := by
  right
  refine ⟨rfl, ?_⟩
  rcases ht with ⟨⟨n1, n2⟩, e, -⟩ | ⟨⟨n1, n2⟩, a, e, -⟩
  · exact ⟨0, (w_tl x1).length, G.2.length, dec_loc_st n1 (by omega), by omega, by rw [e, List.length_append]⟩
  · have n1 : 5 ≤ x1 := n1
    have n2 : x1 ≤ 8 := n2
    refine ⟨0, (w_tl x1).length, G.2.length, dec_loc_st (by omega) n2, by omega, ?_⟩
    rw [e, List.length_cons]
    have : (w_tl x1).length = 1 := by unfold w_tl; rw [if_neg (by omega), if_neg (by omega)]; rfl
    omega
theorem dec_k4 (ht : w_ty (4, x1, x2, v, lb) F G) : dGo w o p (4, x1, x2, v, lb) F G := by
  right
  obtain ⟨-, ⟨n1, n2⟩, r, e1, e2⟩ := ht
  obtain ⟨⟨a1, a2⟩, -⟩ := dec_arr x1 (show x1 < 9 from Nat.lt_succ_of_le n2) n1
  exact ⟨rfl, _, _, r.length, cDec.one a1 a2, by rw [e2, List.length_append], by rw [e1]; simp only [List.length_cons]; omega⟩
theorem dec_k5 (ht : w_ty (5, x1, x2, v, lb) F G) : dGo w o p (5, x1, x2, v, lb) F G := by
  right
  obtain ⟨-, ⟨n1, n2⟩, e⟩ := ht
  obtain ⟨-, a1, a2⟩ := dec_arr x1 (show x1 < 9 from Nat.lt_succ_of_le n2) n1
  exact ⟨rfl, _, _, G.2.length, cDec.one a1 a2, by omega, by rw [e]; simp only [List.length_cons, List.length_append]; omega⟩
theorem dec_k6 (ht : w_ty (6, x1, x2, v, lb) F G) : dGo w o p (6, x1, x2, v, lb) F G := by
  right
  obtain ⟨e, -⟩ := ht
  refine ⟨rfl, 0, 0, F.2.length, ?_, by rw [e]; omega, by omega⟩
  have e6 : w_enc w o p (6, x1, x2, v, lb) = if x1 < 256 ∧ -128 ≤ v ∧ v ≤ 127 then [o8 132, o8 (nI x1), o8 v.toInt32] else [o8 196, o8 132] ++ (o16 (nI x1) ++ o16 v.toInt32) := by unfold w_enc; rfl
  rw [e6]
  by_cases q : x1 < 256 ∧ -128 ≤ v ∧ v ≤ 127
  · rw [if_pos q]; exact cDec.one (c := 132) (show cOK 132 3 false = true from by decide) (by decide)
  · rw [if_neg q]; exact dec_wide6 _ _
theorem dec_k7 (ht : w_ty (7, x1, x2, v, lb) F G) : dGo w o p (7, x1, x2, v, lb) F G := by
  right
  obtain ⟨-, h⟩ := ht
  refine ⟨rfl, ?_⟩
  rcases h with ⟨e, a, -, f⟩ | ⟨e, a, f⟩ | ⟨e, a, r, f, -, f2⟩ | ⟨e, a, b, r, f, f2⟩ | ⟨e, a, b, c, r, f, f2⟩ | ⟨e, a, b, c, d, r, f, f2⟩
  · have e : x1 = 87 := e
    subst e; exact ⟨0, 1, G.2.length, cDec.one (c := 87) (by decide) (by decide), by omega, by rw [f, List.length_cons]; omega⟩
  · have e : x1 = 88 := e
    subst e; exact ⟨0, 2, G.2.length, cDec.one (c := 88) (by decide) (by decide), by omega, by rw [f]; simp only [List.length_cons]; omega⟩
  · have e : x1 = 89 := e
    subst e
    refine ⟨2, 1, r.length, cDec.one (c := 89) (by decide) (by decide), ?_, by rw [f]; simp only [List.length_cons]; omega⟩
    rcases f2 with q | ⟨-, q, -⟩ <;> rw [q] <;> simp only [List.length_cons] <;> omega
  · have e : x1 = 92 := e
    subst e; exact ⟨4, 2, r.length, cDec.one (c := 92) (by decide) (by decide), by rw [f2]; simp only [List.length_cons]; omega, by rw [f]; simp only [List.length_cons]; omega⟩
  · have e : x1 = 91 := e
    subst e; exact ⟨4, 3, r.length, cDec.one (c := 91) (by decide) (by decide), by rw [f2]; simp only [List.length_cons]; omega, by rw [f]; simp only [List.length_cons]; omega⟩
  · have e : x1 = 94 := e
    subst e; exact ⟨6, 4, r.length, cDec.one (c := 94) (by decide) (by decide), by rw [f2]; simp only [List.length_cons]; omega, by rw [f]; simp only [List.length_cons]; omega⟩
theorem dec_k8 (ht : w_ty (8, x1, x2, v, lb) F G) : dGo w o p (8, x1, x2, v, lb) F G := by
  right
  obtain ⟨-, ⟨n1, n2⟩, k1, k2, k3, r, e1, e2⟩ := ht
  obtain ⟨a1, a2⟩ := dec_bin (k := x1) (t := x2) (by have : x1 ≤ 20 := k2; omega) k1 (by have : x2 ≤ 4 := n2; omega) n1 k3
  refine ⟨rfl, _, _, r.length, cDec.one a1 a2, by rw [e2, List.length_append], ?_⟩
  rw [e1, List.length_append, List.length_append]
  have : (if 18 ≤ x1 then [1] else w_tl x2).length = (if 18 ≤ x1 then 1 else (w_tl x2).length) := by split <;> rfl
  have g : (if 18 ≤ (8, x1, x2, v, lb).2.1 then [1] else w_tl (8, x1, x2, v, lb).2.2.1).length = (if 18 ≤ x1 then 1 else (w_tl x2).length) := this
  rw [g]; show _ + ((w_tl x2).length + r.length) = _; omega
theorem dec_k9 (ht : w_ty (9, x1, x2, v, lb) F G) : dGo w o p (9, x1, x2, v, lb) F G := by
  right
  obtain ⟨e, ⟨n1, n2⟩, -⟩ := ht
  obtain ⟨a1, a2⟩ := dec_neg x1 (by have : x1 ≤ 4 := n2; omega) n1
  exact ⟨rfl, 0, 0, F.2.length, cDec.one a1 a2, by rw [e]; omega, by omega⟩
theorem dec_k10 (ht : w_ty (10, x1, x2, v, lb) F G) : dGo w o p (10, x1, x2, v, lb) F G := by
  right
  obtain ⟨-, ⟨n1, n2⟩, ⟨m1, m2⟩, ne, r, e1, e2⟩ := ht
  obtain ⟨a1, a2⟩ := dec_cast (t := x1) (u := x2) (by have : x1 ≤ 4 := n2; omega) n1 (by have : x2 ≤ 4 := m2; omega) m1 ne
  exact ⟨rfl, _, _, r.length, cDec.one a1 a2, by rw [e2, List.length_append], by rw [e1, List.length_append]⟩
theorem dec_k11 (ht : w_ty (11, x1, x2, v, lb) F G) : dGo w o p (11, x1, x2, v, lb) F G := by
  right
  obtain ⟨e, n1, n2, -⟩ := ht
  obtain ⟨a1, a2⟩ := dec_small x1 (by have : x1 ≤ 11 := n2; omega) n1
  exact ⟨rfl, 0, 0, F.2.length, cDec.one a1 a2, by rw [e]; omega, by omega⟩
theorem dec_k12 (ht : w_ty (12, x1, x2, v, lb) F G) : dGo w o p (12, x1, x2, v, lb) F G := by
  right
  obtain ⟨-, t, r, t2, t4, h, e1, e2⟩ := ht
  have l1 : G.2.length = 1 + r.length := by rw [e2, List.length_cons]; omega
  have l2 : F.2.length = 2 * (w_tl t).length + r.length := by rw [e1, List.length_append, List.length_append]; omega
  rcases h with ⟨e, et⟩ | ⟨e, et⟩ | ⟨e, et⟩
  · have e : x1 = 148 := e
    subst e; subst et
    exact ⟨rfl, 1, 4, r.length, cDec.one (c := 148) (by decide) (by decide), l1, l2⟩
  · subst et
    have e : x1 = 149 ∨ x1 = 150 := e
    rcases e with rfl | rfl
    · exact ⟨rfl, 1, 2, r.length, cDec.one (c := 149) (by decide) (by decide), l1, l2⟩
    · exact ⟨rfl, 1, 2, r.length, cDec.one (c := 150) (by decide) (by decide), l1, l2⟩
  · subst et
    have e : x1 = 151 ∨ x1 = 152 := e
    rcases e with rfl | rfl
    · exact ⟨rfl, 1, 4, r.length, cDec.one (c := 151) (by decide) (by decide), l1, l2⟩
    · exact ⟨rfl, 1, 4, r.length, cDec.one (c := 152) (by decide) (by decide), l1, l2⟩
theorem dec_k13 (ht : w_ty (13, x1, x2, v, lb) F G) : dGo w o p (13, x1, x2, v, lb) F G := by
  right
  obtain ⟨-, -, r, e1, e2⟩ := ht
  exact ⟨rfl, 0, 0, F.2.length, cDec.one (c := 188) (show cOK 188 2 false = true from by decide) (by decide), by rw [e1, e2]; simp, by omega⟩
theorem dec_k14 (ht : w_ty (14, x1, x2, v, lb) F G) : dGo w o p (14, x1, x2, v, lb) F G := by
  right
  obtain ⟨-, a, r, -, e1, e2⟩ := ht
  exact ⟨rfl, 0, 0, F.2.length, cDec.one (c := 190) (by decide) (by decide), by rw [e1, e2]; simp, by omega⟩
theorem dec_k16 (ht : w_ty (16, x1, x2, v, lb) F G) : dGo w o p (16, x1, x2, v, lb) F G := by
  rcases ht with (e | ⟨e1, e2⟩) | ⟨e, -⟩ | ⟨e, L, -, -, f, -⟩ | ⟨e, -, f⟩
  · have e : x1 = 177 := e
    subst e; exact Or.inl ⟨rfl, 177, rfl, show cOK 177 1 true = true from by decide⟩
  · have e1 : 172 ≤ x1 := e1
    have e2 : x1 ≤ 176 := e2
    have : x1 = 172 ∨ x1 = 173 ∨ x1 = 174 ∨ x1 = 175 ∨ x1 = 176 := by omega
    rcases this with rfl | rfl | rfl | rfl | rfl
    · exact Or.inl ⟨rfl, 172, rfl, show cOK 172 1 true = true from by decide⟩
    · exact Or.inl ⟨rfl, 173, rfl, show cOK 173 1 true = true from by decide⟩
    · exact Or.inl ⟨rfl, 174, rfl, show cOK 174 1 true = true from by decide⟩
    · exact Or.inl ⟨rfl, 175, rfl, show cOK 175 1 true = true from by decide⟩
    · exact Or.inl ⟨rfl, 176, rfl, show cOK 176 1 true = true from by decide⟩
  · have e : x1 = 191 := e
    subst e; exact Or.inl ⟨rfl, 191, rfl, show cOK 191 1 true = true from by decide⟩
  · have e : x1 = 194 := e
    subst e; exact Or.inr ⟨rfl, 0, 1, G.2.length, cDec.one (c := 194) (by decide) (by decide), by omega, by rw [f, List.length_cons]; omega⟩
  · have e : x1 = 195 := e
    subst e; exact Or.inr ⟨rfl, 0, 1, G.2.length, cDec.one (c := 195) (by decide) (by decide), by omega, by rw [f, List.length_cons]; omega⟩
end
theorem dec_item {w : Bool} {o : Nat → Nat → Int32} {p : Nat} {i : wI} {F G : wF} (ht : w_ty i F G) (h15 : i.1 ≠ 15) (h16 : i.1 ≤ 16) : dGo w o p i F G := by
  obtain ⟨t, x1, x2, v, lb⟩ := i
  have h15 : t ≠ 15 := h15
  have h16 : t ≤ 16 := h16
  have cs : t = 0 ∨ t = 1 ∨ t = 2 ∨ t = 3 ∨ t = 4 ∨ t = 5 ∨ t = 6 ∨ t = 7 ∨ t = 8 ∨ t = 9 ∨ t = 10 ∨ t = 11 ∨ t = 12 ∨ t = 13 ∨ t = 14 ∨ t = 16 := by omega
  rcases cs with rfl | rfl | rfl | rfl | rfl | rfl | rfl | rfl | rfl | rfl | rfl | rfl | rfl | rfl | rfl | rfl
  · exact dec_k0 ht
  · exact dec_k1 ht
  · exact dec_k2 ht
  · exact dec_k3 ht
  · exact dec_k4 ht
  · exact dec_k5 ht
  · exact dec_k6 ht
  · exact dec_k7 ht
  · exact dec_k8 ht
  · exact dec_k9 ht
  · exact dec_k10 ht
  · exact dec_k11 ht
  · exact dec_k12 ht
  · exact dec_k13 ht
  · exact dec_k14 ht
  · exact dec_k16 ht
