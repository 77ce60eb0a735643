/-! CodeWriter: a switch: its numbers and its table's loops -/
section
variable {nt : sp_NT} {N M : Nat} {res par : Nat → Int32}
/-- least and greatest of some keys -/
def y_lgI (nt : sp_NT) (S : List Int32) (s : Nat × Int32 × Int32) : Prop := s.1 = S.length ∧ (S ≠ [] → (∃ a, a ∈ S ∧ nA nt a = s.2.1) ∧ (∀ a, a ∈ S → s.2.1 ≤ nA nt a) ∧ (∃ a, a ∈ S ∧ nA nt a = s.2.2) ∧ ∀ a, a ∈ S → nA nt a ≤ s.2.2)
theorem y_lg_i : ∀ (r S : List Int32) (s : Nat × Int32 × Int32), (∀ k, k ∈ r → nK nt k = 83 ∨ nK nt k = 84) → y_lgI nt S s → y_lgI nt (S ++ r.filter (fun k => decide (nK nt k = 83))) (y_lg nt s r) := by
  intro r
  induction r with
  | nil => intro S s _ h; rw [List.filter_nil, List.append_nil]; exact h
  | cons k r ih =>
    intro S s hk h
    have hr : ∀ k, k ∈ r → nK nt k = 83 ∨ nK nt k = 84 := fun a ha => hk a (List.mem_cons_of_mem _ ha)
    by_cases k84 : nK nt k = 84
    · have e : y_lg nt s (k :: r) = y_lg nt s r := by show (if nK nt k = 84 then _ else _) = _; rw [if_pos k84]
      rw [e, List.filter_cons_of_neg (by rw [k84]; decide)]
      exact ih S s hr h
    · have k83 := (hk k (List.mem_cons_self ..)).resolve_right k84
      have e : y_lg nt s (k :: r) = y_lg nt (s.1 + 1, (if s.1 = 0 then nA nt k else mj_min s.2.1 (nA nt k)), (if s.1 = 0 then nA nt k else mj_max s.2.2 (nA nt k))) r := by show (if nK nt k = 84 then _ else _) = _; rw [if_neg k84]
      rw [e, List.filter_cons_of_pos (by rw [k83]; decide), show S ++ k :: r.filter (fun k => decide (nK nt k = 83)) = (S ++ [k]) ++ r.filter (fun k => decide (nK nt k = 83)) by rw [List.append_assoc]; rfl]
      refine ih (S ++ [k]) _ hr ?_
      obtain ⟨h1, h2⟩ := h
      refine ⟨by rw [List.length_append, ← h1]; rfl, fun _ => ?_⟩
      have mk : k ∈ S ++ [k] := by simp
      cases S with
      | nil =>
        have h0 : s.1 = 0 := h1
        show (∃ a, a ∈ [] ++ [k] ∧ nA nt a = (if s.1 = 0 then nA nt k else _)) ∧ (∀ a, a ∈ [] ++ [k] → (if s.1 = 0 then nA nt k else _) ≤ nA nt a) ∧ (∃ a, a ∈ [] ++ [k] ∧ nA nt a = (if s.1 = 0 then nA nt k else _)) ∧ ∀ a, a ∈ [] ++ [k] → nA nt a ≤ (if s.1 = 0 then nA nt k else _)
        rw [if_pos h0, if_pos h0]
        have one : ∀ a, a ∈ [] ++ [k] → a = k := by intro a ha; simpa using ha
        exact ⟨⟨k, mk, rfl⟩, fun a ha => by rw [one a ha]; exact Int32.le_refl _, ⟨k, mk, rfl⟩, fun a ha => by rw [one a ha]; exact Int32.le_refl _⟩
      | cons c S =>
        have h0 : ¬ s.1 = 0 := by rw [h1]; simp
        obtain ⟨⟨a1, a2, a3⟩, b1, ⟨c1, c2, c3⟩, d1⟩ := h2 (by simp)
        show (∃ a, a ∈ (c :: S) ++ [k] ∧ nA nt a = (if s.1 = 0 then nA nt k else mj_min s.2.1 (nA nt k))) ∧ (∀ a, a ∈ (c :: S) ++ [k] → (if s.1 = 0 then nA nt k else mj_min s.2.1 (nA nt k)) ≤ nA nt a) ∧ (∃ a, a ∈ (c :: S) ++ [k] ∧ nA nt a = (if s.1 = 0 then nA nt k else mj_max s.2.2 (nA nt k))) ∧ ∀ a, a ∈ (c :: S) ++ [k] → nA nt a ≤ (if s.1 = 0 then nA nt k else mj_max s.2.2 (nA nt k))
        rw [if_neg h0, if_neg h0]
        unfold mj_min mj_max
        have sp : ∀ a, a ∈ (c :: S) ++ [k] → a ∈ c :: S ∨ a = k := by
          intro a ha
          rcases List.mem_append.mp ha with q | q
          · exact Or.inl q
          · exact Or.inr (by simpa using q)
        refine ⟨?_, fun a ha => ?_, ?_, fun a ha => ?_⟩
        · split
          · exact ⟨a1, List.mem_append.mpr (Or.inl a2), a3⟩
          · exact ⟨k, mk, rfl⟩
        · split
          · rename_i q
            rcases sp a ha with p | rfl
            · exact b1 a p
            · exact q
          · rename_i q
            have q := Int32.le_of_lt (Int32.not_le.mp q)
            rcases sp a ha with p | rfl
            · exact Int32.le_trans q (b1 a p)
            · exact Int32.le_refl _
        · split
          · exact ⟨c1, List.mem_append.mpr (Or.inl c2), c3⟩
          · exact ⟨k, mk, rfl⟩
        · split
          · rename_i q
            rcases sp a ha with p | rfl
            · exact d1 a p
            · exact q
          · rename_i q
            have q := Int32.le_of_lt (Int32.not_le.mp q)
            rcases sp a ha with p | rfl
            · exact Int32.le_trans (d1 a p) q
            · exact Int32.le_refl _
/-- the heap's nodes are those of the table -/
def y_st (nt : sp_NT) (x : mj_X) : Prop := x.1 1 = nt 0 ∧ x.1 2 = nt 1 ∧ x.1 3 = nt 2
/-- the case of a number -/
theorem k_caseOf {d : Nat} {v : Int64} {x : mj_X} (hT : y_st nt x) (hN : N ≤ 4000) : ∀ (l : List Int32) (q : Int32), sp_Ch nt N 82 l q → (∀ p, p ∈ l → sp_nd N (nA nt p) = true) →
    ∃ r, (∀ a1, rX0_caseOf d (3, [some (.ref 0), some (.int a1), some (.long v), none, some (.int q)], [], x) = some (some (.int r), x)) ∧ ((r ∈ (l.map (fun p => nA nt p)).filter (fun k => decide (nK nt k = 83)) ∧ (nA nt r).toInt64 = v) ∨ (r = -1 ∧ ∀ a, a ∈ (l.map (fun p => nA nt p)).filter (fun k => decide (nK nt k = 83)) → ¬ (nA nt a).toInt64 = v)) := by
  intro l
  induction l with
  | nil =>
    intro q hl _
    refine ⟨-1, fun a1 => ?_, Or.inr ⟨rfl, fun a ha => by cases ha⟩⟩
    rw [bX0_caseOf_3, if_pos (show q = -1 from hl)]
  | cons p r ih =>
    intro q hl hn
    obtain ⟨rfl, e2, e3, e4, e5⟩ := hl
    obtain ⟨r0, i1, i2⟩ := ih (nB nt q) e5 (fun p hp => hn p (List.mem_cons_of_mem _ hp))
    have g1 : ∀ r : mj_R, mj_g q 4000 r = r := fun r => mj_g_k (sp_nd_in hN e2 (Nat.le_refl _)) r
    have g2 : ∀ r : mj_R, mj_g (nA nt q) 4000 r = r := fun r => mj_g_k (sp_nd_in hN e4 (Nat.le_refl _)) r
    have x2 : x.1 2 q.toNatClampNeg = nA nt q := by rw [hT.2.1]
    have x3 : x.1 3 q.toNatClampNeg = nB nt q := by rw [hT.2.2]
    have x1 : x.1 1 (nA nt q).toNatClampNeg = nK nt (nA nt q) := by rw [hT.1]
    have x2' : x.1 2 (nA nt q).toNatClampNeg = nA nt (nA nt q) := by rw [hT.2.1]
    rw [List.map_cons]
    by_cases k83 : nK nt (nA nt q) = 83
    · rw [List.filter_cons_of_pos (by rw [k83]; decide)]
      by_cases kv : (nA nt (nA nt q)).toInt64 = v
      · refine ⟨nA nt q, fun a1 => ?_, Or.inl ⟨List.mem_cons_self .., kv⟩⟩
        rw [bX0_caseOf_3, if_neg (nd_n1 e2), g1, x2, g2, x1, if_pos k83, g1, g2, x2', if_pos (by rw [lg_cmp_eq0]; exact kv), g1]
      · refine ⟨r0, fun a1 => ?_, ?_⟩
        · rw [bX0_caseOf_3, if_neg (nd_n1 e2), g1, x2, g2, x1, if_pos k83, g1, g2, x2', if_neg (by rw [lg_cmp_eq0]; exact kv), g1, x3]
          exact i1 a1
        · rcases i2 with ⟨j1, j2⟩ | ⟨j1, j2⟩
          · exact Or.inl ⟨List.mem_cons_of_mem _ j1, j2⟩
          · refine Or.inr ⟨j1, fun a ha => ?_⟩
            rcases List.mem_cons.mp ha with rfl | ha
            · exact kv
            · exact j2 a ha
    · rw [List.filter_cons_of_neg (by simpa using k83)]
      refine ⟨r0, fun a1 => ?_, i2⟩
      rw [bX0_caseOf_3, if_neg (nd_n1 e2), g1, x2, g2, x1, if_neg k83, g1, x3]
      exact i1 a1
/-- the least case above a number -/
theorem k_least {d : Nat} {v : Int64} {x : mj_X} (hT : y_st nt x) (hN : N ≤ 4000) : ∀ (l : List Int32) (q : Int32) (S : List Int32) (best : Int32) (o6 : Option Value), sp_Ch nt N 82 l q → (∀ p, p ∈ l → sp_nd N (nA nt p) = true) → (∀ a, a ∈ S → sp_nd N a = true) → ((best ∈ S ∧ v < (nA nt best).toInt64 ∧ ∀ a, a ∈ S → v < (nA nt a).toInt64 → nA nt best ≤ nA nt a) ∨ (best = -1 ∧ ∀ a, a ∈ S → ¬ v < (nA nt a).toInt64)) →
    ∃ r, (∀ a1, rX0_leastAbove d (6, [some (.ref 0), some (.int a1), some (.long v), none, some (.int best), some (.int q), o6], [], x) = some (some (.int r), x)) ∧ ((r ∈ S ++ (l.map (fun p => nA nt p)).filter (fun k => decide (nK nt k = 83)) ∧ v < (nA nt r).toInt64 ∧ ∀ a, a ∈ S ++ (l.map (fun p => nA nt p)).filter (fun k => decide (nK nt k = 83)) → v < (nA nt a).toInt64 → nA nt r ≤ nA nt a) ∨ (r = -1 ∧ ∀ a, a ∈ S ++ (l.map (fun p => nA nt p)).filter (fun k => decide (nK nt k = 83)) → ¬ v < (nA nt a).toInt64)) := by
  intro l
  induction l with
  | nil =>
    intro q S best o6 hl _ _ hb
    refine ⟨best, fun a1 => ?_, ?_⟩
    · rw [bX0_leastAbove_6, if_pos (show q = -1 from hl)]
    · rw [List.map_nil, List.filter_nil, List.append_nil]; exact hb
  | cons p r ih =>
    intro q S best o6 hl hn hS hb
    obtain ⟨rfl, e2, e3, e4, e5⟩ := hl
    have g1 : ∀ r : mj_R, mj_g q 4000 r = r := fun r => mj_g_k (sp_nd_in hN e2 (Nat.le_refl _)) r
    have g2 : ∀ r : mj_R, mj_g (nA nt q) 4000 r = r := fun r => mj_g_k (sp_nd_in hN e4 (Nat.le_refl _)) r
    have x2 : x.1 2 q.toNatClampNeg = nA nt q := by rw [hT.2.1]
    have x3 : x.1 3 q.toNatClampNeg = nB nt q := by rw [hT.2.2]
    have x1 : x.1 1 (nA nt q).toNatClampNeg = nK nt (nA nt q) := by rw [hT.1]
    have x2' : x.1 2 (nA nt q).toNatClampNeg = nA nt (nA nt q) := by rw [hT.2.1]
    have hn' : ∀ p, p ∈ r → sp_nd N (nA nt p) = true := fun p hp => hn p (List.mem_cons_of_mem _ hp)
    rw [List.map_cons]
    by_cases k83 : nK nt (nA nt q) = 83
    · rw [List.filter_cons_of_pos (by rw [k83]; decide), show S ++ nA nt q :: (r.map (fun p => nA nt p)).filter (fun k => decide (nK nt k = 83)) = (S ++ [nA nt q]) ++ (r.map (fun p => nA nt p)).filter (fun k => decide (nK nt k = 83)) by rw [List.append_assoc]; rfl]
      have hS' : ∀ a, a ∈ S ++ [nA nt q] → sp_nd N a = true := by
        intro a ha
        rcases List.mem_append.mp ha with h | h
        · exact hS a h
        · rw [show a = nA nt q by simpa using h]; exact e4
      have sp : ∀ a, a ∈ S ++ [nA nt q] → a ∈ S ∨ a = nA nt q := by
        intro a ha
        rcases List.mem_append.mp ha with h | h
        · exact Or.inl h
        · exact Or.inr (by simpa using h)
      -- it stays, or the new one is taken
      have stay : (¬ v < (nA nt (nA nt q)).toInt64 ∨ (best ∈ S ∧ nA nt best ≤ nA nt (nA nt q))) → ((best ∈ S ++ [nA nt q] ∧ v < (nA nt best).toInt64 ∧ ∀ a, a ∈ S ++ [nA nt q] → v < (nA nt a).toInt64 → nA nt best ≤ nA nt a) ∨ (best = -1 ∧ ∀ a, a ∈ S ++ [nA nt q] → ¬ v < (nA nt a).toInt64)) := by
        intro hc
        rcases hb with ⟨b1, b2, b3⟩ | ⟨b1, b2⟩
        · refine Or.inl ⟨List.mem_append.mpr (Or.inl b1), b2, fun a ha hv => ?_⟩
          rcases sp a ha with h | rfl
          · exact b3 a h hv
          · rcases hc with hc | hc
            · exact absurd hv hc
            · exact hc.2
        · rcases hc with hc | hc
          · refine Or.inr ⟨b1, fun a ha => ?_⟩
            rcases sp a ha with h | rfl
            · exact b2 a h
            · exact hc
          · have := hS best hc.1
            rw [b1, sp_nd_m1] at this; cases this
      have take : v < (nA nt (nA nt q)).toInt64 → (best = -1 ∨ ¬ nA nt best ≤ nA nt (nA nt q)) → ((nA nt q ∈ S ++ [nA nt q] ∧ v < (nA nt (nA nt q)).toInt64 ∧ ∀ a, a ∈ S ++ [nA nt q] → v < (nA nt a).toInt64 → nA nt (nA nt q) ≤ nA nt a) ∨ (nA nt q = -1 ∧ ∀ a, a ∈ S ++ [nA nt q] → ¬ v < (nA nt a).toInt64)) := by
        intro hv hc
        refine Or.inl ⟨by simp, hv, fun a ha hva => ?_⟩
        rcases sp a ha with h | rfl
        · rcases hb with ⟨b1, b2, b3⟩ | ⟨b1, b2⟩
          · rcases hc with hc | hc
            · have := hS best b1
              rw [hc, sp_nd_m1] at this; cases this
            · exact Int32.le_trans (Int32.le_of_lt (Int32.not_le.mp hc)) (b3 a h hva)
          · exact absurd hva (b2 a h)
        · exact Int32.le_refl _
      by_cases kv : v < (nA nt (nA nt q)).toInt64
      · have kv' : ¬ lg_cmp (nA nt (nA nt q)).toInt64 v ≤ 0 := by
          intro e
          have := (lg_cmp_gt0 (nA nt (nA nt q)).toInt64 v)
          exact absurd e (Int32.not_le.mpr (by rw [this]; exact kv))
        by_cases kb : best = -1
        · obtain ⟨r0, i1, i2⟩ := ih (nB nt q) (S ++ [nA nt q]) (nA nt q) (some (.int (nA nt q))) e5 hn' hS' (take kv (Or.inl kb))
          refine ⟨r0, fun a1 => ?_, i2⟩
          rw [bX0_leastAbove_6, if_neg (nd_n1 e2), g1, x2, g2, x1, if_pos k83, g2, x2', if_neg kv', if_pos kb, bX0_leastAbove_73, g1, x3]
          exact i1 a1
        · have hbS : best ∈ S := by
            rcases hb with ⟨b1, -⟩ | ⟨b1, -⟩
            · exact b1
            · exact absurd b1 kb
          have g3 : ∀ r : mj_R, mj_g best 4000 r = r := fun r => mj_g_k (sp_nd_in hN (hS best hbS) (Nat.le_refl _)) r
          have x2b : x.1 2 best.toNatClampNeg = nA nt best := by rw [hT.2.1]
          by_cases kl : nA nt best ≤ nA nt (nA nt q)
          · obtain ⟨r0, i1, i2⟩ := ih (nB nt q) (S ++ [nA nt q]) best (some (.int (nA nt q))) e5 hn' hS' (stay (Or.inr ⟨hbS, kl⟩))
            refine ⟨r0, fun a1 => ?_, i2⟩
            rw [bX0_leastAbove_6, if_neg (nd_n1 e2), g1, x2, g2, x1, if_pos k83, g2, x2', if_neg kv', if_neg kb, g2, g3, x2b, if_pos kl, bX0_leastAbove_73, g1, x3]
            exact i1 a1
          · obtain ⟨r0, i1, i2⟩ := ih (nB nt q) (S ++ [nA nt q]) (nA nt q) (some (.int (nA nt q))) e5 hn' hS' (take kv (Or.inr kl))
            refine ⟨r0, fun a1 => ?_, i2⟩
            rw [bX0_leastAbove_6, if_neg (nd_n1 e2), g1, x2, g2, x1, if_pos k83, g2, x2', if_neg kv', if_neg kb, g2, g3, x2b, if_neg kl, bX0_leastAbove_73, g1, x3]
            exact i1 a1
      · have kv' : lg_cmp (nA nt (nA nt q)).toInt64 v ≤ 0 := by
          have := (lg_cmp_gt0 (nA nt (nA nt q)).toInt64 v)
          exact Int32.not_lt.mp (by rw [this]; exact kv)
        obtain ⟨r0, i1, i2⟩ := ih (nB nt q) (S ++ [nA nt q]) best (some (.int (nA nt q))) e5 hn' hS' (stay (Or.inl kv))
        refine ⟨r0, fun a1 => ?_, i2⟩
        rw [bX0_leastAbove_6, if_neg (nd_n1 e2), g1, x2, g2, x1, if_pos k83, g2, x2', if_pos kv', bX0_leastAbove_73, g1, x3]
        exact i1 a1
    · rw [List.filter_cons_of_neg (by simpa using k83)]
      obtain ⟨r0, i1, i2⟩ := ih (nB nt q) S best (some (.int (nA nt q))) e5 hn' hS hb
      refine ⟨r0, fun a1 => ?_, i2⟩
      rw [bX0_leastAbove_6, if_neg (nd_n1 e2), g1, x2, g2, x1, if_neg k83, bX0_leastAbove_73, g1, x3]
      exact i1 a1
/-- the entries of a search -/
theorem k_lkL {d n : Nat} {I : Nat → mj_X → Prop} {a1 a2 a3 a5 a6 a7 a8 a9 : Int32} {sl : Nat → Int32} (hn : n < 4000) (hstr : ∀ i j, i < j → j < n → (nA nt (sl i)).toInt < (nA nt (sl j)).toInt) (hnd : ∀ i, i < n → sp_nd N (sl i) = true) (hN : N ≤ 4000)
    (hI : ∀ j x, I j x → y_st nt x) (hL : ∀ (v : Int64) (x : mj_X), y_st nt x → ∃ r, kX0 d 86 [.ref 0, .int a2, .long v] x = some (some (.int r), x) ∧ (((∃ i, i < n ∧ r = sl i) ∧ v < (nA nt r).toInt64 ∧ ∀ i, i < n → v < (nA nt (sl i)).toInt64 → nA nt r ≤ nA nt (sl i)) ∨ (r = -1 ∧ ∀ i, i < n → ¬ v < (nA nt (sl i)).toInt64)))
    (hS : ∀ j x, j < n → I j x → ∃ x1 x2, kX0 d 69 [.ref 0, .int (nA nt (sl j))] x = some (none, x1) ∧ y_st nt x1 ∧ kX0 d 68 [.ref 0, .int a8, .int (x1.1 35 (sl j).toNatClampNeg), .int 1] x1 = some (none, x2) ∧ I (j + 1) x2) :
    ∀ (m j : Nat) (v : Int64) (o13 : Option Value) (x : mj_X), j + m = n → I j x → (∀ i, i < n → (v < (nA nt (sl i)).toInt64 ↔ j ≤ i)) → ∃ x' v' o13', rX0_choose d (356, [some (.ref 0), some (.int a1), some (.int a2), some (.int a3), some (.int (nI n)), some (.int a5), some (.int a6), some (.int a7), some (.int a8), some (.int a9), some (.long v), none, some (.int (nI j)), o13], [], x) = rX0_choose d (413, [some (.ref 0), some (.int a1), some (.int a2), some (.int a3), some (.int (nI n)), some (.int a5), some (.int a6), some (.int a7), some (.int a8), some (.int a9), some (.long v'), none, some (.int (nI n)), o13'], [], x') ∧ I n x' := by
  intro m
  induction m with
  | zero =>
    intro j v o13 x hj h _
    have : j = n := by omega
    subst this
    rw [bX0_choose_356, if_pos (Int32.le_refl _)]
    exact ⟨x, v, o13, rfl, h⟩
  | succ m ih =>
    intro j v o13 x hj h hv
    have hjn : j < n := by omega
    obtain ⟨r, r1, r2⟩ := hL v x (hI j x h)
    have hr : r = sl j := by
      have hvj := (hv j hjn).mpr (Nat.le_refl _)
      rcases r2 with ⟨⟨i, i1, i2⟩, i3, i4⟩ | ⟨-, i2⟩
      · rw [i2] at i3 i4
        have hji := (hv i i1).mp i3
        have hle := Int32.le_iff_toInt_le.mp (i4 j hjn hvj)
        by_cases e : j = i
        · rw [i2, e]
        · have := hstr j i (by omega) i1; omega
      · exact absurd hvj (i2 j hjn)
    subst hr
    obtain ⟨x1, x2, e1, t1, e2, h2⟩ := hS j x hjn h
    have g1 : ∀ r : mj_R, mj_g (sl j) 4000 r = r := fun r => mj_g_k (sp_nd_in hN (hnd j hjn) (Nat.le_refl _)) r
    rw [bX0_choose_356, if_neg (nI_ge hjn (by omega)), r1, mj_rI_k, g1, g1, show x.1 2 (sl j).toNatClampNeg = nA nt (sl j) by rw [(hI j x h).2.1], e1, mj_rV_k, g1, e2, mj_rV_k, show nI j + (1 : Int32) = nI (j + 1) from nI_add j 1]
    refine ih (j + 1) _ _ x2 (by omega) h2 (fun i hi => ?_)
    rw [Int64.lt_iff_toInt_lt, Int32.toInt_toInt64, Int32.toInt_toInt64]
    constructor
    · intro q
      by_cases e : i ≤ j
      · by_cases e2 : i = j
        · subst e2; omega
        · have := hstr i j (by omega) hjn; omega
      · omega
    · intro q; exact hstr j i (by omega) hi
/-- the entries of a dense table -/
theorem k_dnL {d n cnt : Nat} {I : Nat → mj_X → Prop} {a1 a2 a3 a4 a5 a6 a7 a8 a9 : Int32} {sl : Nat → Int32} {kk : Nat → Nat} {vv : Nat → Int64} (hv0 : ∀ j, vv (j + 1) = vv j + 1) (hlt : ∀ j, j < cnt → vv j ≤ a6.toInt64) (hend : a6.toInt64 < vv cnt) (hkk : ∀ j, j < cnt → kk j < n) (hnd : ∀ i, i < n → sp_nd N (sl i) = true) (hN : N ≤ 4000)
    (hI : ∀ j x, I j x → y_st nt x) (hC : ∀ (j : Nat) (x : mj_X), j < cnt → y_st nt x → kX0 d 85 [.ref 0, .int a2, .long (vv j)] x = some (some (.int (if (nA nt (sl (kk j))).toInt64 = vv j then sl (kk j) else -1)), x))
    (hS : ∀ j x, j < cnt → I j x → ∃ x1, kX0 d 68 [.ref 0, .int a8, .int (if (nA nt (sl (kk j))).toInt64 = vv j then x.1 35 (sl (kk j)).toNatClampNeg else a7), .int 1] x = some (none, x1) ∧ I (j + 1) x1) :
    ∀ (m j : Nat) (o12 : Option Value) (x : mj_X), j + m = cnt → I j x → ∃ x' v' o12', rX0_choose d (287, [some (.ref 0), some (.int a1), some (.int a2), some (.int a3), some (.int a4), some (.int a5), some (.int a6), some (.int a7), some (.int a8), some (.int a9), some (.long (vv j)), none, o12, none], [], x) = rX0_choose d (413, [some (.ref 0), some (.int a1), some (.int a2), some (.int a3), some (.int a4), some (.int a5), some (.int a6), some (.int a7), some (.int a8), some (.int a9), some (.long v'), none, o12', none], [], x') ∧ I cnt x' := by
  intro m
  induction m with
  | zero =>
    intro j o12 x hj h
    have : j = cnt := by omega
    subst this
    rw [bX0_choose_287, if_pos (by rw [lg_cmp_gt0]; exact hend)]
    exact ⟨x, _, o12, rfl, h⟩
  | succ m ih =>
    intro j o12 x hj h
    have hjn : j < cnt := by omega
    obtain ⟨x1, e1, h1⟩ := hS j x hjn h
    rw [bX0_choose_287, if_neg (by rw [lg_cmp_gt0]; exact Int64.not_lt.mpr (hlt j hjn)), hC j x hjn (hI j x h), mj_rI_k]
    by_cases q : (nA nt (sl (kk j))).toInt64 = vv j
    · rw [if_pos q] at e1 ⊢
      have hk := hnd _ (hkk j hjn)
      rw [if_neg (nd_n1 hk), mj_g_k (sp_nd_in hN hk (Nat.le_refl _)), e1, mj_rV_k, ← hv0]
      exact ih (j + 1) _ x1 (by omega) h1
    · rw [if_neg q] at e1 ⊢
      rw [if_pos rfl, e1, mj_rV_k, ← hv0]
      exact ih (j + 1) _ x1 (by omega) h1
end
