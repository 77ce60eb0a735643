/-! CodeWriter: a switch: its table's control -/
section
variable {nt : sp_NT} {N M : Nat} {res par : Nat → Int32}
theorem nfold_pw : ∀ c l : List Int32, l.Pairwise (fun a b => nA nt a ≤ nA nt b) → (c.foldl (fun s k => nins nt k s) l).Pairwise (fun a b => nA nt a ≤ nA nt b) := by
  intro c
  induction c with
  | nil => intro l h; exact h
  | cons a c ih => intro l h; exact ih _ (nins_pw l h)
theorem nsort_pw (c : List Int32) : (nsort nt c).Pairwise (fun a b => nA nt a ≤ nA nt b) := nfold_pw _ _ List.Pairwise.nil
theorem nsort_mem (c : List Int32) (a : Int32) : a ∈ nsort nt c ↔ a ∈ c.filter (fun k => decide (nK nt k = 83)) := by
  have := (nfold_perm (nt := nt) (c.filter (fun k => decide (nK nt k = 83))) []).mem_iff (a := a)
  rw [List.append_nil] at this
  exact this
theorem nsort_len (c : List Int32) : (nsort nt c).length = (c.filter (fun k => decide (nK nt k = 83))).length := by
  have := (nfold_perm (nt := nt) (c.filter (fun k => decide (nK nt k = 83))) []).length_eq
  rw [List.append_nil] at this
  exact this
/-- the cases of a switch: l its list, b the list's node, sl in order -/
def y_tab (nt : sp_NT) (N : Nat) (l : List Int32) (b : Int32) (sl : List Int32) : Prop := sp_Ch nt N 82 l b ∧ (∀ p, p ∈ l → sp_nd N (nA nt p) = true) ∧ N ≤ 4000 ∧ sl.length < 4000 ∧ (∀ a, a ∈ sl ↔ a ∈ (l.map (fun p => nA nt p)).filter (fun k => decide (nK nt k = 83)))
  ∧ ∀ i j, i < j → j < sl.length → (nA nt (sl.getD i 0)).toInt < (nA nt (sl.getD j 0)).toInt
theorem y_tab_mk {l : List Int32} {b : Int32} (hT : wTb nt N M res par) (hl : sp_Ch nt N 82 l b) (hlen : l.length ≤ 40) (hn : ∀ p, p ∈ l → sp_nd N (nA nt p) = true) (hN : N ≤ 4000) : y_tab nt N l b (nsort nt (l.map (fun p => nA nt p))) := by
  refine ⟨hl, hn, hN, ?_, nsort_mem _, nsort_str hT hl (by omega) (nsort_pw _)⟩
  rw [nsort_len]
  have := List.length_filter_le (fun k => decide (nK nt k = 83)) (l.map (fun p => nA nt p))
  rw [List.length_map] at this
  omega
theorem getD_mem {sl : List Int32} {i : Nat} (hi : i < sl.length) : sl.getD i 0 ∈ sl := by
  rw [List.getD, List.getElem?_eq_getElem hi]
  exact List.getElem_mem hi
theorem mem_getD {sl : List Int32} {a : Int32} (h : a ∈ sl) : ∃ i, i < sl.length ∧ a = sl.getD i 0 := by
  obtain ⟨i, hi, e⟩ := List.mem_iff_getElem.mp h
  exact ⟨i, hi, by rw [List.getD, List.getElem?_eq_getElem hi]; exact e.symm⟩
theorem y_tab.nd {l sl : List Int32} {b : Int32} (h : y_tab nt N l b sl) {a : Int32} (ha : a ∈ sl) : sp_nd N a = true ∧ ∃ p, p ∈ l ∧ nA nt p = a := by
  have := (List.mem_filter.mp ((h.2.2.2.2.1 a).mp ha)).1
  obtain ⟨p, h1, h2⟩ := List.mem_map.mp this
  exact ⟨by rw [← h2]; exact h.2.1 p h1, p, h1, h2⟩
/-- count, least, greatest -/
theorem y_tab_lg {l : List Int32} (hk : ∀ p, p ∈ l → nK nt (nA nt p) = 83 ∨ nK nt (nA nt p) = 84) : (y_lg nt (0, 0, 0) (l.map (fun p => nA nt p))).1 = (nsort nt (l.map (fun p => nA nt p))).length ∧ (0 < (nsort nt (l.map (fun p => nA nt p))).length → (y_lg nt (0, 0, 0) (l.map (fun p => nA nt p))).2.1 = nA nt ((nsort nt (l.map (fun p => nA nt p))).getD 0 0) ∧ (y_lg nt (0, 0, 0) (l.map (fun p => nA nt p))).2.2 = nA nt ((nsort nt (l.map (fun p => nA nt p))).getD ((nsort nt (l.map (fun p => nA nt p))).length - 1) 0)) := by
  have hI := y_lg_i (nt := nt) (l.map (fun p => nA nt p)) [] (0, 0, 0) (fun k h => by obtain ⟨p, h1, h2⟩ := List.mem_map.mp h; rw [← h2]; exact hk p h1) ⟨rfl, fun q => absurd rfl q⟩
  rw [List.nil_append] at hI
  have hm := nsort_mem (nt := nt) (l.map (fun p => nA nt p))
  have hln := nsort_len (nt := nt) (l.map (fun p => nA nt p))
  have hpw := nsort_pw (nt := nt) (l.map (fun p => nA nt p))
  generalize y_lg nt (0, 0, 0) (l.map (fun p => nA nt p)) = s at *
  generalize nsort nt (l.map (fun p => nA nt p)) = sl at *
  generalize (l.map (fun p => nA nt p)).filter (fun k => decide (nK nt k = 83)) = S at *
  refine ⟨hI.1.trans hln.symm, fun h0 => ?_⟩
  have hS : S ≠ [] := fun e => by rw [e] at hln; have : sl.length = 0 := hln; omega
  obtain ⟨⟨a1, a2, a3⟩, b1, ⟨c1, c2, c3⟩, d1⟩ := hI.2 hS
  have ge : ∀ i, (hi : i < sl.length) → sl.getD i 0 = sl[i] := fun i hi => by rw [List.getD, List.getElem?_eq_getElem hi]; rfl
  have m0 := (hm _).mp (getD_mem h0)
  have mn := (hm _).mp (getD_mem (show sl.length - 1 < sl.length by omega))
  obtain ⟨i, i1, i2⟩ := mem_getD ((hm _).mpr a2)
  obtain ⟨j, j1, j2⟩ := mem_getD ((hm _).mpr c2)
  constructor
  · refine Int32.le_antisymm (b1 _ m0) ?_
    rw [← a3, i2]
    by_cases e : i = 0
    · rw [e]; exact Int32.le_refl _
    · rw [ge i i1, ge 0 h0]; exact List.pairwise_iff_getElem.mp hpw 0 i h0 i1 (by omega)
  · refine Int32.le_antisymm ?_ (d1 _ mn)
    rw [← c3, j2]
    by_cases e : j = sl.length - 1
    · rw [e]; exact Int32.le_refl _
    · rw [ge j j1, ge (sl.length - 1) (by omega)]; exact List.pairwise_iff_getElem.mp hpw j (sl.length - 1) j1 (by omega) (by omega)
/-- the least case above -/
theorem y_tab.least {d : Nat} {l sl : List Int32} {b : Int32} (hd : 1 ≤ d) (h : y_tab nt N l b sl) (v : Int64) (x : mj_X) (hx : y_st nt x) : ∃ r, kX0 d 86 [.ref 0, .int b, .long v] x = some (some (.int r), x) ∧ (((∃ i, i < sl.length ∧ r = sl.getD i 0) ∧ v < (nA nt r).toInt64 ∧ ∀ i, i < sl.length → v < (nA nt (sl.getD i 0)).toInt64 → nA nt r ≤ nA nt (sl.getD i 0)) ∨ (r = -1 ∧ ∀ i, i < sl.length → ¬ v < (nA nt (sl.getD i 0)).toInt64)) := by
  obtain ⟨d, rfl⟩ : ∃ c, d = c + 1 := ⟨d - 1, by omega⟩
  obtain ⟨h1, h2, h3, h4, h5, h6⟩ := h
  obtain ⟨r, e, q⟩ := k_least (nt := nt) (N := N) (d := d) (v := v) (x := x) hx h3 l b [] (-1) none h1 h2 (fun a ha => by cases ha) (Or.inr ⟨rfl, fun a ha => by cases ha⟩)
  refine ⟨r, by rw [eX0_leastAbove]; exact e b, ?_⟩
  rw [List.nil_append] at q
  rcases q with ⟨q1, q2, q3⟩ | ⟨q1, q2⟩
  · exact Or.inl ⟨mem_getD ((h5 r).mpr q1), q2, fun i hi => q3 _ ((h5 _).mp (getD_mem hi))⟩
  · exact Or.inr ⟨q1, fun i hi => q2 _ ((h5 _).mp (getD_mem hi))⟩
/-- the case of a number -/
theorem y_tab.caseOf {d j : Nat} {l sl : List Int32} {b : Int32} (hd : 1 ≤ d) (h : y_tab nt N l b sl) (v : Int64) (x : mj_X) (hx : y_st nt x) (hj : j < sl.length) (hno : ¬ (nA nt (sl.getD j 0)).toInt64 = v → ∀ i, i < sl.length → ¬ (nA nt (sl.getD i 0)).toInt64 = v) : kX0 d 85 [.ref 0, .int b, .long v] x = some (some (.int (if (nA nt (sl.getD j 0)).toInt64 = v then sl.getD j 0 else -1)), x) := by
  obtain ⟨d, rfl⟩ : ∃ c, d = c + 1 := ⟨d - 1, by omega⟩
  obtain ⟨h1, h2, h3, h4, h5, h6⟩ := h
  obtain ⟨r, e, q⟩ := k_caseOf (nt := nt) (N := N) (d := d) (v := v) (x := x) hx h3 l b h1 h2
  rw [eX0_caseOf, e b]
  congr 3
  by_cases p : (nA nt (sl.getD j 0)).toInt64 = v
  · rw [if_pos p]
    rcases q with ⟨q1, q2⟩ | ⟨q1, q2⟩
    · obtain ⟨i, i1, i2⟩ := mem_getD ((h5 r).mpr q1)
      have e2 : (nA nt (sl.getD i 0)).toInt = (nA nt (sl.getD j 0)).toInt := by
        rw [← Int32.toInt_toInt64, ← Int32.toInt_toInt64 (nA nt (sl.getD j 0)), p, ← i2, q2]
      rw [i2]
      rcases Nat.lt_trichotomy i j with z | z | z
      · have := h6 i j z hj; omega
      · rw [z]
      · have := h6 j i z i1; omega
    · exact absurd p (q2 _ ((h5 _).mp (getD_mem hj)))
  · rw [if_neg p]
    rcases q with ⟨q1, q2⟩ | ⟨q1, q2⟩
    · obtain ⟨i, i1, i2⟩ := mem_getD ((h5 r).mpr q1)
      rw [i2] at q2
      exact absurd q2 (hno p i i1)
    · rw [q1]
/-- the control of a table -/
theorem k_tctl {d : Nat} {l sl : List Int32} {b low high oth a1 a3 : Int32} {x : mj_X} {o9 : Option Value} {I0 : Int32 → mj_X → Prop} {I1 I2 : Int32 → mj_X → Prop} {I3 : mj_X → Prop} {IL ID : Nat → mj_X → Prop} (hd : 1 ≤ d) (h : y_tab nt N l b sl) (hlh : 0 < sl.length → low = nA nt (sl.getD 0 0) ∧ high = nA nt (sl.getD (sl.length - 1) 0))
    (h0 : ∀ cc, ∃ z, kX0 d 37 [.ref 0, .int cc] x = some (none, z) ∧ I0 cc z)
    (h1 : ∀ (cc s0 : Int32) (z : mj_X), I0 cc z → ∃ z', rX0_choose d (225, [some (.ref 0), some (.int a1), some (.int b), some (.int a3), some (.int (nI sl.length)), some (.int low), some (.int high), some (.int oth), some (.int (x.1 0 28)), some (.int s0), none, none, none, none], [], z) = rX0_choose d (256, [some (.ref 0), some (.int a1), some (.int b), some (.int a3), some (.int (nI sl.length)), some (.int low), some (.int high), some (.int oth), some (.int (x.1 0 28)), some (.int s0), none, none, none, none], [], z') ∧ I1 cc z')
    (h2 : ∀ cc z, I1 cc z → ∃ z', kX0 d 68 [.ref 0, .int (x.1 0 28), .int oth, .int 1] z = some (none, z') ∧ I2 cc z')
    (h3 : ∀ z, I2 171 z → ∃ z', kX0 d 69 [.ref 0, .int (nI sl.length)] z = some (none, z') ∧ IL 0 z')
    (h4 : 0 < sl.length → ∀ z, I2 170 z → ∃ z', kX0 d 69 [.ref 0, .int (nA nt (sl.getD 0 0))] z = some (none, z') ∧ I3 z')
    (h5 : 0 < sl.length → ∀ z, I3 z → ∃ z', kX0 d 69 [.ref 0, .int (nA nt (sl.getD (sl.length - 1) 0))] z = some (none, z') ∧ ID 0 z')
    (sL : ∀ j z, IL j z → y_st nt z) (sD : ∀ j z, ID j z → y_st nt z)
    (h6 : ∀ j z, j < sl.length → IL j z → ∃ z1 z2, kX0 d 69 [.ref 0, .int (nA nt (sl.getD j 0))] z = some (none, z1) ∧ y_st nt z1 ∧ kX0 d 68 [.ref 0, .int (x.1 0 28), .int (z1.1 35 (sl.getD j 0).toNatClampNeg), .int 1] z1 = some (none, z2) ∧ IL (j + 1) z2)
    (h7 : ∀ (j i : Nat) (z : mj_X), 0 < sl.length → ((nA nt (sl.getD 0 0)).toInt + j ≤ (nA nt (sl.getD (sl.length - 1) 0)).toInt) → i < sl.length → i = w_kk (fun i => nA nt (sl.getD i 0)) (nA nt (sl.getD 0 0)).toInt j → ID j z → ∃ z1, kX0 d 68 [.ref 0, .int (x.1 0 28), .int (if (nA nt (sl.getD i 0)).toInt = (nA nt (sl.getD 0 0)).toInt + j then z.1 35 (sl.getD i 0).toNatClampNeg else oth), .int 1] z = some (none, z1) ∧ ID (j + 1) z1) :
    ∃ z v s0 o12 o13, rX0_choose d (149, [some (.ref 0), some (.int a1), some (.int b), some (.int a3), some (.int (nI sl.length)), some (.int low), some (.int high), some (.int oth), some (.int (-1 : Int32)), o9, none, none, none, none], [], x) = rX0_choose d (413, [some (.ref 0), some (.int a1), some (.int b), some (.int a3), some (.int (nI sl.length)), some (.int low), some (.int high), some (.int oth), some (.int (x.1 0 28)), some (.int s0), some (.long v), none, o12, o13], [], z)
      ∧ ((0 < sl.length ∧ 13 + ((nA nt (sl.getD (sl.length - 1) 0)).toInt - (nA nt (sl.getD 0 0)).toInt + 1).toNat ≤ 3 + 5 * sl.length ∧ ID ((nA nt (sl.getD (sl.length - 1) 0)).toInt - (nA nt (sl.getD 0 0)).toInt + 1).toNat z) ∨ (¬ (0 < sl.length ∧ 13 + ((nA nt (sl.getD (sl.length - 1) 0)).toInt - (nA nt (sl.getD 0 0)).toInt + 1).toNat ≤ 3 + 5 * sl.length) ∧ IL sl.length z)) := by
  have hn4 := h.2.2.2.1
  have hstr := h.2.2.2.2.2
  have hN := h.2.2.1
  have hnd : ∀ i, i < sl.length → sp_nd N (sl.getD i 0) = true := fun i hi => (h.nd (getD_mem hi)).1
  have cas := fun (j : Nat) (v : Int64) (z : mj_X) => y_tab.caseOf (d := d) (j := j) hd h v z
  have lea := y_tab.least (d := d) hd h
  generalize hkey : (fun i => nA nt (sl.getD i 0)) = key at *
  have ek : ∀ i, nA nt (sl.getD i 0) = key i := fun i => by rw [← hkey]
  -- a search
  have look : ∀ o9, ∃ z v o12 o13, rX0_choose d (205, [some (.ref 0), some (.int a1), some (.int b), some (.int a3), some (.int (nI sl.length)), some (.int low), some (.int high), some (.int oth), some (.int (x.1 0 28)), o9, none, none, none, none], [.int (0 : Int32)], x) = rX0_choose d (413, [some (.ref 0), some (.int a1), some (.int b), some (.int a3), some (.int (nI sl.length)), some (.int low), some (.int high), some (.int oth), some (.int (x.1 0 28)), some (.int (0 : Int32)), some (.long v), none, o12, o13], [], z) ∧ IL sl.length z := by
    intro o9
    obtain ⟨z0, e0, i0⟩ := h0 171
    obtain ⟨z1, e1, i1⟩ := h1 171 0 z0 i0
    obtain ⟨z2, e2, i2⟩ := h2 171 z1 i1
    obtain ⟨z3, e3, i3⟩ := h3 z2 i2
    rw [bX0_choose_205, if_pos rfl, e0, mj_rV_k, e1, bX0_choose_256, e2, mj_rV_k, if_pos rfl, e3, mj_rV_k]
    obtain ⟨z, v', o13', e, i⟩ := k_lkL (nt := nt) (N := N) (d := d) (n := sl.length) (I := IL) (a1 := a1) (a2 := b) (a3 := a3) (a5 := low) (a6 := high) (a7 := oth) (a8 := x.1 0 28) (a9 := 0) (sl := fun i => sl.getD i 0) hn4 hstr hnd hN sL lea h6 sl.length 0 (-9223372036854775808) none z3 (by omega) i3 (fun i hi => by
      rw [Int64.lt_iff_toInt_lt, Int32.toInt_toInt64]
      have := i32_b (nA nt (sl.getD i 0))
      have e : (-9223372036854775808 : Int64).toInt = -9223372036854775808 := rfl
      rw [e]
      exact ⟨fun _ => Nat.zero_le _, fun _ => by omega⟩)
    exact ⟨z, v', _, o13', e, i⟩
  -- a dense table
  have dens : 0 < sl.length → ∀ o9, ∃ z v o12 o13, rX0_choose d (205, [some (.ref 0), some (.int a1), some (.int b), some (.int a3), some (.int (nI sl.length)), some (.int low), some (.int high), some (.int oth), some (.int (x.1 0 28)), o9, none, none, none, none], [.int (1 : Int32)], x) = rX0_choose d (413, [some (.ref 0), some (.int a1), some (.int b), some (.int a3), some (.int (nI sl.length)), some (.int low), some (.int high), some (.int oth), some (.int (x.1 0 28)), some (.int (1 : Int32)), some (.long v), none, o12, o13], [], z) ∧ ID ((key (sl.length - 1)).toInt - (key 0).toInt + 1).toNat z := by
    intro hn0 o9
    obtain ⟨elo, ehi⟩ := hlh hn0
    obtain ⟨z0, e0, i0⟩ := h0 170
    obtain ⟨z1, e1, i1⟩ := h1 170 1 z0 i0
    obtain ⟨z2, e2, i2⟩ := h2 170 z1 i1
    obtain ⟨z3, e3, i3⟩ := h4 hn0 z2 i2
    obtain ⟨z4, e4, i4⟩ := h5 hn0 z3 i3
    rw [bX0_choose_205, if_neg (by decide), e0, mj_rV_k, e1, bX0_choose_256, e2, mj_rV_k, if_neg (by decide)]
    rw [← elo] at e3
    rw [← ehi] at e4
    rw [e3, mj_rV_k, e4, mj_rV_k]
    rw [ek] at elo ehi
    have hstr' : ∀ i j, i < j → j < sl.length → (key i).toInt < (key j).toInt := fun i j p q => by rw [← ek, ← ek]; exact hstr i j p q
    have h0n : (key 0).toInt ≤ (key (sl.length - 1)).toInt := by
      by_cases q : sl.length - 1 = 0
      · rw [q]; exact Int.le_refl _
      · exact Int.le_of_lt (hstr' 0 (sl.length - 1) (by omega) (by omega))
    have hb0 := i32_b (key 0)
    have hbn := i32_b (key (sl.length - 1))
    obtain ⟨cnt, hcnt⟩ : ∃ cnt : Nat, (cnt : Int) = (key (sl.length - 1)).toInt - (key 0).toInt + 1 := ⟨((key (sl.length - 1)).toInt - (key 0).toInt + 1).toNat, by omega⟩
    have hcn : ((key (sl.length - 1)).toInt - (key 0).toInt + 1).toNat = cnt := by omega
    rw [hcn]
    have hinv := w_kk_inv (key := key) hn0 hstr'
    have hkk : ∀ j, j < cnt → w_kk key (key 0).toInt j < sl.length := by
      intro j hj
      obtain ⟨i1, i2, -⟩ := hinv j (by omega)
      by_cases q : w_kk key (key 0).toInt j < sl.length
      · exact q
      · have := i2 (sl.length - 1) (by omega); omega
    have eqv : ∀ i j, j < cnt → ((key i).toInt64 = w_vv (key 0) j ↔ (key i).toInt = (key 0).toInt + j) := by
      intro i j hj
      rw [← Int64.toInt_inj, Int32.toInt_toInt64, w_vv_i (key 0) j (by omega)]
    have cas2 : ∀ (j : Nat) (z : mj_X), j < cnt → y_st nt z → kX0 d 85 [.ref 0, .int b, .long (w_vv (key 0) j)] z = some (some (.int (if (nA nt (sl.getD (w_kk key (key 0).toInt j) 0)).toInt64 = w_vv (key 0) j then sl.getD (w_kk key (key 0).toInt j) 0 else -1)), z) := by
      intro j z hj hz
      refine cas _ _ z hz (hkk j hj) (fun hne i hi => ?_)
      rw [ek, eqv _ j hj] at hne ⊢
      obtain ⟨i1, i2, i3⟩ := hinv j (by omega)
      rcases Nat.lt_trichotomy i (w_kk key (key 0).toInt j) with p | p | p
      · have := i2 i p; omega
      · rw [p]; exact hne
      · have a := i3 _ (Nat.le_refl _) (hkk j hj)
        have c := hstr' _ i p hi
        omega
    obtain ⟨z, v', o12', e, i⟩ := k_dnL (nt := nt) (N := N) (d := d) (n := sl.length) (cnt := cnt) (I := ID) (a1 := a1) (a2 := b) (a3 := a3) (a4 := nI sl.length) (a5 := low) (a6 := high) (a7 := oth) (a8 := x.1 0 28) (a9 := 1) (sl := fun i => sl.getD i 0) (kk := w_kk key (key 0).toInt) (vv := w_vv (key 0)) (fun _ => rfl)
      (fun j hj => by rw [Int64.le_iff_toInt_le, ehi, Int32.toInt_toInt64, w_vv_i (key 0) j (by omega)]; omega) (by rw [Int64.lt_iff_toInt_lt, ehi, Int32.toInt_toInt64, w_vv_i (key 0) cnt (by omega)]; omega) hkk hnd hN sD cas2
      (fun j z hj hI => by
        obtain ⟨z1, p1, p2⟩ := h7 j _ z hn0 (by rw [ek, ek]; omega) (hkk j hj) (by rw [ek]) hI
        refine ⟨z1, ?_, p2⟩
        rw [← p1]
        congr 5
        rw [ek, ek]
        by_cases q : (key (w_kk key (key 0).toInt j)).toInt = (key 0).toInt + j
        · rw [if_pos q, if_pos ((eqv _ j hj).mpr q)]
        · rw [if_neg q, if_neg (fun e => q ((eqv _ j hj).mp e))]) cnt 0 none z4 (by omega) i4
    refine ⟨z, v', o12', none, ?_, i⟩
    rw [← e, elo]
    rfl
  by_cases hn0 : 0 < sl.length
  · obtain ⟨elo, ehi⟩ := hlh hn0
    have hle : (nA nt (sl.getD 0 0)).toInt ≤ (nA nt (sl.getD (sl.length - 1) 0)).toInt := by
      by_cases q : sl.length - 1 = 0
      · rw [q]; exact Int.le_refl _
      · exact Int.le_of_lt (hstr 0 (sl.length - 1) (by omega) (by omega))
    have hdi := w_dense_i (a := low) (b := high) hn4 (by rw [elo, ehi]; exact hle)
    rw [bX0_choose_149, if_neg (show ¬ nI sl.length ≤ (0 : Int32) from nI_ge (a := 0) (by omega) (by omega)), bX0_choose_160, bX0_choose_196]
    by_cases q : 13 + ((nA nt (sl.getD (sl.length - 1) 0)).toInt - (nA nt (sl.getD 0 0)).toInt + 1).toNat ≤ 3 + 5 * sl.length
    · rw [if_neg (by rw [hdi, elo, ehi]; exact fun e => e q)]
      obtain ⟨z, v, o12, o13, e, i⟩ := dens hn0 o9
      exact ⟨z, v, 1, o12, o13, e, Or.inl ⟨hn0, q, by rw [ek, ek]; exact i⟩⟩
    · rw [if_pos (by rw [hdi, elo, ehi]; exact q)]
      obtain ⟨z, v, o12, o13, e, i⟩ := look o9
      exact ⟨z, v, 0, o12, o13, e, Or.inr ⟨fun w => q w.2, i⟩⟩
  · rw [bX0_choose_149, if_pos (by rw [show sl.length = 0 by omega]; decide)]
    obtain ⟨z, v, o12, o13, e, i⟩ := look o9
    exact ⟨z, v, 0, o12, o13, e, Or.inr ⟨fun w => hn0 w.1, i⟩⟩
end
