/-! a switch of CodeWriterModel: its table once there is too much -/
section
variable {nt : sp_NT} {N M : Nat} {w : Bool} {ba pf rf lf c : Nat} {lm : Nat → Nat} {lv : Nat → Bool} {x : mj_X} {g G : wG}
theorem m1.dead {y : mj_X} (h : m1 ba lf c y) : m1 ba lf c (mj_wI y 0 35 0) := by
  obtain ⟨a1, a2, a3, a4, a5, a6⟩ := h
  exact ⟨a1, a2, a3, a4, ⟨false, rfl⟩, a6⟩
theorem m_tabM {d n : Nat} (hd : 6 ≤ d) {sl : List Int32} {a1 a4 oth : Int32} {o6 o7 : Option Value} (hm : m1 ba lf c x) (h3 : x.1 3 = nt 1) (hN : N ≤ 4000) (hn : sl.length = n) (hn4 : n < 4000) (hstr : ∀ i j, i < j → j < n → (nA nt (sl.getD i 0)).toInt < (nA nt (sl.getD j 0)).toInt) (hz : z_so x sl) (hnd : ∀ a, a ∈ sl → sp_nd N a = true) (h74 : ∀ k, ∃ m, m < 300000 ∧ x.1 74 k = nI m) (ho : ∃ m, m < 300000 ∧ oth = nI m) :
    ∃ x', rX1_table d (6, [some (.ref 0), some (.int a1), some (.int (nI n)), some (.int oth), some (.int a4), some (.int (-1)), o6, o7, none, none, none, none, none, none], [], x) = some (none, x') ∧ zfr (zw ba pf lf) x x' ∧ m1 ba lf c x' := by
  have hmem : ∀ i, i < n → sl.getD i 0 ∈ sl := by
    intro i hi
    have hi : i < sl.length := by omega
    rw [List.getD, List.getElem?_eq_getElem hi]
    exact List.getElem_mem hi
  have hso : ∀ i, i < n → x.1 75 i = sl.getD i 0 := by
    intro i hi
    have hi : i < sl.length := by omega
    have := hz i (sl[i]) (List.getElem?_eq_getElem hi)
    rw [this, List.getD, List.getElem?_eq_getElem hi]; rfl
  generalize hki : (fun i => nA nt (sl.getD i 0)) = key at *
  have hkey : ∀ i, key i = nA nt (sl.getD i 0) := fun i => by rw [← hki]
  have rd : ∀ (y : mj_X) (i : Nat), zfr (zw ba pf lf) x y → i < n → mj_g (y.1 75 i) 4000 = id ∧ y.1 3 (y.1 75 i).toNatClampNeg = key i ∧ y.1 74 (y.1 75 i).toNatClampNeg = x.1 74 (sl.getD i 0).toNatClampNeg := by
    intro y i f hi
    rw [f.2 75 i rfl, hso i hi, f.2 3 _ rfl, f.2 74 _ rfl, h3, hkey]
    refine ⟨?_, rfl, rfl⟩
    funext r
    exact mj_g_k (sp_nd_in hN (hnd _ (hmem i hi)) (Nat.le_refl _)) r
  have h34 : ∀ y : mj_X, m1 ba lf c y → ¬ y.1 0 34 = 0 := fun y e => by rw [e.1]; decide
  obtain ⟨mo, hmo, rfl⟩ := ho
  have n1 : nI n - (1 : Int32) = nI (n - 1) ∨ n = 0 := by
    by_cases q : n = 0
    · exact Or.inr q
    · exact Or.inl (nI_sub (b := 1) (by omega))
  have z0 : (0 : Int32).toNatClampNeg = 0 := rfl
  have head : ∀ (s0 : Int32) (a5 : Int64) (o7 : Option Value), ∃ x2, zfr (zw ba pf lf) x x2 ∧ m1 ba lf c x2 ∧ rX1_table d (191, [some (.ref 0), some (.int a1), some (.int (nI n)), some (.int (nI mo)), some (.int a4), some (.long a5), none, o7, none, none, none, none, none, none], [.int s0], x) = (if s0 = 0 then rX1_table d (432, [some (.ref 0), some (.int a1), some (.int (nI n)), some (.int (nI mo)), some (.int a4), some (.long a5), none, some (.int s0), some (.int (x.1 0 32)), some (.int (0 : Int32)), none, none, none, none], [], x2)
      else mj_g (0 : Int32) 4000 (mj_g (x2.1 75 (0 : Int32).toNatClampNeg) 4000 (mj_g (nI n - (1 : Int32)) 4000 (mj_g (x2.1 75 (nI n - (1 : Int32)).toNatClampNeg) 4000 (mj_g (0 : Int32) 4000 (mj_g (x2.1 75 (0 : Int32).toNatClampNeg) 4000 (rX1_table d (312, [some (.ref 0), some (.int a1), some (.int (nI n)), some (.int (nI mo)), some (.int a4), some (.long a5), none, some (.int s0), some (.int (x.1 0 32)), some (.int (0 : Int32)), some (.long (x2.1 3 (x2.1 75 (0 : Int32).toNatClampNeg).toNatClampNeg).toInt64), none, none, none], [], x2)))))))) := by
    intro s0 a5 o7
    obtain ⟨x1, e1, f1, r1⟩ := m_comeM (pf := pf) (d := d) (by omega) hmo hm
    obtain ⟨x2, e2, f2, r2⟩ := m_fixM (pf := pf) (d := d) (by omega) (x.1 0 32) (nI mo) 1 (Or.inr rfl) r1
    refine ⟨x2, f1.tr f2, r2, ?_⟩
    rw [bX1_table_191, m_codeM (by omega) (h34 x hm) 171 1 0, m_codeM (by omega) (h34 x hm) 170 1 0, mj_rV_k, ite_self, bX1_table_219, if_neg (h34 x hm), ite_self, bX1_table_243, e1, mj_rV_k, e2, mj_rV_k]
    by_cases q : s0 = 0
    · rw [if_pos q, if_pos q, m_opM (by omega) (h34 x2 r2), mj_rV_k]
    · rw [if_neg q, if_neg q, m_opM (by omega) (h34 x2 r2), mj_rV_k, m_opM (by omega) (h34 x2 r2), mj_rV_k]
  -- an entry
  have ent : ∀ (l : Int32) (y : mj_X), (∃ m, m < 300000 ∧ l = nI m) → zfr (zw ba pf lf) x y → m1 ba lf c y → ∃ y1 y2, kX1 d 50 [.ref 0, .int l] y = some (none, y1) ∧ kX1 d 48 [.ref 0, .int (x.1 0 32), .int l, .int 1] y1 = some (none, y2) ∧ zfr (zw ba pf lf) x y1 ∧ zfr (zw ba pf lf) x y2 ∧ m1 ba lf c y2 := by
    intro l y ⟨m, hm', e⟩ f r
    subst e
    obtain ⟨y1, e1, f1, r1⟩ := m_comeM (pf := pf) (d := d) (by omega) hm' r
    obtain ⟨y2, e2, f2, r2⟩ := m_fixM (pf := pf) (d := d) (by omega) (x.1 0 32) (nI m) 1 (Or.inr rfl) r1
    exact ⟨y1, y2, e1, e2, f.tr f1, (f.tr f1).tr f2, r2⟩
  have look : ∀ (a5 : Int64) (o7 : Option Value), ∃ x', rX1_table d (191, [some (.ref 0), some (.int a1), some (.int (nI n)), some (.int (nI mo)), some (.int a4), some (.long a5), none, o7, none, none, none, none, none, none], [.int 0], x) = some (none, x') ∧ zfr (zw ba pf lf) x x' ∧ m1 ba lf c x' := by
    intro a5 o7
    obtain ⟨x2, f2, r2, e2⟩ := head 0 a5 o7
    rw [e2, if_pos rfl]
    obtain ⟨x', e, i1, i2⟩ := m_lkL (d := d) (n := n) (I := fun _ y => zfr (zw ba pf lf) x y ∧ m1 ba lf c y) (a1 := a1) (a3 := nI mo) (a4 := a4) (a7 := 0) (a8 := x.1 0 32) (a5 := a5) (key := key) (lab := fun i => x.1 74 (sl.getD i 0).toNatClampNeg) hn4 (fun j y hI hj => ⟨(rd y j hI.1 hj).1, (rd y j hI.1 hj).2.1⟩) (fun j y hj hI => by
      obtain ⟨y1, y2, t1, t2, g1, g2, r⟩ := ent (x.1 74 (sl.getD j 0).toNatClampNeg) y (h74 _) hI.1 hI.2
      exact ⟨y, y1, y2, m_opM (by omega) (h34 y hI.2) _ _, ⟨(rd y j hI.1 hj).1, (rd y j hI.1 hj).2.2⟩, t1, ⟨(rd y1 j g1 hj).1, (rd y1 j g1 hj).2.2⟩, t2, g2, r⟩) n 0 x2 (by omega) ⟨f2, r2⟩
    exact ⟨mj_wI x' 0 35 0, e, i1.w _ rfl, i2.dead⟩
  have dens : 0 < n → ∀ (a5 : Int64) (o7 : Option Value), ∃ x', rX1_table d (191, [some (.ref 0), some (.int a1), some (.int (nI n)), some (.int (nI mo)), some (.int a4), some (.long a5), none, o7, none, none, none, none, none, none], [.int 1], x) = some (none, x') ∧ zfr (zw ba pf lf) x x' ∧ m1 ba lf c x' := by
    intro hn0 a5 o7
    have hstr' : ∀ i j, i < j → j < n → (key i).toInt < (key j).toInt := fun i j h1 h2 => by rw [hkey, hkey]; exact hstr i j h1 h2
    have h0n : (key 0).toInt ≤ (key (n - 1)).toInt := by
      by_cases q : n - 1 = 0
      · rw [q]; exact Int.le_refl _
      · exact Int.le_of_lt (hstr' 0 (n - 1) (by omega) (by omega))
    have hb0 := i32_b (key 0)
    have hbn := i32_b (key (n - 1))
    obtain ⟨cnt, hcnt⟩ : ∃ cnt : Nat, (cnt : Int) = (key (n - 1)).toInt - (key 0).toInt + 1 := ⟨((key (n - 1)).toInt - (key 0).toInt + 1).toNat, by omega⟩
    have hinv := w_kk_inv (key := key) hn0 hstr'
    have hkk : ∀ j, j < cnt → w_kk key (key 0).toInt j < n := by
      intro j hj
      obtain ⟨i1, i2, -⟩ := hinv j (by omega)
      by_cases q : w_kk key (key 0).toInt j < n
      · exact q
      · have := i2 (n - 1) (by omega); omega
    have eqv : ∀ i j, j < cnt → ((key i).toInt64 = w_vv (key 0) j ↔ (key i).toInt = (key 0).toInt + j) := by
      intro i j hj
      rw [← Int64.toInt_inj, Int32.toInt_toInt64, w_vv_i (key 0) j (by omega)]
    obtain ⟨x2, f2, r2, e2⟩ := head 1 a5 o7
    rw [e2, if_neg (by decide)]
    have r0 := rd x2 0 f2 (by omega)
    have rn := rd x2 (n - 1) f2 (by omega)
    rw [show mj_g (0 : Int32) 4000 = id from funext fun r => rfl, z0, r0.1, r0.2.1, n1.resolve_right (by omega), nI_nd (by omega), nI_cl (by omega), rn.1]
    show ∃ x', rX1_table d (312, _, [], x2) = _ ∧ _
    obtain ⟨x', e, i1, i2⟩ := m_dnL (d := d) (n := n) (cnt := cnt) (I := fun _ y => zfr (zw ba pf lf) x y ∧ m1 ba lf c y) (a1 := a1) (oth := nI mo) (a4 := a4) (a7 := 1) (a8 := x.1 0 32) (a5 := a5) (key := key) (lab := fun i => x.1 74 (sl.getD i 0).toNatClampNeg) (kk := w_kk key (key 0).toInt) (vv := w_vv (key 0)) hn0 hn4 (fun _ => rfl)
      (fun j hj => by rw [Int64.le_iff_toInt_le, Int32.toInt_toInt64, w_vv_i (key 0) j (by omega)]; omega) (by rw [Int64.lt_iff_toInt_lt, Int32.toInt_toInt64, w_vv_i (key 0) cnt (by omega)]; omega) hkk
      (fun j hj => by
        show (if (key (w_kk key (key 0).toInt j)).toInt = (key 0).toInt + j then _ else _) = _
        by_cases q : (key (w_kk key (key 0).toInt j)).toInt = (key 0).toInt + j
        · rw [if_pos q, if_pos ((eqv _ j hj).mpr q)]
        · rw [if_neg q, if_neg (fun e => q ((eqv _ j hj).mp e))])
      (fun j y i hI hi => rd y i hI.1 hi) (fun j y hj hI => by
        have hl : ∃ m, m < 300000 ∧ (if (key (w_kk key (key 0).toInt j)).toInt64 = w_vv (key 0) j then x.1 74 (sl.getD (w_kk key (key 0).toInt j) 0).toNatClampNeg else nI mo) = nI m := by
          split
          · exact h74 _
          · exact ⟨mo, hmo, rfl⟩
        obtain ⟨y1, y2, t1, t2, g1, g2, r⟩ := ent _ y hl hI.1 hI.2
        exact ⟨y1, y2, t1, t2, g2, r⟩) cnt 0 x2 none none (by omega) ⟨f2, r2⟩
    exact ⟨mj_wI x' 0 35 0, e, i1.w _ rfl, i2.dead⟩
  rw [bX1_table_6, if_pos rfl]
  by_cases hn0 : n = 0
  · rw [if_pos (by rw [hn0]; decide), bX1_table_149, if_pos (by rw [hn0]; decide)]
    exact look _ _
  · have r0 := rd x 0 (zfr.rf _ x) (by omega)
    have rn := rd x (n - 1) (zfr.rf _ x) (by omega)
    rw [if_neg (show ¬ nI n ≤ (0 : Int32) from nI_ge (a := 0) (by omega) (by omega)), n1.resolve_right hn0, nI_nd (by omega), nI_cl (by omega), rn.1, show mj_g (0 : Int32) 4000 = id from funext fun r => rfl, z0, r0.1]
    show ∃ x', rX1_table d (149, _, [.long _], x) = _ ∧ _
    rw [bX1_table_149, if_neg (show ¬ nI n ≤ (0 : Int32) from nI_ge (a := 0) (by omega) (by omega))]
    split
    · exact look _ _
    · exact dens (by omega) _ _
end
