/-! a switch of CodeWriterModel: its table -/
theorem m_dnL {d n cnt : Nat} {I : Nat → mj_X → Prop} {a1 oth a4 a7 a8 : Int32} {a5 : Int64} {key lab : Nat → Int32} {kk : Nat → Nat} {vv : Nat → Int64} (hn0 : 0 < n) (hn : n < 4000) (hv0 : ∀ j, vv (j + 1) = vv j + 1) (hlt : ∀ j, j < cnt → vv j ≤ (key (n - 1)).toInt64) (hend : (key (n - 1)).toInt64 < vv cnt) (hkk : ∀ j, j < cnt → kk j < n) (hk1 : ∀ j, j < cnt → kk (j + 1) = if (key (kk j)).toInt64 = vv j then kk j + 1 else kk j)
    (hR : ∀ j x i, I j x → i < n → mj_g (x.1 75 i) 4000 = id ∧ x.1 3 (x.1 75 i).toNatClampNeg = key i ∧ x.1 74 (x.1 75 i).toNatClampNeg = lab i)
    (hS : ∀ j x, j < cnt → I j x → ∃ x1 x2, kX1 d 50 [.ref 0, .int (if (key (kk j)).toInt64 = vv j then lab (kk j) else oth)] x = some (none, x1) ∧ kX1 d 48 [.ref 0, .int a8, .int (if (key (kk j)).toInt64 = vv j then lab (kk j) else oth), .int 1] x1 = some (none, x2) ∧ I (j + 1) x2) :
    ∀ (m j : Nat) (x : mj_X) (o12 o13 : Option Value), j + m = cnt → I j x → ∃ x', rX1_table d (312, [some (.ref 0), some (.int a1), some (.int (nI n)), some (.int oth), some (.int a4), some (.long a5), none, some (.int a7), some (.int a8), some (.int (nI (kk j))), some (.long (vv j)), none, o12, o13], [], x) = some (none, mj_wI x' 0 35 0) ∧ I cnt x' := by
  have n1 : nI n - (1 : Int32) = nI (n - 1) := nI_sub (b := 1) (by omega)
  intro m
  induction m with
  | zero =>
    intro j x o12 o13 hj h
    have : j = cnt := by omega
    subst this
    obtain ⟨r1, r2, -⟩ := hR j x (n - 1) h (by omega)
    rw [bX1_table_312, n1, nI_nd (by omega), nI_cl (by omega), r1, r2]
    show ∃ x', (if 0 < lg_cmp (vv j) (key (n - 1)).toInt64 then _ else _) = _ ∧ _
    rw [if_pos (by rw [lg_cmp_gt0]; exact hend)]
    exact ⟨x, rfl, h⟩
  | succ m ih =>
    intro j x o12 o13 hj h
    obtain ⟨r1, r2, -⟩ := hR j x (n - 1) h (by omega)
    have hkj := hkk j (by omega)
    obtain ⟨r3, r4, r5⟩ := hR j x (kk j) h hkj
    obtain ⟨x1, x2, e1, e2, h2⟩ := hS j x (by omega) h
    have hk1 := hk1 j (by omega)
    rw [bX1_table_312, n1, nI_nd (by omega), nI_cl (by omega), r1, r2]
    show ∃ x', (if 0 < lg_cmp (vv j) (key (n - 1)).toInt64 then _ else _) = _ ∧ _
    rw [if_neg (by rw [lg_cmp_gt0]; exact Int64.not_lt.mpr (hlt j (by omega))), nI_nd (by omega), nI_cl (by omega), r3, r4]
    show ∃ x', (if lg_cmp (key (kk j)).toInt64 (vv j) = 0 then _ else _) = _ ∧ _
    by_cases q : (key (kk j)).toInt64 = vv j
    · rw [if_pos q] at e1 e2 hk1
      rw [if_pos (by rw [lg_cmp_eq0]; exact q), bX1_table_356, if_neg (by decide), nI_nd (by omega), nI_cl (by omega), r3, r5]
      show ∃ x', rX1_table d (379, _, _, x) = _ ∧ _
      rw [bX1_table_379, e1, mj_rV_k, e2, mj_rV_k, if_neg (by decide), show nI (kk j) + (1 : Int32) = nI (kk j + 1) from nI_add _ 1, ← hk1, ← hv0]
      exact ih (j + 1) x2 _ _ (by omega) h2
    · rw [if_neg q] at e1 e2 hk1
      rw [if_neg (by rw [lg_cmp_eq0]; exact q), bX1_table_356, if_pos rfl, bX1_table_379, e1, mj_rV_k, e2, mj_rV_k, if_pos rfl, show nI (kk j) + (0 : Int32) = nI (kk j) from nI_add _ 0, ← hk1, ← hv0]
      exact ih (j + 1) x2 _ _ (by omega) h2
section
variable {nt : sp_NT} {N M : Nat} {w : Bool} {ba pf rf lf c : Nat} {lm : Nat → Nat} {lv : Nat → Bool} {x : mj_X} {g G : wG}
theorem m_comeM {d m : Nat} (hd : 1 ≤ d) (hm : m < 300000) (h : m1 ba lf c x) : ∃ x', kX1 d 50 [.ref 0, .int (nI m)] x = some (none, x') ∧ zfr (zw ba pf lf) x x' ∧ m1 ba lf c x' := by
  obtain ⟨d, rfl⟩ : ∃ c, d = c + 1 := ⟨d - 1, by omega⟩
  rw [eX1_come, nI_clamp (by omega), mj_g_k (mj_in_nI (by omega) (by omega))]
  exact ⟨_, rfl, (zfr.rf _ x).w _ rfl, h⟩
theorem m_fixM {d : Nat} (hd : 2 ≤ d) (v1 v2 v3 : Int32) (hb : v3 = 0 ∨ v3 = 1) (h : m1 ba lf c x) : ∃ x', kX1 d 48 [.ref 0, .int v1, .int v2, .int v3] x = some (none, x') ∧ zfr (zw ba pf lf) x x' ∧ m1 ba lf c x' := by
  obtain ⟨d, rfl⟩ : ∃ c, d = c + 1 := ⟨d - 1, by omega⟩
  obtain ⟨a1, a2, a3, a4, a5, ⟨n, n1, n2⟩, a7⟩ := h
  rw [eX1_fix, n2]
  by_cases q : n = 30000
  · rw [if_pos (by rw [q]; rfl)]
    exact ⟨_, rfl, (zfr.rf _ x).w _ rfl, ⟨rfl, a2, a3, a4, a5, ⟨n, n1, n2⟩, a7⟩⟩
  · rw [if_neg (show ¬ nI n = (30000 : Int32) from fun e => q ((nI_eq (b := 30000) (by omega) (by omega)).mp e)), mj_g_k (mj_in_nI (by omega) (by omega)), mj_g_k (mj_in_nI (by omega) (by omega)), mj_g_k (mj_in_nI (by omega) (by omega)), mj_gb_z hb, mj_g_k (mj_in_nI (by omega) (by omega)), nI_clamp (by omega), nI_1]
    have h34 : ∀ y : mj_X, y.1 0 34 = 1 → ¬ y.1 0 34 = 0 := fun y e => by rw [e]; decide
    rcases hb with rfl | rfl
    · rw [if_pos rfl, m_opM (x := mj_wI (mj_wI (mj_wI (mj_wI (mj_wI x 52 n (x.1 0 32)) 53 n v1) 54 n v2) 55 n 0) 0 55 (nI (n + 1))) (by omega) (h34 _ a1), mj_rV_k]
      exact ⟨_, rfl, (((((zfr.rf _ x).w _ rfl).w _ rfl).w _ rfl).w _ rfl).w _ rfl, ⟨a1, a2, a3, a4, a5, ⟨n + 1, by omega, rfl⟩, a7⟩⟩
    · rw [if_neg (by decide), m_opM (x := mj_wI (mj_wI (mj_wI (mj_wI (mj_wI x 52 n (x.1 0 32)) 53 n v1) 54 n v2) 55 n 1) 0 55 (nI (n + 1))) (by omega) (h34 _ a1), mj_rV_k]
      exact ⟨_, rfl, (((((zfr.rf _ x).w _ rfl).w _ rfl).w _ rfl).w _ rfl).w _ rfl, ⟨a1, a2, a3, a4, a5, ⟨n + 1, by omega, rfl⟩, a7⟩⟩
end
/-! the numbers of a dense table: which case is next -/
def w_kk (key : Nat → Int32) (low : Int) : Nat → Nat
  | 0 => 0
  | j + 1 => if (key (w_kk key low j)).toInt = low + j then w_kk key low j + 1 else w_kk key low j
/-- with keys in strict order: the next case is the first that is not behind -/
theorem w_kk_inv {key : Nat → Int32} {n : Nat} (hn : 0 < n) (hs : ∀ i j, i < j → j < n → (key i).toInt < (key j).toInt) : ∀ j : Nat, (key 0).toInt + j ≤ (key (n - 1)).toInt + 1 → w_kk key (key 0).toInt j ≤ n ∧ (∀ i, i < w_kk key (key 0).toInt j → (key i).toInt < (key 0).toInt + j) ∧ (∀ i, w_kk key (key 0).toInt j ≤ i → i < n → (key 0).toInt + j ≤ (key i).toInt) := by
  intro j
  induction j with
  | zero =>
    intro _
    refine ⟨Nat.zero_le _, fun i hi => absurd hi (Nat.not_lt_zero _), fun i _ hi => ?_⟩
    by_cases q : i = 0
    · subst q; simp
    · have := hs 0 i (by omega) hi
      simp; omega
  | succ j ih =>
    intro hj
    obtain ⟨i1, i2, i3⟩ := ih (by push_cast at hj ⊢; omega)
    have hlt : w_kk key (key 0).toInt j < n := by
      by_cases q : w_kk key (key 0).toInt j < n
      · exact q
      · have e : w_kk key (key 0).toInt j = n := by omega
        have := i2 (n - 1) (by omega)
        push_cast at hj; omega
    have h0 := i3 _ (Nat.le_refl _) hlt
    show (if (key (w_kk key (key 0).toInt j)).toInt = (key 0).toInt + j then w_kk key (key 0).toInt j + 1 else w_kk key (key 0).toInt j) ≤ n ∧ _
    by_cases q : (key (w_kk key (key 0).toInt j)).toInt = (key 0).toInt + j
    · have e : w_kk key (key 0).toInt (j + 1) = w_kk key (key 0).toInt j + 1 := by show (if _ then _ else _) = _; rw [if_pos q]
      rw [if_pos q, e]
      refine ⟨by omega, fun i hi => ?_, fun i h1 h2 => ?_⟩
      · by_cases p : i = w_kk key (key 0).toInt j
        · rw [p, q]; push_cast; omega
        · have := i2 i (by omega); push_cast; omega
      · have := hs _ i (show w_kk key (key 0).toInt j < i by omega) h2
        push_cast; omega
    · have e : w_kk key (key 0).toInt (j + 1) = w_kk key (key 0).toInt j := by show (if _ then _ else _) = _; rw [if_neg q]
      rw [if_neg q, e]
      refine ⟨i1, fun i hi => ?_, fun i h1 h2 => ?_⟩
      · have := i2 i hi; push_cast; omega
      · by_cases p : i = w_kk key (key 0).toInt j
        · rw [p]; push_cast; omega
        · have := hs _ i (show w_kk key (key 0).toInt j < i by omega) h2
          push_cast; omega
