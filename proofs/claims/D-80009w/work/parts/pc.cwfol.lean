/-! CodeWriter: following a place -/
section
variable {nt : sp_NT} {N M cf p pf m : Nat} {res par : Nat → Int32} {B : List Int32} {x : mj_X} {v a : Int32}
/-- a call that throws, or tells a code, changes nothing -/
theorem k_call0 {d s i : Nat} {b : Int64} {po : List (Nat × Int64)} (hs : s ≠ 5) (hs2 : s < 100) (hm : m ≤ 40) (h17 : x.1 17 m = nI pf) (hpf : pf ≤ 7000) (hpo : po.length ≤ 100) (h : y_po pf x po) (hi : w_pf s b po = some i) :
    kX0 (d + 2) 107 [.ref 0, .int (nI m), .int (nI i)] x = some (some (.int (0 : Int32)), x) := by
  obtain ⟨k, k1, k2, k3, k4⟩ := k_poolAt (d := d) hm h17 hpf hpo h hi
  rw [eX0_callChange, k1, mj_rI_k, mj_g_k (mj_in_nI (by omega) (by decide)), nI_clamp (by omega), k3, if_neg (fun q => by
    have := congrArg Int32.toInt q
    rw [nI_toInt (by omega)] at this
    have e5 : (5 : Int32).toInt = 5 := rfl
    omega)]
/-- a call changes what its entry says -/
theorem k_chg15 {d i : Nat} (h : cB cf B x) (h0 : B[p]? = some (o8 (nI 184))) (h1 : B[p + 1]? = some (o8 (nI i >>> 8))) (h2 : B[p + 2]? = some (o8 (nI i))) (hi : i < 65536) {c : Int32} (hc : kX0 (d + 1) 107 [.ref 0, .int (nI m), .int (nI i)] x = some (some (.int c), x)) (hu : 1 ≤ d) : kX0 (d + 2) 102 [.ref 0, .int (nI m), .int (nI (cf + p))] x = some (some (.int c), x) := by
  obtain ⟨d, rfl⟩ : ∃ e, d = e + 1 := ⟨d - 1, by omega⟩
  rw [eX0_changeOf, k_u1 h h0, mj_rI_k, d_u1 (by decide), if_neg (by decide), bX0_changeOf_21, if_pos (by decide), if_pos (by decide), if_pos (by decide), if_pos (by decide), if_pos (by decide), if_pos (by decide), if_pos (by decide), if_pos (by decide), if_pos (by decide), if_pos (by decide), if_pos (by decide), if_pos (by decide), if_pos (by decide)]
  rw [show nI (cf + p) + 1 = nI (cf + (p + 1)) from nI_add (cf + p) 1, k_u2 h h1 h2, mj_rI_k, d_u16 hi, hc, mj_rI_k]
theorem cOK.un {c len : Nat} {tm : Bool} (h : cOK c len tm = true) : c < 256 ∧ c ≠ 196 ∧ c ≠ 184 ∧ c ≠ 170 ∧ c ≠ 171 ∧ c ≠ 200 ∧ ¬ (153 ≤ c ∧ c ≤ 167) ∧ leF (nI c) = nI len ∧ (((172 ≤ c ∧ c ≤ 177) ∨ c = 191) ↔ tm = true) := by
  unfold cOK at h
  simp only [Bool.and_eq_true, decide_eq_true_eq, Bool.not_eq_true', beq_iff_eq] at h
  obtain ⟨h1, h2, h3, h4, h5, h6, h7, h8, h9⟩ := h
  have nb : ∀ {a b : Nat}, Nat.beq a b = false → a ≠ b := fun {a b} q e => by rw [e, Nat.beq_refl] at q; cases q
  refine ⟨h1, nb h2, nb h3, nb h4, nb h5, nb h6, fun q => ?_, h8, ?_⟩
  · rw [Nat.ble_eq.mpr q.1, Nat.ble_eq.mpr q.2] at h7; cases h7
  · rw [← h9, Bool.or_eq_true, Bool.and_eq_true, Nat.ble_eq, Nat.ble_eq]
    exact ⟨fun q => q.imp id (fun e => by rw [e]; rfl), fun q => q.imp id (fun e => Nat.eq_of_beq_eq_true e)⟩
theorem nI_nq {c k : Nat} (hc : c < 256) (hk : k < 256) (h : c ≠ k) : ¬ nI c = nI k := fun q => h (b_inj (by omega) (by omega) q)
theorem sp_i_n {c a b : Nat} (hc : c < 256) (ha : a < 256) (hb : b < 256) : sp_i (nI c) (nI a) (nI b) = true ↔ a ≤ c ∧ c ≤ b := by
  unfold sp_i
  rw [Bool.and_eq_true, decide_eq_true_eq, decide_eq_true_eq, Int32.le_iff_toInt_le, Int32.le_iff_toInt_le, nI_toInt (by omega), nI_toInt (by omega), nI_toInt (by omega)]
  omega
/-- an item that is no jump and goes on: its change is told, the next place is reached -/
theorem k_f256 {d e c len : Nat} {s : bS} {a4 a5 : Int32} (h : cB cf B (b_x x s)) (hv : B[p]? = some v) (hl : kX0 (d + 3) 110 [.ref 0, .int (nI (cf + p))] (b_x x s) = some (some (.int (nI len)), b_x x s)) (hc : c < 256) (h4 : a4 = nI c) (n167 : c ≠ 167) (n191 : c ≠ 191) (n172 : ¬ (172 ≤ c ∧ c ≤ 177)) (h5 : a5 = nI e) (hp : p + len < 65551) (hn : s.2.2.1 < 65551) (he : e < 100000) (hm : s.2.2.2 < 100000) :
    rX0_follow (d + 3) (256, [some (.ref 0), some (.int (nI m)), some (.int (nI cf)), some (.int (nI p)), some (.int a4), some (.int a5), none, none, none], [], b_x x s) = some (none, b_x x (b_rc s (p + len, e))) := by
  have i2 : sp_in a4.toInt64 172 177 = false := by
    rw [show sp_in a4.toInt64 172 177 = sp_i a4 172 177 from sp_in_i a4 172 177, h4]
    cases q : sp_i (nI c) 172 177
    · rfl
    · exact absurd ((sp_i_n (a := 172) (b := 177) hc (by decide) (by decide)).mp q) n172
  rw [bX0_follow_256, h4, if_neg (show ¬ nI c = (167 : Int32) from nI_nq hc (by decide) n167), ← h4, sX0_isIn (by omega), mj_rI_k, i2, if_pos (by rfl), h4, if_neg (show ¬ nI c = (191 : Int32) from nI_nq hc (by decide) n191), nI_add, hl, mj_rI_k, nI_add, h5, k_reach hp hn he hm, mj_rV_k]
/-- a simple code that goes on -/
theorem k_fol1 {d e c len : Nat} {s : bS} {dl : Int32} {e' : Nat} (h : cB cf B (b_x x s)) (hv : B[p]? = some (o8 (nI c))) (hk : cOK c len false = true) (hc : chF (nI c) = dl) (he0 : s.1 p = nI e) (hed : nI e + dl = nI e') (hp : p + len < 65551) (hn : s.2.2.1 < 65551) (he : e' < 100000) (hm : s.2.2.2 < 100000) :
    kX0 (d + 4) 100 [.ref 0, .int (nI m), .int (nI cf), .int (nI p)] (b_x x s) = some (none, b_x x (b_rc s (p + len, e'))) := by
  obtain ⟨k1, k2, k3, k4, k5, k6, k7, k8, k9⟩ := cOK.un hk
  have kn : ¬ ((172 ≤ c ∧ c ≤ 177) ∨ c = 191) := fun q => absurd (k9.mp q) (by decide)
  have i1 : sp_in (nI c).toInt64 153 167 = false := by
    rw [show sp_in (nI c).toInt64 153 167 = sp_i (nI c) 153 167 from sp_in_i (nI c) 153 167]
    cases q : sp_i (nI c) 153 167
    · rfl
    · exact absurd ((sp_i_n (a := 153) (b := 167) k1 (by decide) (by decide)).mp q) k7
  have n196 : ¬ nI c = (196 : Int32) := nI_nq k1 (by decide) k2
  have n184 : ¬ nI c = (184 : Int32) := nI_nq k1 (by decide) k3
  have hl : kX0 (d + 3) 110 [.ref 0, .int (nI (cf + p))] (b_x x s) = some (some (.int (nI len)), b_x x s) := by
    rw [k_len h hv (d_u1 k1) n196, k8]
  rw [eX0_follow, nI_add, k_u1 h hv, mj_rI_k, d_u1 k1, mj_g_k (mj_in_nI (by omega) (by decide)), k_chg (nI m) h hv (d_u1 k1) n196 n184, mj_rI_k, if_neg (show ¬ nI c = (170 : Int32) from nI_nq k1 (by decide) k4), if_neg (show ¬ nI c = (171 : Int32) from nI_nq k1 (by decide) k5), if_neg (show ¬ nI c = (200 : Int32) from nI_nq k1 (by decide) k6), sX0_isIn (by omega), mj_rI_k, i1, if_pos (by rfl)]
  refine k_f256 h hv hl k1 rfl (fun q => k7 (by omega)) (fun q => kn (Or.inr q)) (fun q => kn (Or.inl q)) ?_ hp hn he hm
  rw [nI_clamp (by omega), b_x68, he0, hc, hed]
/-- a code that ends -/
theorem k_fol0 {d c len : Nat} {s : bS} (h : cB cf B (b_x x s)) (hv : B[p]? = some (o8 (nI c))) (hk : cOK c len true = true) (hp : p < 65551) :
    kX0 (d + 4) 100 [.ref 0, .int (nI m), .int (nI cf), .int (nI p)] (b_x x s) = some (none, b_x x s) := by
  obtain ⟨k1, k2, k3, k4, k5, k6, k7, k8, k9⟩ := cOK.un hk
  have i1 : sp_in (nI c).toInt64 153 167 = false := by
    rw [show sp_in (nI c).toInt64 153 167 = sp_i (nI c) 153 167 from sp_in_i (nI c) 153 167]
    cases q : sp_i (nI c) 153 167
    · rfl
    · exact absurd ((sp_i_n (a := 153) (b := 167) k1 (by decide) (by decide)).mp q) k7
  have n196 : ¬ nI c = (196 : Int32) := nI_nq k1 (by decide) k2
  have n184 : ¬ nI c = (184 : Int32) := nI_nq k1 (by decide) k3
  rw [eX0_follow, nI_add, k_u1 h hv, mj_rI_k, d_u1 k1, mj_g_k (mj_in_nI (by omega) (by decide)), k_chg (nI m) h hv (d_u1 k1) n196 n184, mj_rI_k, if_neg (show ¬ nI c = (170 : Int32) from nI_nq k1 (by decide) k4), if_neg (show ¬ nI c = (171 : Int32) from nI_nq k1 (by decide) k5), if_neg (show ¬ nI c = (200 : Int32) from nI_nq k1 (by decide) k6), sX0_isIn (by omega), mj_rI_k, i1, if_pos (by rfl), bX0_follow_256, if_neg (show ¬ nI c = (167 : Int32) from nI_nq k1 (by decide) (show c ≠ 167 from fun q => k7 (by omega))), sX0_isIn (by omega), mj_rI_k]
  rw [show sp_in (nI c).toInt64 172 177 = sp_i (nI c) 172 177 from sp_in_i (nI c) 172 177]
  rcases k9.mpr rfl with q | q
  · rw [show sp_i (nI c) 172 177 = true from (sp_i_n (a := 172) (b := 177) k1 (by decide) (by decide)).mpr q, if_neg (by decide)]
  · subst q
    rw [if_pos (by rfl), if_pos (by rfl)]
/-- a wide code -/
theorem k_fol4 {d e c len : Nat} {s : bS} {dl : Int32} {e' : Nat} (h : cB cf B (b_x x s)) (hv : B[p]? = some (o8 (nI 196))) (hv1 : B[p + 1]? = some (o8 (nI c))) (hk : cWd c len = true) (hc : chF (nI c) = dl) (he0 : s.1 p = nI e) (hed : nI e + dl = nI e') (hp : p + len < 65551) (hn : s.2.2.1 < 65551) (he : e' < 100000) (hm : s.2.2.2 < 100000) :
    kX0 (d + 4) 100 [.ref 0, .int (nI m), .int (nI cf), .int (nI p)] (b_x x s) = some (none, b_x x (b_rc s (p + len, e'))) := by
  unfold cWd at hk
  simp only [Bool.and_eq_true, decide_eq_true_eq, Bool.not_eq_true'] at hk
  obtain ⟨k1, k2, k3⟩ := hk
  have k2 : c ≠ 184 := fun q => by rw [q] at k2; cases k2
  have k3 := Nat.eq_of_beq_eq_true k3
  have u : o8 (nI 196) &&& 255 = nI 196 := d_u1 (by decide)
  have u1 : o8 (nI c) &&& 255 = nI c := d_u1 k1
  have i1 : sp_in (nI 196).toInt64 153 167 = false := by decide
  have hl : kX0 (d + 3) 110 [.ref 0, .int (nI (cf + p))] (b_x x s) = some (some (.int (nI len)), b_x x s) := by
    rw [k_len4 h hv u hv1, u1, k3]
    by_cases q : c = 132
    · rw [if_pos q, if_pos (show nI c = (132 : Int32) by rw [q]; rfl)]; rfl
    · rw [if_neg q, if_neg (show ¬ nI c = (132 : Int32) from nI_nq k1 (by decide) q)]; rfl
  have lenp : len = 6 ∨ len = 4 := by rw [k3]; split <;> simp
  rw [eX0_follow, nI_add, k_u1 h hv, mj_rI_k, u, mj_g_k (mj_in_nI (by omega) (by decide)), k_chg4 (nI m) h hv u hv1 (by rw [u1]; exact nI_nq k1 (by decide) k2), mj_rI_k, u1, if_neg (by decide), if_neg (by decide), if_neg (by decide), sX0_isIn (by omega), mj_rI_k, i1, if_pos (by rfl)]
  refine k_f256 (c := 196) h hv hl (by decide) rfl (by decide) (by decide) (by decide) ?_ hp hn he hm
  rw [nI_clamp (by omega), b_x68, he0, hc, hed]
/-- a call -/
theorem k_fol15 {d e i : Nat} {s : bS} {dl : Int32} {e' : Nat} (h : cB cf B (b_x x s)) (hv : B[p]? = some (o8 (nI 184))) (h1 : B[p + 1]? = some (o8 (nI i >>> 8))) (h2 : B[p + 2]? = some (o8 (nI i))) (hi : i < 65536) (hc : kX0 (d + 2) 107 [.ref 0, .int (nI m), .int (nI i)] (b_x x s) = some (some (.int dl), b_x x s)) (he0 : s.1 p = nI e) (hed : nI e + dl = nI e') (hp : p + 3 < 65551) (hn : s.2.2.1 < 65551) (he : e' < 100000) (hm : s.2.2.2 < 100000) :
    kX0 (d + 4) 100 [.ref 0, .int (nI m), .int (nI cf), .int (nI p)] (b_x x s) = some (none, b_x x (b_rc s (p + 3, e'))) := by
  have u : o8 (nI 184) &&& 255 = nI 184 := d_u1 (by decide)
  have i1 : sp_in (nI 184).toInt64 153 167 = false := by decide
  have hl : kX0 (d + 3) 110 [.ref 0, .int (nI (cf + p))] (b_x x s) = some (some (.int (nI 3)), b_x x s) := by
    rw [k_len h hv u (by decide)]
    have : leF (nI 184) = nI 3 := by decide
    rw [this]
  rw [eX0_follow, nI_add, k_u1 h hv, mj_rI_k, u, mj_g_k (mj_in_nI (by omega) (by decide)), k_chg15 (d := d + 1) h hv h1 h2 hi hc (by omega), mj_rI_k, if_neg (by decide), if_neg (by decide), if_neg (by decide), sX0_isIn (by omega), mj_rI_k, i1, if_pos (by rfl)]
  refine k_f256 (c := 184) h hv hl (by decide) rfl (by decide) (by decide) (by decide) ?_ hp hn he hm
  rw [nI_clamp (by omega), b_x68, he0, hed]
/-- goto, near -/
theorem k_folG {d e t : Nat} {s : bS} {u : Int32} (h : cB cf B (b_x x s)) (hv : B[p]? = some (o8 (nI 167))) (h1 : B[p + 1]? = some (o8 (u >>> 8))) (h2 : B[p + 2]? = some (o8 u)) (hu0 : -32768 ≤ u.toInt) (hu1 : u.toInt ≤ 32767) (hu : nI p + u = nI t) (he0 : s.1 p = nI e) (hp : p < 65551) (ht : t < 65551) (hn : s.2.2.1 < 65551) (he : e < 100000) (hm : s.2.2.2 < 100000) :
    kX0 (d + 4) 100 [.ref 0, .int (nI m), .int (nI cf), .int (nI p)] (b_x x s) = some (none, b_x x (b_rc s (t, e))) := by
  have w : o8 (nI 167) &&& 255 = nI 167 := d_u1 (by decide)
  have i1 : sp_in (nI 167).toInt64 153 167 = true := by decide
  have c0 : chF (nI 167) = 0 := by decide
  rw [eX0_follow, nI_add, k_u1 h hv, mj_rI_k, w, mj_g_k (mj_in_nI (by omega) (by decide)), k_chg (nI m) h hv w (by decide) (by decide), mj_rI_k, if_neg (by decide), if_neg (by decide), if_neg (by decide), sX0_isIn (by omega), mj_rI_k, i1, if_neg (by decide), show nI (cf + p) + 1 = nI (cf + (p + 1)) from nI_add (cf + p) 1, k_s2 h h1 h2, mj_rI_k, d_16 hu0 hu1, hu, nI_clamp (by omega), b_x68, he0, c0, Int32.add_zero, k_reach ht hn he hm, mj_rV_k, bX0_follow_256, if_pos (by rfl)]
/-- goto, far -/
theorem k_folW {d e t : Nat} {s : bS} {u : Int32} (h : cB cf B (b_x x s)) (hv : B[p]? = some (o8 (nI 200))) (h1 : B[p + 1]? = some (o8 (u >>> 24))) (h2 : B[p + 2]? = some (o8 (u >>> 16))) (h3 : B[p + 3]? = some (o8 (u >>> 8))) (h4 : B[p + 4]? = some (o8 u)) (hu : nI p + u = nI t) (he0 : s.1 p = nI e) (hp : p < 65551) (ht : t < 65551) (hn : s.2.2.1 < 65551) (he : e < 100000) (hm : s.2.2.2 < 100000) :
    kX0 (d + 4) 100 [.ref 0, .int (nI m), .int (nI cf), .int (nI p)] (b_x x s) = some (none, b_x x (b_rc s (t, e))) := by
  have w : o8 (nI 200) &&& 255 = nI 200 := d_u1 (by decide)
  have c0 : chF (nI 200) = 0 := by decide
  rw [eX0_follow, nI_add, k_u1 h hv, mj_rI_k, w, mj_g_k (mj_in_nI (by omega) (by decide)), k_chg (nI m) h hv w (by decide) (by decide), mj_rI_k, if_neg (by decide), if_neg (by decide), if_pos (by rfl), show nI (cf + p) + 1 = nI (cf + (p + 1)) from nI_add (cf + p) 1, k_s4 h h1 h2 h3 h4, mj_rI_k, hu, nI_clamp (by omega), b_x68, he0, c0, Int32.add_zero, k_reach ht hn he hm, mj_rV_k]
theorem cB_x {s s' : bS} (h : cB cf B (b_x x s)) : cB cf B (b_x x s') := by
  unfold cB at h ⊢
  rw [b_xk x s (by decide) (by decide) (by decide)] at h
  rw [b_xk x s' (by decide) (by decide) (by decide)]; exact h
theorem b_rc_le (s : bS) (q : Nat × Nat) : (b_rc s q).2.2.1 ≤ s.2.2.1 + 1 ∧ (b_rc s q).2.2.2 = max s.2.2.2 q.2 := by
  unfold b_rc
  split
  · exact ⟨Nat.le_refl _, rfl⟩
  · exact ⟨Nat.le_succ _, rfl⟩
/-- a jump with a condition, near: its target, then the next place -/
theorem k_folB {d e e' t c : Nat} {s : bS} {u : Int32} (hc : 153 ≤ c) (hc2 : c ≤ 166) (h : cB cf B (b_x x s)) (hv : B[p]? = some (o8 (nI c))) (h1 : B[p + 1]? = some (o8 (u >>> 8))) (h2 : B[p + 2]? = some (o8 u)) (hu0 : -32768 ≤ u.toInt) (hu1 : u.toInt ≤ 32767) (hu : nI p + u = nI t) (he0 : s.1 p = nI e) (hed : nI e + chF (nI c) = nI e') (hp : p + 3 < 65551) (ht : t < 65551) (hn : s.2.2.1 + 1 < 65551) (he : e' < 100000) (hm : s.2.2.2 < 100000) :
    kX0 (d + 4) 100 [.ref 0, .int (nI m), .int (nI cf), .int (nI p)] (b_x x s) = some (none, b_x x (b_rc (b_rc s (t, e')) (p + 3, e'))) := by
  have k1 : c < 256 := by omega
  have w : o8 (nI c) &&& 255 = nI c := d_u1 k1
  have i1 : sp_in (nI c).toInt64 153 167 = true := by
    rw [show sp_in (nI c).toInt64 153 167 = sp_i (nI c) 153 167 from sp_in_i (nI c) 153 167]
    exact (sp_i_n (a := 153) (b := 167) k1 (by decide) (by decide)).mpr ⟨hc, by omega⟩
  have n196 : ¬ nI c = (196 : Int32) := nI_nq k1 (by decide) (show c ≠ 196 by omega)
  have n184 : ¬ nI c = (184 : Int32) := nI_nq k1 (by decide) (show c ≠ 184 by omega)
  have l3 : ∀ k, k < 14 → leF (nI (153 + k)) = nI 3 := by decide
  have hl : kX0 (d + 3) 110 [.ref 0, .int (nI (cf + p))] (b_x x (b_rc s (t, e'))) = some (some (.int (nI 3)), b_x x (b_rc s (t, e'))) := by
    rw [k_len (cB_x h) hv w n196, show c = 153 + (c - 153) by omega, l3 (c - 153) (by omega)]
  obtain ⟨b1, b2⟩ := b_rc_le s (t, e')
  rw [eX0_follow, nI_add, k_u1 h hv, mj_rI_k, w, mj_g_k (mj_in_nI (by omega) (by decide)), k_chg (nI m) h hv w n196 n184, mj_rI_k, if_neg (show ¬ nI c = (170 : Int32) from nI_nq k1 (by decide) (show c ≠ 170 by omega)), if_neg (show ¬ nI c = (171 : Int32) from nI_nq k1 (by decide) (show c ≠ 171 by omega)), if_neg (show ¬ nI c = (200 : Int32) from nI_nq k1 (by decide) (show c ≠ 200 by omega)), sX0_isIn (by omega), mj_rI_k, i1, if_neg (by decide), show nI (cf + p) + 1 = nI (cf + (p + 1)) from nI_add (cf + p) 1, k_s2 h h1 h2, mj_rI_k, d_16 hu0 hu1, hu, nI_clamp (by omega), b_x68, he0, hed, k_reach ht (by omega) he hm, mj_rV_k]
  exact k_f256 (cB_x h) hv hl k1 rfl (by omega) (by omega) (by omega) rfl hp (by omega) he (by rw [b2]; show max _ e' < _; omega)
end
