/-! leaving: breaks, continues and returns that fit -/
def sp_lb (nt : sp_NT) (res : Int32) (rec : Int32 → Nat → Nat → Bool) (k a b : Int32) (lo wa : Nat) : Bool :=
  if k = 62 ∨ k = 66 ∨ k = 79 ∨ k = 75 then rec a lo wa && rec b lo wa
  else if k = 63 then rec a lo wa
  else if k = 64 ∨ k = 65 ∨ k = 80 ∨ k = 85 ∨ k = 77 ∨ k = 78 ∨ k = 83 ∨ k = 84 then rec b lo wa
  else if k = 67 ∨ k = 70 then rec b (lo + 1) (wa + 1)
  else if k = 68 then rec a (lo + 1) (wa + 1)
  else if k = 69 then rec (nt 2 a.toNatClampNeg) lo wa && rec b (lo + 1) (wa + 1)
  else if k = 71 then decide (a < nI wa)
  else if k = 72 then decide (a < nI lo)
  else if k = 73 then decide (res = if a = -1 then 0 else nt 3 a.toNatClampNeg)
  else if k = 76 ∨ k = 82 then rec a lo wa && (decide (b = -1) || rec b lo wa)
  else if k = 81 then rec b lo (wa + 1)
  else true
def sp_lf (nt : sp_NT) (res : Int32) : Nat → Int32 → Nat → Nat → Bool
  | 0, _, _, _ => true
  | f + 1, n, lo, wa => sp_lb nt res (sp_lf nt res f) (nt 0 n.toNatClampNeg) (nt 1 n.toNatClampNeg) (nt 2 n.toNatClampNeg) lo wa
theorem sp_lf_s (nt : sp_NT) (res : Int32) (f : Nat) (n : Int32) (lo wa : Nat) : sp_lf nt res (f + 1) n lo wa = sp_lb nt res (sp_lf nt res f) (nt 0 n.toNatClampNeg) (nt 1 n.toNatClampNeg) (nt 2 n.toNatClampNeg) lo wa := rfl
theorem sp_WF.ga {nt : sp_NT} {N M : Nat} {res par : Nat → Int32} (h : sp_WF nt N M res par) (hN : N ≤ 4000) {n : Int32} (hn : sp_nd N n = true) (hk : sp_hA (nt 0 n.toNatClampNeg) = true) (ha : sp_nd n.toNatClampNeg (nt 1 n.toNatClampNeg) = true) : sp_nd N (nt 1 n.toNatClampNeg) = true ∧ (nt 4 (nt 1 n.toNatClampNeg).toNatClampNeg).toInt < (nt 4 n.toNatClampNeg).toInt := by
  have hi := sp_nd_lt hN hn
  have q4 : sp_pa (nt 0 n.toNatClampNeg) (nt 1 n.toNatClampNeg) = true := by unfold sp_pa; rw [hk]; simp [sp_nd_n1 ha]
  exact ⟨sp_nd_mono (Nat.le_of_lt hi) hN ha, (h.da hN hi).1 q4⟩
theorem sp_WF.gb {nt : sp_NT} {N M : Nat} {res par : Nat → Int32} (h : sp_WF nt N M res par) (hN : N ≤ 4000) {n : Int32} (hn : sp_nd N n = true) (hk : sp_hB (nt 0 n.toNatClampNeg) = true) (hb : sp_nd n.toNatClampNeg (nt 2 n.toNatClampNeg) = true) : sp_nd N (nt 2 n.toNatClampNeg) = true ∧ (nt 4 (nt 2 n.toNatClampNeg).toNatClampNeg).toInt < (nt 4 n.toNatClampNeg).toInt := by
  have hi := sp_nd_lt hN hn
  have q4 : sp_pb (nt 0 n.toNatClampNeg) (nt 2 n.toNatClampNeg) = true := by unfold sp_pb; rw [hk]; simp [sp_nd_n1 hb]
  exact ⟨sp_nd_mono (Nat.le_of_lt hi) hN hb, (h.da hN hi).2 q4⟩
theorem mj_2and {r : mj_R} {x : mj_X} (b1 b2 : Bool) (h : b1 = true → r = some (some (.int (sp_b b2)), x)) : (mj_rI (some (some (.int (sp_b b1)), x)) fun v2 x1 => if v2 = 0 then some (some (.int (0 : Int32)), x1) else mj_rI r fun v4 x3 => if v4 = 0 then some (some (.int (0 : Int32)), x3) else some (some (.int (1 : Int32)), x3)) = some (some (.int (sp_b (b1 && b2))), x) := by
  rw [mj_rI_k, sp_ib]
  cases b1
  · rfl
  · rw [if_neg (by decide), h rfl, mj_rI_k, sp_ib]; cases b2 <;> rfl
theorem mj_1b (b : Bool) (x : mj_X) : (mj_rI (some (some (.int (sp_b b)), x)) fun v2 x1 => mj_gb v2 (some (some (.int v2), x1))) = some (some (.int (sp_b b)), x) := by
  rw [mj_rI_k, mj_gb_b]
theorem cw_l62 {x : mj_X} {nt : sp_NT} {N M f d : Nat} {res : Int32} {rs par : Nat → Int32} (hx : cw_T x nt N) (hF : sp_WF nt N M rs par) (hM : M ≤ 40) {n : Int32} (hn : sp_nd N n = true) {lo wa : Nat} (hl : lo < 10000) (hwa : wa < 10000)
    (ih : ∀ (c : Int32) (lo2 wa2 : Nat), sp_nd N c = true → (nt 4 c.toNatClampNeg).toInt < (nt 4 n.toNatClampNeg).toInt → lo2 ≤ lo + 1 → wa2 ≤ wa + 1 → kX0 d 31 [.ref 0, .int c, .int (nI lo2), .int (nI wa2), .int res] x = some (some (.int (sp_b (sp_lf nt res f c lo2 wa2))), x)) (e : nt 0 n.toNatClampNeg = 62) : kX0 (d + 1) 31 [.ref 0, .int n, .int (nI lo), .int (nI wa), .int res] x = some (some (.int (sp_b (sp_lf nt res (f + 1) n lo wa))), x) := by
  have hN := hx.2.1
  have hi := sp_nd_lt hN hn
  have hg := fun r => mj_g_k (sp_nd_in hN hn (Nat.le_refl _)) r
  obtain ⟨⟨k1, -⟩, k3, -⟩ := sp_k62 (hF.1 _ hi) (hF.ty hM hN _ (Nat.le_of_lt hi)) e
  have eg : sp_lf nt res (f + 1) n lo wa = (sp_lf nt res f (nt 1 n.toNatClampNeg) lo wa && sp_lf nt res f (nt 2 n.toNatClampNeg) lo wa) := by
    rw [sp_lf_s, e]; rfl
  rw [wX0_isLeft_0_62 d n (nI lo) (nI wa) res x (by rw [hx.2.2.1]; exact e), hg, hg, hg, hx.2.2.2.1, hx.2.2.2.2.1, bX0_isLeft_132, eg]
  rw [ih _ lo wa (hF.ga hN hn (by rw [e]; rfl) k1).1 (hF.ga hN hn (by rw [e]; rfl) k1).2 (by omega) (by omega)]
  exact mj_2and _ _ fun _ => ih _ lo wa (hF.gb hN hn (by rw [e]; rfl) k3).1 (hF.gb hN hn (by rw [e]; rfl) k3).2 (by omega) (by omega)
theorem cw_l66 {x : mj_X} {nt : sp_NT} {N M f d : Nat} {res : Int32} {rs par : Nat → Int32} (hx : cw_T x nt N) (hF : sp_WF nt N M rs par) (hM : M ≤ 40) {n : Int32} (hn : sp_nd N n = true) {lo wa : Nat} (hl : lo < 10000) (hwa : wa < 10000)
    (ih : ∀ (c : Int32) (lo2 wa2 : Nat), sp_nd N c = true → (nt 4 c.toNatClampNeg).toInt < (nt 4 n.toNatClampNeg).toInt → lo2 ≤ lo + 1 → wa2 ≤ wa + 1 → kX0 d 31 [.ref 0, .int c, .int (nI lo2), .int (nI wa2), .int res] x = some (some (.int (sp_b (sp_lf nt res f c lo2 wa2))), x)) (e : nt 0 n.toNatClampNeg = 66) : kX0 (d + 1) 31 [.ref 0, .int n, .int (nI lo), .int (nI wa), .int res] x = some (some (.int (sp_b (sp_lf nt res (f + 1) n lo wa))), x) := by
  have hN := hx.2.1
  have hi := sp_nd_lt hN hn
  have hg := fun r => mj_g_k (sp_nd_in hN hn (Nat.le_refl _)) r
  obtain ⟨⟨k1, -⟩, k3, -⟩ := sp_k66 (hF.1 _ hi) (hF.ty hM hN _ (Nat.le_of_lt hi)) e
  have eg : sp_lf nt res (f + 1) n lo wa = (sp_lf nt res f (nt 1 n.toNatClampNeg) lo wa && sp_lf nt res f (nt 2 n.toNatClampNeg) lo wa) := by
    rw [sp_lf_s, e]; rfl
  rw [wX0_isLeft_0_66 d n (nI lo) (nI wa) res x (by rw [hx.2.2.1]; exact e), hg, hg, hg, hx.2.2.2.1, hx.2.2.2.2.1, bX0_isLeft_132, eg]
  rw [ih _ lo wa (hF.ga hN hn (by rw [e]; rfl) k1).1 (hF.ga hN hn (by rw [e]; rfl) k1).2 (by omega) (by omega)]
  exact mj_2and _ _ fun _ => ih _ lo wa (hF.gb hN hn (by rw [e]; rfl) k3).1 (hF.gb hN hn (by rw [e]; rfl) k3).2 (by omega) (by omega)
theorem cw_l79 {x : mj_X} {nt : sp_NT} {N M f d : Nat} {res : Int32} {rs par : Nat → Int32} (hx : cw_T x nt N) (hF : sp_WF nt N M rs par) (hM : M ≤ 40) {n : Int32} (hn : sp_nd N n = true) {lo wa : Nat} (hl : lo < 10000) (hwa : wa < 10000)
    (ih : ∀ (c : Int32) (lo2 wa2 : Nat), sp_nd N c = true → (nt 4 c.toNatClampNeg).toInt < (nt 4 n.toNatClampNeg).toInt → lo2 ≤ lo + 1 → wa2 ≤ wa + 1 → kX0 d 31 [.ref 0, .int c, .int (nI lo2), .int (nI wa2), .int res] x = some (some (.int (sp_b (sp_lf nt res f c lo2 wa2))), x)) (e : nt 0 n.toNatClampNeg = 79) : kX0 (d + 1) 31 [.ref 0, .int n, .int (nI lo), .int (nI wa), .int res] x = some (some (.int (sp_b (sp_lf nt res (f + 1) n lo wa))), x) := by
  have hN := hx.2.1
  have hi := sp_nd_lt hN hn
  have hg := fun r => mj_g_k (sp_nd_in hN hn (Nat.le_refl _)) r
  obtain ⟨⟨k1, -⟩, k3, -⟩ := sp_k79 (hF.1 _ hi) (hF.ty hM hN _ (Nat.le_of_lt hi)) e
  have eg : sp_lf nt res (f + 1) n lo wa = (sp_lf nt res f (nt 1 n.toNatClampNeg) lo wa && sp_lf nt res f (nt 2 n.toNatClampNeg) lo wa) := by
    rw [sp_lf_s, e]; rfl
  rw [wX0_isLeft_0_79 d n (nI lo) (nI wa) res x (by rw [hx.2.2.1]; exact e), hg, hg, hg, hx.2.2.2.1, hx.2.2.2.2.1, bX0_isLeft_132, eg]
  rw [ih _ lo wa (hF.ga hN hn (by rw [e]; rfl) k1).1 (hF.ga hN hn (by rw [e]; rfl) k1).2 (by omega) (by omega)]
  exact mj_2and _ _ fun _ => ih _ lo wa (hF.gb hN hn (by rw [e]; rfl) k3).1 (hF.gb hN hn (by rw [e]; rfl) k3).2 (by omega) (by omega)
theorem cw_l75 {x : mj_X} {nt : sp_NT} {N M f d : Nat} {res : Int32} {rs par : Nat → Int32} (hx : cw_T x nt N) (hF : sp_WF nt N M rs par) (hM : M ≤ 40) {n : Int32} (hn : sp_nd N n = true) {lo wa : Nat} (hl : lo < 10000) (hwa : wa < 10000)
    (ih : ∀ (c : Int32) (lo2 wa2 : Nat), sp_nd N c = true → (nt 4 c.toNatClampNeg).toInt < (nt 4 n.toNatClampNeg).toInt → lo2 ≤ lo + 1 → wa2 ≤ wa + 1 → kX0 d 31 [.ref 0, .int c, .int (nI lo2), .int (nI wa2), .int res] x = some (some (.int (sp_b (sp_lf nt res f c lo2 wa2))), x)) (e : nt 0 n.toNatClampNeg = 75) : kX0 (d + 1) 31 [.ref 0, .int n, .int (nI lo), .int (nI wa), .int res] x = some (some (.int (sp_b (sp_lf nt res (f + 1) n lo wa))), x) := by
  have hN := hx.2.1
  have hi := sp_nd_lt hN hn
  have hg := fun r => mj_g_k (sp_nd_in hN hn (Nat.le_refl _)) r
  obtain ⟨⟨k1, -⟩, k3, -⟩ := sp_k75 (hF.1 _ hi) (hF.ty hM hN _ (Nat.le_of_lt hi)) e
  have eg : sp_lf nt res (f + 1) n lo wa = (sp_lf nt res f (nt 1 n.toNatClampNeg) lo wa && sp_lf nt res f (nt 2 n.toNatClampNeg) lo wa) := by
    rw [sp_lf_s, e]; rfl
  rw [wX0_isLeft_0_75 d n (nI lo) (nI wa) res x (by rw [hx.2.2.1]; exact e), hg, hg, hg, hx.2.2.2.1, hx.2.2.2.2.1, bX0_isLeft_309, eg]
  rw [ih _ lo wa (hF.ga hN hn (by rw [e]; rfl) k1).1 (hF.ga hN hn (by rw [e]; rfl) k1).2 (by omega) (by omega)]
  exact mj_2and _ _ fun _ => ih _ lo wa (hF.gb hN hn (by rw [e]; rfl) k3).1 (hF.gb hN hn (by rw [e]; rfl) k3).2 (by omega) (by omega)
theorem cw_l63 {x : mj_X} {nt : sp_NT} {N M f d : Nat} {res : Int32} {rs par : Nat → Int32} (hx : cw_T x nt N) (hF : sp_WF nt N M rs par) (hM : M ≤ 40) {n : Int32} (hn : sp_nd N n = true) {lo wa : Nat} (hl : lo < 10000) (hwa : wa < 10000)
    (ih : ∀ (c : Int32) (lo2 wa2 : Nat), sp_nd N c = true → (nt 4 c.toNatClampNeg).toInt < (nt 4 n.toNatClampNeg).toInt → lo2 ≤ lo + 1 → wa2 ≤ wa + 1 → kX0 d 31 [.ref 0, .int c, .int (nI lo2), .int (nI wa2), .int res] x = some (some (.int (sp_b (sp_lf nt res f c lo2 wa2))), x)) (e : nt 0 n.toNatClampNeg = 63) : kX0 (d + 1) 31 [.ref 0, .int n, .int (nI lo), .int (nI wa), .int res] x = some (some (.int (sp_b (sp_lf nt res (f + 1) n lo wa))), x) := by
  have hN := hx.2.1
  have hi := sp_nd_lt hN hn
  have hg := fun r => mj_g_k (sp_nd_in hN hn (Nat.le_refl _)) r
  obtain ⟨⟨k1, -⟩, -⟩ := sp_k63 (hF.1 _ hi) (hF.ty hM hN _ (Nat.le_of_lt hi)) e
  have eg : sp_lf nt res (f + 1) n lo wa = (sp_lf nt res f (nt 1 n.toNatClampNeg) lo wa) := by
    rw [sp_lf_s, e]; rfl
  rw [wX0_isLeft_0_63 d n (nI lo) (nI wa) res x (by rw [hx.2.2.1]; exact e), hg, hg, hg, hx.2.2.2.1, hx.2.2.2.2.1, bX0_isLeft_164, eg]
  rw [ih _ lo wa (hF.ga hN hn (by rw [e]; rfl) k1).1 (hF.ga hN hn (by rw [e]; rfl) k1).2 (by omega) (by omega)]; exact mj_1b _ _
theorem cw_l64 {x : mj_X} {nt : sp_NT} {N M f d : Nat} {res : Int32} {rs par : Nat → Int32} (hx : cw_T x nt N) (hF : sp_WF nt N M rs par) (hM : M ≤ 40) {n : Int32} (hn : sp_nd N n = true) {lo wa : Nat} (hl : lo < 10000) (hwa : wa < 10000)
    (ih : ∀ (c : Int32) (lo2 wa2 : Nat), sp_nd N c = true → (nt 4 c.toNatClampNeg).toInt < (nt 4 n.toNatClampNeg).toInt → lo2 ≤ lo + 1 → wa2 ≤ wa + 1 → kX0 d 31 [.ref 0, .int c, .int (nI lo2), .int (nI wa2), .int res] x = some (some (.int (sp_b (sp_lf nt res f c lo2 wa2))), x)) (e : nt 0 n.toNatClampNeg = 64) : kX0 (d + 1) 31 [.ref 0, .int n, .int (nI lo), .int (nI wa), .int res] x = some (some (.int (sp_b (sp_lf nt res (f + 1) n lo wa))), x) := by
  have hN := hx.2.1
  have hi := sp_nd_lt hN hn
  have hg := fun r => mj_g_k (sp_nd_in hN hn (Nat.le_refl _)) r
  obtain ⟨-, k3, -⟩ := sp_k64 (hF.1 _ hi) (hF.ty hM hN _ (Nat.le_of_lt hi)) e
  have eg : sp_lf nt res (f + 1) n lo wa = (sp_lf nt res f (nt 2 n.toNatClampNeg) lo wa) := by
    rw [sp_lf_s, e]; rfl
  rw [wX0_isLeft_0_64 d n (nI lo) (nI wa) res x (by rw [hx.2.2.1]; exact e), hg, hg, hg, hx.2.2.2.1, hx.2.2.2.2.1, bX0_isLeft_175, eg]
  rw [ih _ lo wa (hF.gb hN hn (by rw [e]; rfl) k3).1 (hF.gb hN hn (by rw [e]; rfl) k3).2 (by omega) (by omega)]; exact mj_1b _ _
theorem cw_l65 {x : mj_X} {nt : sp_NT} {N M f d : Nat} {res : Int32} {rs par : Nat → Int32} (hx : cw_T x nt N) (hF : sp_WF nt N M rs par) (hM : M ≤ 40) {n : Int32} (hn : sp_nd N n = true) {lo wa : Nat} (hl : lo < 10000) (hwa : wa < 10000)
    (ih : ∀ (c : Int32) (lo2 wa2 : Nat), sp_nd N c = true → (nt 4 c.toNatClampNeg).toInt < (nt 4 n.toNatClampNeg).toInt → lo2 ≤ lo + 1 → wa2 ≤ wa + 1 → kX0 d 31 [.ref 0, .int c, .int (nI lo2), .int (nI wa2), .int res] x = some (some (.int (sp_b (sp_lf nt res f c lo2 wa2))), x)) (e : nt 0 n.toNatClampNeg = 65) : kX0 (d + 1) 31 [.ref 0, .int n, .int (nI lo), .int (nI wa), .int res] x = some (some (.int (sp_b (sp_lf nt res (f + 1) n lo wa))), x) := by
  have hN := hx.2.1
  have hi := sp_nd_lt hN hn
  have hg := fun r => mj_g_k (sp_nd_in hN hn (Nat.le_refl _)) r
  obtain ⟨-, k3, -⟩ := sp_k65 (hF.1 _ hi) (hF.ty hM hN _ (Nat.le_of_lt hi)) e
  have eg : sp_lf nt res (f + 1) n lo wa = (sp_lf nt res f (nt 2 n.toNatClampNeg) lo wa) := by
    rw [sp_lf_s, e]; rfl
  rw [wX0_isLeft_0_65 d n (nI lo) (nI wa) res x (by rw [hx.2.2.1]; exact e), hg, hg, hg, hx.2.2.2.1, hx.2.2.2.2.1, bX0_isLeft_175, eg]
  rw [ih _ lo wa (hF.gb hN hn (by rw [e]; rfl) k3).1 (hF.gb hN hn (by rw [e]; rfl) k3).2 (by omega) (by omega)]; exact mj_1b _ _
theorem cw_l80 {x : mj_X} {nt : sp_NT} {N M f d : Nat} {res : Int32} {rs par : Nat → Int32} (hx : cw_T x nt N) (hF : sp_WF nt N M rs par) (hM : M ≤ 40) {n : Int32} (hn : sp_nd N n = true) {lo wa : Nat} (hl : lo < 10000) (hwa : wa < 10000)
    (ih : ∀ (c : Int32) (lo2 wa2 : Nat), sp_nd N c = true → (nt 4 c.toNatClampNeg).toInt < (nt 4 n.toNatClampNeg).toInt → lo2 ≤ lo + 1 → wa2 ≤ wa + 1 → kX0 d 31 [.ref 0, .int c, .int (nI lo2), .int (nI wa2), .int res] x = some (some (.int (sp_b (sp_lf nt res f c lo2 wa2))), x)) (e : nt 0 n.toNatClampNeg = 80) : kX0 (d + 1) 31 [.ref 0, .int n, .int (nI lo), .int (nI wa), .int res] x = some (some (.int (sp_b (sp_lf nt res (f + 1) n lo wa))), x) := by
  have hN := hx.2.1
  have hi := sp_nd_lt hN hn
  have hg := fun r => mj_g_k (sp_nd_in hN hn (Nat.le_refl _)) r
  obtain ⟨-, -, k3, -⟩ := sp_k80 (hF.1 _ hi) (hF.ty hM hN _ (Nat.le_of_lt hi)) e
  have eg : sp_lf nt res (f + 1) n lo wa = (sp_lf nt res f (nt 2 n.toNatClampNeg) lo wa) := by
    rw [sp_lf_s, e]; rfl
  rw [wX0_isLeft_0_80 d n (nI lo) (nI wa) res x (by rw [hx.2.2.1]; exact e), hg, hg, hg, hx.2.2.2.1, hx.2.2.2.2.1, bX0_isLeft_175, eg]
  rw [ih _ lo wa (hF.gb hN hn (by rw [e]; rfl) k3).1 (hF.gb hN hn (by rw [e]; rfl) k3).2 (by omega) (by omega)]; exact mj_1b _ _
theorem cw_l85 {x : mj_X} {nt : sp_NT} {N M f d : Nat} {res : Int32} {rs par : Nat → Int32} (hx : cw_T x nt N) (hF : sp_WF nt N M rs par) (hM : M ≤ 40) {n : Int32} (hn : sp_nd N n = true) {lo wa : Nat} (hl : lo < 10000) (hwa : wa < 10000)
    (ih : ∀ (c : Int32) (lo2 wa2 : Nat), sp_nd N c = true → (nt 4 c.toNatClampNeg).toInt < (nt 4 n.toNatClampNeg).toInt → lo2 ≤ lo + 1 → wa2 ≤ wa + 1 → kX0 d 31 [.ref 0, .int c, .int (nI lo2), .int (nI wa2), .int res] x = some (some (.int (sp_b (sp_lf nt res f c lo2 wa2))), x)) (e : nt 0 n.toNatClampNeg = 85) : kX0 (d + 1) 31 [.ref 0, .int n, .int (nI lo), .int (nI wa), .int res] x = some (some (.int (sp_b (sp_lf nt res (f + 1) n lo wa))), x) := by
  have hN := hx.2.1
  have hi := sp_nd_lt hN hn
  have hg := fun r => mj_g_k (sp_nd_in hN hn (Nat.le_refl _)) r
  obtain ⟨-, -, k3, -⟩ := sp_k85 (hF.1 _ hi) (hF.ty hM hN _ (Nat.le_of_lt hi)) e
  have eg : sp_lf nt res (f + 1) n lo wa = (sp_lf nt res f (nt 2 n.toNatClampNeg) lo wa) := by
    rw [sp_lf_s, e]; rfl
  rw [wX0_isLeft_0_85 d n (nI lo) (nI wa) res x (by rw [hx.2.2.1]; exact e), hg, hg, hg, hx.2.2.2.1, hx.2.2.2.2.1, bX0_isLeft_175, eg]
  rw [ih _ lo wa (hF.gb hN hn (by rw [e]; rfl) k3).1 (hF.gb hN hn (by rw [e]; rfl) k3).2 (by omega) (by omega)]; exact mj_1b _ _
theorem cw_l77 {x : mj_X} {nt : sp_NT} {N M f d : Nat} {res : Int32} {rs par : Nat → Int32} (hx : cw_T x nt N) (hF : sp_WF nt N M rs par) (hM : M ≤ 40) {n : Int32} (hn : sp_nd N n = true) {lo wa : Nat} (hl : lo < 10000) (hwa : wa < 10000)
    (ih : ∀ (c : Int32) (lo2 wa2 : Nat), sp_nd N c = true → (nt 4 c.toNatClampNeg).toInt < (nt 4 n.toNatClampNeg).toInt → lo2 ≤ lo + 1 → wa2 ≤ wa + 1 → kX0 d 31 [.ref 0, .int c, .int (nI lo2), .int (nI wa2), .int res] x = some (some (.int (sp_b (sp_lf nt res f c lo2 wa2))), x)) (e : nt 0 n.toNatClampNeg = 77) : kX0 (d + 1) 31 [.ref 0, .int n, .int (nI lo), .int (nI wa), .int res] x = some (some (.int (sp_b (sp_lf nt res (f + 1) n lo wa))), x) := by
  have hN := hx.2.1
  have hi := sp_nd_lt hN hn
  have hg := fun r => mj_g_k (sp_nd_in hN hn (Nat.le_refl _)) r
  obtain ⟨-, -, k3, -⟩ := sp_k77 (hF.1 _ hi) (hF.ty hM hN _ (Nat.le_of_lt hi)) e
  have eg : sp_lf nt res (f + 1) n lo wa = (sp_lf nt res f (nt 2 n.toNatClampNeg) lo wa) := by
    rw [sp_lf_s, e]; rfl
  rw [wX0_isLeft_0_77 d n (nI lo) (nI wa) res x (by rw [hx.2.2.1]; exact e), hg, hg, hg, hx.2.2.2.1, hx.2.2.2.2.1, bX0_isLeft_175, eg]
  rw [ih _ lo wa (hF.gb hN hn (by rw [e]; rfl) k3).1 (hF.gb hN hn (by rw [e]; rfl) k3).2 (by omega) (by omega)]; exact mj_1b _ _
theorem cw_l78 {x : mj_X} {nt : sp_NT} {N M f d : Nat} {res : Int32} {rs par : Nat → Int32} (hx : cw_T x nt N) (hF : sp_WF nt N M rs par) (hM : M ≤ 40) {n : Int32} (hn : sp_nd N n = true) {lo wa : Nat} (hl : lo < 10000) (hwa : wa < 10000)
    (ih : ∀ (c : Int32) (lo2 wa2 : Nat), sp_nd N c = true → (nt 4 c.toNatClampNeg).toInt < (nt 4 n.toNatClampNeg).toInt → lo2 ≤ lo + 1 → wa2 ≤ wa + 1 → kX0 d 31 [.ref 0, .int c, .int (nI lo2), .int (nI wa2), .int res] x = some (some (.int (sp_b (sp_lf nt res f c lo2 wa2))), x)) (e : nt 0 n.toNatClampNeg = 78) : kX0 (d + 1) 31 [.ref 0, .int n, .int (nI lo), .int (nI wa), .int res] x = some (some (.int (sp_b (sp_lf nt res (f + 1) n lo wa))), x) := by
  have hN := hx.2.1
  have hi := sp_nd_lt hN hn
  have hg := fun r => mj_g_k (sp_nd_in hN hn (Nat.le_refl _)) r
  obtain ⟨-, -, k3, -⟩ := sp_k78 (hF.1 _ hi) (hF.ty hM hN _ (Nat.le_of_lt hi)) e
  have eg : sp_lf nt res (f + 1) n lo wa = (sp_lf nt res f (nt 2 n.toNatClampNeg) lo wa) := by
    rw [sp_lf_s, e]; rfl
  rw [wX0_isLeft_0_78 d n (nI lo) (nI wa) res x (by rw [hx.2.2.1]; exact e), hg, hg, hg, hx.2.2.2.1, hx.2.2.2.2.1, bX0_isLeft_175, eg]
  rw [ih _ lo wa (hF.gb hN hn (by rw [e]; rfl) k3).1 (hF.gb hN hn (by rw [e]; rfl) k3).2 (by omega) (by omega)]; exact mj_1b _ _
theorem cw_l83 {x : mj_X} {nt : sp_NT} {N M f d : Nat} {res : Int32} {rs par : Nat → Int32} (hx : cw_T x nt N) (hF : sp_WF nt N M rs par) (hM : M ≤ 40) {n : Int32} (hn : sp_nd N n = true) {lo wa : Nat} (hl : lo < 10000) (hwa : wa < 10000)
    (ih : ∀ (c : Int32) (lo2 wa2 : Nat), sp_nd N c = true → (nt 4 c.toNatClampNeg).toInt < (nt 4 n.toNatClampNeg).toInt → lo2 ≤ lo + 1 → wa2 ≤ wa + 1 → kX0 d 31 [.ref 0, .int c, .int (nI lo2), .int (nI wa2), .int res] x = some (some (.int (sp_b (sp_lf nt res f c lo2 wa2))), x)) (e : nt 0 n.toNatClampNeg = 83) : kX0 (d + 1) 31 [.ref 0, .int n, .int (nI lo), .int (nI wa), .int res] x = some (some (.int (sp_b (sp_lf nt res (f + 1) n lo wa))), x) := by
  have hN := hx.2.1
  have hi := sp_nd_lt hN hn
  have hg := fun r => mj_g_k (sp_nd_in hN hn (Nat.le_refl _)) r
  obtain ⟨k3, -⟩ := sp_k83 (hF.1 _ hi) (hF.ty hM hN _ (Nat.le_of_lt hi)) e
  have eg : sp_lf nt res (f + 1) n lo wa = (sp_lf nt res f (nt 2 n.toNatClampNeg) lo wa) := by
    rw [sp_lf_s, e]; rfl
  rw [wX0_isLeft_0_83 d n (nI lo) (nI wa) res x (by rw [hx.2.2.1]; exact e), hg, hg, hg, hx.2.2.2.1, hx.2.2.2.2.1, bX0_isLeft_175, eg]
  rw [ih _ lo wa (hF.gb hN hn (by rw [e]; rfl) k3).1 (hF.gb hN hn (by rw [e]; rfl) k3).2 (by omega) (by omega)]; exact mj_1b _ _
theorem cw_l84 {x : mj_X} {nt : sp_NT} {N M f d : Nat} {res : Int32} {rs par : Nat → Int32} (hx : cw_T x nt N) (hF : sp_WF nt N M rs par) (hM : M ≤ 40) {n : Int32} (hn : sp_nd N n = true) {lo wa : Nat} (hl : lo < 10000) (hwa : wa < 10000)
    (ih : ∀ (c : Int32) (lo2 wa2 : Nat), sp_nd N c = true → (nt 4 c.toNatClampNeg).toInt < (nt 4 n.toNatClampNeg).toInt → lo2 ≤ lo + 1 → wa2 ≤ wa + 1 → kX0 d 31 [.ref 0, .int c, .int (nI lo2), .int (nI wa2), .int res] x = some (some (.int (sp_b (sp_lf nt res f c lo2 wa2))), x)) (e : nt 0 n.toNatClampNeg = 84) : kX0 (d + 1) 31 [.ref 0, .int n, .int (nI lo), .int (nI wa), .int res] x = some (some (.int (sp_b (sp_lf nt res (f + 1) n lo wa))), x) := by
  have hN := hx.2.1
  have hi := sp_nd_lt hN hn
  have hg := fun r => mj_g_k (sp_nd_in hN hn (Nat.le_refl _)) r
  obtain ⟨-, k3, -⟩ := sp_k84 (hF.1 _ hi) (hF.ty hM hN _ (Nat.le_of_lt hi)) e
  have eg : sp_lf nt res (f + 1) n lo wa = (sp_lf nt res f (nt 2 n.toNatClampNeg) lo wa) := by
    rw [sp_lf_s, e]; rfl
  rw [wX0_isLeft_0_84 d n (nI lo) (nI wa) res x (by rw [hx.2.2.1]; exact e), hg, hg, hg, hx.2.2.2.1, hx.2.2.2.2.1, bX0_isLeft_175, eg]
  rw [ih _ lo wa (hF.gb hN hn (by rw [e]; rfl) k3).1 (hF.gb hN hn (by rw [e]; rfl) k3).2 (by omega) (by omega)]; exact mj_1b _ _
theorem cw_l67 {x : mj_X} {nt : sp_NT} {N M f d : Nat} {res : Int32} {rs par : Nat → Int32} (hx : cw_T x nt N) (hF : sp_WF nt N M rs par) (hM : M ≤ 40) {n : Int32} (hn : sp_nd N n = true) {lo wa : Nat} (hl : lo < 10000) (hwa : wa < 10000)
    (ih : ∀ (c : Int32) (lo2 wa2 : Nat), sp_nd N c = true → (nt 4 c.toNatClampNeg).toInt < (nt 4 n.toNatClampNeg).toInt → lo2 ≤ lo + 1 → wa2 ≤ wa + 1 → kX0 d 31 [.ref 0, .int c, .int (nI lo2), .int (nI wa2), .int res] x = some (some (.int (sp_b (sp_lf nt res f c lo2 wa2))), x)) (e : nt 0 n.toNatClampNeg = 67) : kX0 (d + 1) 31 [.ref 0, .int n, .int (nI lo), .int (nI wa), .int res] x = some (some (.int (sp_b (sp_lf nt res (f + 1) n lo wa))), x) := by
  have hN := hx.2.1
  have hi := sp_nd_lt hN hn
  have hg := fun r => mj_g_k (sp_nd_in hN hn (Nat.le_refl _)) r
  obtain ⟨-, k3, -⟩ := sp_k67 (hF.1 _ hi) (hF.ty hM hN _ (Nat.le_of_lt hi)) e
  have eg : sp_lf nt res (f + 1) n lo wa = (sp_lf nt res f (nt 2 n.toNatClampNeg) (lo + 1) (wa + 1)) := by
    rw [sp_lf_s, e]; rfl
  rw [wX0_isLeft_0_67 d n (nI lo) (nI wa) res x (by rw [hx.2.2.1]; exact e), hg, hg, hg, hx.2.2.2.1, hx.2.2.2.2.1, bX0_isLeft_186, eg]
  rw [nI_1, nI_1, ih _ (lo + 1) (wa + 1) (hF.gb hN hn (by rw [e]; rfl) k3).1 (hF.gb hN hn (by rw [e]; rfl) k3).2 (by omega) (by omega)]; exact mj_1b _ _
theorem cw_l70 {x : mj_X} {nt : sp_NT} {N M f d : Nat} {res : Int32} {rs par : Nat → Int32} (hx : cw_T x nt N) (hF : sp_WF nt N M rs par) (hM : M ≤ 40) {n : Int32} (hn : sp_nd N n = true) {lo wa : Nat} (hl : lo < 10000) (hwa : wa < 10000)
    (ih : ∀ (c : Int32) (lo2 wa2 : Nat), sp_nd N c = true → (nt 4 c.toNatClampNeg).toInt < (nt 4 n.toNatClampNeg).toInt → lo2 ≤ lo + 1 → wa2 ≤ wa + 1 → kX0 d 31 [.ref 0, .int c, .int (nI lo2), .int (nI wa2), .int res] x = some (some (.int (sp_b (sp_lf nt res f c lo2 wa2))), x)) (e : nt 0 n.toNatClampNeg = 70) : kX0 (d + 1) 31 [.ref 0, .int n, .int (nI lo), .int (nI wa), .int res] x = some (some (.int (sp_b (sp_lf nt res (f + 1) n lo wa))), x) := by
  have hN := hx.2.1
  have hi := sp_nd_lt hN hn
  have hg := fun r => mj_g_k (sp_nd_in hN hn (Nat.le_refl _)) r
  obtain ⟨-, k3, -⟩ := sp_k70 (hF.1 _ hi) (hF.ty hM hN _ (Nat.le_of_lt hi)) e
  have eg : sp_lf nt res (f + 1) n lo wa = (sp_lf nt res f (nt 2 n.toNatClampNeg) (lo + 1) (wa + 1)) := by
    rw [sp_lf_s, e]; rfl
  rw [wX0_isLeft_0_70 d n (nI lo) (nI wa) res x (by rw [hx.2.2.1]; exact e), hg, hg, hg, hx.2.2.2.1, hx.2.2.2.2.1, bX0_isLeft_186, eg]
  rw [nI_1, nI_1, ih _ (lo + 1) (wa + 1) (hF.gb hN hn (by rw [e]; rfl) k3).1 (hF.gb hN hn (by rw [e]; rfl) k3).2 (by omega) (by omega)]; exact mj_1b _ _
theorem cw_l68 {x : mj_X} {nt : sp_NT} {N M f d : Nat} {res : Int32} {rs par : Nat → Int32} (hx : cw_T x nt N) (hF : sp_WF nt N M rs par) (hM : M ≤ 40) {n : Int32} (hn : sp_nd N n = true) {lo wa : Nat} (hl : lo < 10000) (hwa : wa < 10000)
    (ih : ∀ (c : Int32) (lo2 wa2 : Nat), sp_nd N c = true → (nt 4 c.toNatClampNeg).toInt < (nt 4 n.toNatClampNeg).toInt → lo2 ≤ lo + 1 → wa2 ≤ wa + 1 → kX0 d 31 [.ref 0, .int c, .int (nI lo2), .int (nI wa2), .int res] x = some (some (.int (sp_b (sp_lf nt res f c lo2 wa2))), x)) (e : nt 0 n.toNatClampNeg = 68) : kX0 (d + 1) 31 [.ref 0, .int n, .int (nI lo), .int (nI wa), .int res] x = some (some (.int (sp_b (sp_lf nt res (f + 1) n lo wa))), x) := by
  have hN := hx.2.1
  have hi := sp_nd_lt hN hn
  have hg := fun r => mj_g_k (sp_nd_in hN hn (Nat.le_refl _)) r
  obtain ⟨⟨k1, -⟩, -⟩ := sp_k68 (hF.1 _ hi) (hF.ty hM hN _ (Nat.le_of_lt hi)) e
  have eg : sp_lf nt res (f + 1) n lo wa = (sp_lf nt res f (nt 1 n.toNatClampNeg) (lo + 1) (wa + 1)) := by
    rw [sp_lf_s, e]; rfl
  rw [wX0_isLeft_0_68 d n (nI lo) (nI wa) res x (by rw [hx.2.2.1]; exact e), hg, hg, hg, hx.2.2.2.1, hx.2.2.2.2.1, bX0_isLeft_201, eg]
  rw [nI_1, nI_1, ih _ (lo + 1) (wa + 1) (hF.ga hN hn (by rw [e]; rfl) k1).1 (hF.ga hN hn (by rw [e]; rfl) k1).2 (by omega) (by omega)]; exact mj_1b _ _
theorem cw_l69 {x : mj_X} {nt : sp_NT} {N M f d : Nat} {res : Int32} {rs par : Nat → Int32} (hx : cw_T x nt N) (hF : sp_WF nt N M rs par) (hM : M ≤ 40) {n : Int32} (hn : sp_nd N n = true) {lo wa : Nat} (hl : lo < 10000) (hwa : wa < 10000)
    (ih : ∀ (c : Int32) (lo2 wa2 : Nat), sp_nd N c = true → (nt 4 c.toNatClampNeg).toInt < (nt 4 n.toNatClampNeg).toInt → lo2 ≤ lo + 1 → wa2 ≤ wa + 1 → kX0 d 31 [.ref 0, .int c, .int (nI lo2), .int (nI wa2), .int res] x = some (some (.int (sp_b (sp_lf nt res f c lo2 wa2))), x)) (e : nt 0 n.toNatClampNeg = 69) : kX0 (d + 1) 31 [.ref 0, .int n, .int (nI lo), .int (nI wa), .int res] x = some (some (.int (sp_b (sp_lf nt res (f + 1) n lo wa))), x) := by
  have hN := hx.2.1
  have hi := sp_nd_lt hN hn
  have hg := fun r => mj_g_k (sp_nd_in hN hn (Nat.le_refl _)) r
  obtain ⟨⟨k1, k2⟩, k3, -⟩ := sp_k69 (hF.1 _ hi) (hF.ty hM hN _ (Nat.le_of_lt hi)) e
  have a4 := sp_nd_mono (Nat.le_of_lt hi) hN k1
  have ai := sp_nd_lt hN a4
  obtain ⟨-, j3, -⟩ := sp_k70 (hF.1 _ ai) (hF.ty hM hN _ (Nat.le_of_lt ai)) k2
  have j5 := hF.gb hN a4 (by rw [k2]; rfl) j3
  have eg : sp_lf nt res (f + 1) n lo wa = (sp_lf nt res f (nt 2 (nt 1 n.toNatClampNeg).toNatClampNeg) lo wa && sp_lf nt res f (nt 2 n.toNatClampNeg) (lo + 1) (wa + 1)) := by
    rw [sp_lf_s, e]; rfl
  rw [wX0_isLeft_0_69 d n (nI lo) (nI wa) res x (by rw [hx.2.2.1]; exact e), hg, hg, hg, hx.2.2.2.1, hx.2.2.2.2.1, bX0_isLeft_216, eg]
  rw [mj_g_k (sp_nd_in hN a4 (Nat.le_refl _)), hx.2.2.2.2.1, ih _ lo wa j5.1 (by have := (hF.ga hN hn (by rw [e]; rfl) k1).2; have := j5.2; omega) (by omega) (by omega), nI_1, nI_1]
  exact mj_2and _ _ fun _ => ih _ (lo + 1) (wa + 1) (hF.gb hN hn (by rw [e]; rfl) k3).1 (hF.gb hN hn (by rw [e]; rfl) k3).2 (by omega) (by omega)
theorem cw_l71 {x : mj_X} {nt : sp_NT} {N M f d : Nat} {res : Int32} {rs par : Nat → Int32} (hx : cw_T x nt N) (hF : sp_WF nt N M rs par) (hM : M ≤ 40) {n : Int32} (hn : sp_nd N n = true) {lo wa : Nat} (hl : lo < 10000) (hwa : wa < 10000)
    (ih : ∀ (c : Int32) (lo2 wa2 : Nat), sp_nd N c = true → (nt 4 c.toNatClampNeg).toInt < (nt 4 n.toNatClampNeg).toInt → lo2 ≤ lo + 1 → wa2 ≤ wa + 1 → kX0 d 31 [.ref 0, .int c, .int (nI lo2), .int (nI wa2), .int res] x = some (some (.int (sp_b (sp_lf nt res f c lo2 wa2))), x)) (e : nt 0 n.toNatClampNeg = 71) : kX0 (d + 1) 31 [.ref 0, .int n, .int (nI lo), .int (nI wa), .int res] x = some (some (.int (sp_b (sp_lf nt res (f + 1) n lo wa))), x) := by
  have hN := hx.2.1
  have hi := sp_nd_lt hN hn
  have hg := fun r => mj_g_k (sp_nd_in hN hn (Nat.le_refl _)) r
  have eg : sp_lf nt res (f + 1) n lo wa = (decide ((nt 1 n.toNatClampNeg) < nI wa)) := by
    rw [sp_lf_s, e]; rfl
  rw [wX0_isLeft_0_71 d n (nI lo) (nI wa) res x (by rw [hx.2.2.1]; exact e), hg, hg, hg, hx.2.2.2.1, hx.2.2.2.2.1, bX0_isLeft_257, eg]
  by_cases q : nI wa ≤ nt 1 n.toNatClampNeg
  · rw [if_pos q, decide_eq_false (Int32.not_lt.mpr q)]; rfl
  · rw [if_neg q, decide_eq_true (Int32.not_le.mp q)]; rfl
theorem cw_l72 {x : mj_X} {nt : sp_NT} {N M f d : Nat} {res : Int32} {rs par : Nat → Int32} (hx : cw_T x nt N) (hF : sp_WF nt N M rs par) (hM : M ≤ 40) {n : Int32} (hn : sp_nd N n = true) {lo wa : Nat} (hl : lo < 10000) (hwa : wa < 10000)
    (ih : ∀ (c : Int32) (lo2 wa2 : Nat), sp_nd N c = true → (nt 4 c.toNatClampNeg).toInt < (nt 4 n.toNatClampNeg).toInt → lo2 ≤ lo + 1 → wa2 ≤ wa + 1 → kX0 d 31 [.ref 0, .int c, .int (nI lo2), .int (nI wa2), .int res] x = some (some (.int (sp_b (sp_lf nt res f c lo2 wa2))), x)) (e : nt 0 n.toNatClampNeg = 72) : kX0 (d + 1) 31 [.ref 0, .int n, .int (nI lo), .int (nI wa), .int res] x = some (some (.int (sp_b (sp_lf nt res (f + 1) n lo wa))), x) := by
  have hN := hx.2.1
  have hi := sp_nd_lt hN hn
  have hg := fun r => mj_g_k (sp_nd_in hN hn (Nat.le_refl _)) r
  have eg : sp_lf nt res (f + 1) n lo wa = (decide ((nt 1 n.toNatClampNeg) < nI lo)) := by
    rw [sp_lf_s, e]; rfl
  rw [wX0_isLeft_0_72 d n (nI lo) (nI wa) res x (by rw [hx.2.2.1]; exact e), hg, hg, hg, hx.2.2.2.1, hx.2.2.2.2.1, bX0_isLeft_269, eg]
  by_cases q : nI lo ≤ nt 1 n.toNatClampNeg
  · rw [if_pos q, decide_eq_false (Int32.not_lt.mpr q)]; rfl
  · rw [if_neg q, decide_eq_true (Int32.not_le.mp q)]; rfl
theorem cw_l73 {x : mj_X} {nt : sp_NT} {N M f d : Nat} {res : Int32} {rs par : Nat → Int32} (hx : cw_T x nt N) (hF : sp_WF nt N M rs par) (hM : M ≤ 40) {n : Int32} (hn : sp_nd N n = true) {lo wa : Nat} (hl : lo < 10000) (hwa : wa < 10000)
    (ih : ∀ (c : Int32) (lo2 wa2 : Nat), sp_nd N c = true → (nt 4 c.toNatClampNeg).toInt < (nt 4 n.toNatClampNeg).toInt → lo2 ≤ lo + 1 → wa2 ≤ wa + 1 → kX0 d 31 [.ref 0, .int c, .int (nI lo2), .int (nI wa2), .int res] x = some (some (.int (sp_b (sp_lf nt res f c lo2 wa2))), x)) (e : nt 0 n.toNatClampNeg = 73) : kX0 (d + 1) 31 [.ref 0, .int n, .int (nI lo), .int (nI wa), .int res] x = some (some (.int (sp_b (sp_lf nt res (f + 1) n lo wa))), x) := by
  have hN := hx.2.1
  have hi := sp_nd_lt hN hn
  have hg := fun r => mj_g_k (sp_nd_in hN hn (Nat.le_refl _)) r
  obtain ⟨-, k1⟩ := sp_k73 (hF.1 _ hi) (hF.ty hM hN _ (Nat.le_of_lt hi)) e
  have eg : sp_lf nt res (f + 1) n lo wa = (decide (res = if (nt 1 n.toNatClampNeg) = -1 then 0 else nt 3 (nt 1 n.toNatClampNeg).toNatClampNeg)) := by
    rw [sp_lf_s, e]; rfl
  rw [wX0_isLeft_0_73 d n (nI lo) (nI wa) res x (by rw [hx.2.2.1]; exact e), hg, hg, hg, hx.2.2.2.1, hx.2.2.2.2.1, bX0_isLeft_281, eg]
  rw [hx.2.2.2.2.2.1]
  by_cases q : nt 1 n.toNatClampNeg = -1
  · rw [if_pos q, if_pos q]
    by_cases q2 : res = 0
    · rw [if_pos q2, decide_eq_true q2]; rfl
    · rw [if_neg q2, decide_eq_false q2]; rfl
  · rw [if_neg q, if_neg q, mj_g_k (sp_nd_in hN (sp_nd_mono (Nat.le_of_lt hi) hN (k1.resolve_left q).1) (Nat.le_refl _))]
    by_cases q2 : res = nt 3 (nt 1 n.toNatClampNeg).toNatClampNeg
    · rw [if_pos q2, decide_eq_true q2]; rfl
    · rw [if_neg q2, decide_eq_false q2]; rfl
theorem cw_l76 {x : mj_X} {nt : sp_NT} {N M f d : Nat} {res : Int32} {rs par : Nat → Int32} (hx : cw_T x nt N) (hF : sp_WF nt N M rs par) (hM : M ≤ 40) {n : Int32} (hn : sp_nd N n = true) {lo wa : Nat} (hl : lo < 10000) (hwa : wa < 10000)
    (ih : ∀ (c : Int32) (lo2 wa2 : Nat), sp_nd N c = true → (nt 4 c.toNatClampNeg).toInt < (nt 4 n.toNatClampNeg).toInt → lo2 ≤ lo + 1 → wa2 ≤ wa + 1 → kX0 d 31 [.ref 0, .int c, .int (nI lo2), .int (nI wa2), .int res] x = some (some (.int (sp_b (sp_lf nt res f c lo2 wa2))), x)) (e : nt 0 n.toNatClampNeg = 76) : kX0 (d + 1) 31 [.ref 0, .int n, .int (nI lo), .int (nI wa), .int res] x = some (some (.int (sp_b (sp_lf nt res (f + 1) n lo wa))), x) := by
  have hN := hx.2.1
  have hi := sp_nd_lt hN hn
  have hg := fun r => mj_g_k (sp_nd_in hN hn (Nat.le_refl _)) r
  obtain ⟨⟨k1, -⟩, k3⟩ := sp_k76 (hF.1 _ hi) (hF.ty hM hN _ (Nat.le_of_lt hi)) e
  have eg : sp_lf nt res (f + 1) n lo wa = (sp_lf nt res f (nt 1 n.toNatClampNeg) lo wa && (decide ((nt 2 n.toNatClampNeg) = -1) || sp_lf nt res f (nt 2 n.toNatClampNeg) lo wa)) := by
    rw [sp_lf_s, e]; rfl
  rw [wX0_isLeft_0_76 d n (nI lo) (nI wa) res x (by rw [hx.2.2.1]; exact e), hg, hg, hg, hx.2.2.2.1, hx.2.2.2.2.1, bX0_isLeft_341, eg]
  rw [ih _ lo wa (hF.ga hN hn (by rw [e]; rfl) k1).1 (hF.ga hN hn (by rw [e]; rfl) k1).2 (by omega) (by omega)]
  by_cases q : nt 2 n.toNatClampNeg = -1
  · simp only [if_pos q, decide_eq_true q, Bool.true_or, Bool.and_true]
    rw [mj_rI_k, sp_ib]
    cases sp_lf nt res f (nt 1 n.toNatClampNeg) lo wa <;> rfl
  · simp only [if_neg q, decide_eq_false q, Bool.false_or]
    exact mj_2and _ _ fun _ => ih _ lo wa (hF.gb hN hn (by rw [e]; rfl) (k3.resolve_left q).1).1 (hF.gb hN hn (by rw [e]; rfl) (k3.resolve_left q).1).2 (by omega) (by omega)
theorem cw_l82 {x : mj_X} {nt : sp_NT} {N M f d : Nat} {res : Int32} {rs par : Nat → Int32} (hx : cw_T x nt N) (hF : sp_WF nt N M rs par) (hM : M ≤ 40) {n : Int32} (hn : sp_nd N n = true) {lo wa : Nat} (hl : lo < 10000) (hwa : wa < 10000)
    (ih : ∀ (c : Int32) (lo2 wa2 : Nat), sp_nd N c = true → (nt 4 c.toNatClampNeg).toInt < (nt 4 n.toNatClampNeg).toInt → lo2 ≤ lo + 1 → wa2 ≤ wa + 1 → kX0 d 31 [.ref 0, .int c, .int (nI lo2), .int (nI wa2), .int res] x = some (some (.int (sp_b (sp_lf nt res f c lo2 wa2))), x)) (e : nt 0 n.toNatClampNeg = 82) : kX0 (d + 1) 31 [.ref 0, .int n, .int (nI lo), .int (nI wa), .int res] x = some (some (.int (sp_b (sp_lf nt res (f + 1) n lo wa))), x) := by
  have hN := hx.2.1
  have hi := sp_nd_lt hN hn
  have hg := fun r => mj_g_k (sp_nd_in hN hn (Nat.le_refl _)) r
  obtain ⟨⟨k1, -⟩, k3⟩ := sp_k82 (hF.1 _ hi) (hF.ty hM hN _ (Nat.le_of_lt hi)) e
  have eg : sp_lf nt res (f + 1) n lo wa = (sp_lf nt res f (nt 1 n.toNatClampNeg) lo wa && (decide ((nt 2 n.toNatClampNeg) = -1) || sp_lf nt res f (nt 2 n.toNatClampNeg) lo wa)) := by
    rw [sp_lf_s, e]; rfl
  rw [wX0_isLeft_0_82 d n (nI lo) (nI wa) res x (by rw [hx.2.2.1]; exact e), hg, hg, hg, hx.2.2.2.1, hx.2.2.2.2.1, bX0_isLeft_341, eg]
  rw [ih _ lo wa (hF.ga hN hn (by rw [e]; rfl) k1).1 (hF.ga hN hn (by rw [e]; rfl) k1).2 (by omega) (by omega)]
  by_cases q : nt 2 n.toNatClampNeg = -1
  · simp only [if_pos q, decide_eq_true q, Bool.true_or, Bool.and_true]
    rw [mj_rI_k, sp_ib]
    cases sp_lf nt res f (nt 1 n.toNatClampNeg) lo wa <;> rfl
  · simp only [if_neg q, decide_eq_false q, Bool.false_or]
    exact mj_2and _ _ fun _ => ih _ lo wa (hF.gb hN hn (by rw [e]; rfl) (k3.resolve_left q).1).1 (hF.gb hN hn (by rw [e]; rfl) (k3.resolve_left q).1).2 (by omega) (by omega)
theorem cw_l81 {x : mj_X} {nt : sp_NT} {N M f d : Nat} {res : Int32} {rs par : Nat → Int32} (hx : cw_T x nt N) (hF : sp_WF nt N M rs par) (hM : M ≤ 40) {n : Int32} (hn : sp_nd N n = true) {lo wa : Nat} (hl : lo < 10000) (hwa : wa < 10000)
    (ih : ∀ (c : Int32) (lo2 wa2 : Nat), sp_nd N c = true → (nt 4 c.toNatClampNeg).toInt < (nt 4 n.toNatClampNeg).toInt → lo2 ≤ lo + 1 → wa2 ≤ wa + 1 → kX0 d 31 [.ref 0, .int c, .int (nI lo2), .int (nI wa2), .int res] x = some (some (.int (sp_b (sp_lf nt res f c lo2 wa2))), x)) (e : nt 0 n.toNatClampNeg = 81) : kX0 (d + 1) 31 [.ref 0, .int n, .int (nI lo), .int (nI wa), .int res] x = some (some (.int (sp_b (sp_lf nt res (f + 1) n lo wa))), x) := by
  have hN := hx.2.1
  have hi := sp_nd_lt hN hn
  have hg := fun r => mj_g_k (sp_nd_in hN hn (Nat.le_refl _)) r
  obtain ⟨-, k3, -⟩ := sp_k81 (hF.1 _ hi) (hF.ty hM hN _ (Nat.le_of_lt hi)) e
  have eg : sp_lf nt res (f + 1) n lo wa = (sp_lf nt res f (nt 2 n.toNatClampNeg) lo (wa + 1)) := by
    rw [sp_lf_s, e]; rfl
  rw [wX0_isLeft_0_81 d n (nI lo) (nI wa) res x (by rw [hx.2.2.1]; exact e), hg, hg, hg, hx.2.2.2.1, hx.2.2.2.2.1, bX0_isLeft_379, eg]
  rw [nI_1, ih _ lo (wa + 1) (hF.gb hN hn (by rw [e]; rfl) k3).1 (hF.gb hN hn (by rw [e]; rfl) k3).2 (by omega) (by omega)]; exact mj_1b _ _
theorem cw_l74 {x : mj_X} {nt : sp_NT} {N M f d : Nat} {res : Int32} {rs par : Nat → Int32} (hx : cw_T x nt N) (hF : sp_WF nt N M rs par) (hM : M ≤ 40) {n : Int32} (hn : sp_nd N n = true) {lo wa : Nat} (hl : lo < 10000) (hwa : wa < 10000)
    (ih : ∀ (c : Int32) (lo2 wa2 : Nat), sp_nd N c = true → (nt 4 c.toNatClampNeg).toInt < (nt 4 n.toNatClampNeg).toInt → lo2 ≤ lo + 1 → wa2 ≤ wa + 1 → kX0 d 31 [.ref 0, .int c, .int (nI lo2), .int (nI wa2), .int res] x = some (some (.int (sp_b (sp_lf nt res f c lo2 wa2))), x)) (e : nt 0 n.toNatClampNeg = 74) : kX0 (d + 1) 31 [.ref 0, .int n, .int (nI lo), .int (nI wa), .int res] x = some (some (.int (sp_b (sp_lf nt res (f + 1) n lo wa))), x) := by
  have hN := hx.2.1
  have hi := sp_nd_lt hN hn
  have hg := fun r => mj_g_k (sp_nd_in hN hn (Nat.le_refl _)) r
  have eg : sp_lf nt res (f + 1) n lo wa = (true) := by
    rw [sp_lf_s, e]; rfl
  rw [wX0_isLeft_0_74 d n (nI lo) (nI wa) res x (by rw [hx.2.2.1]; exact e), hg, hg, hg, hx.2.2.2.1, hx.2.2.2.2.1, bX0_isLeft_392, eg]
  rfl
theorem sX0_isLeft {x : mj_X} {nt : sp_NT} {N M : Nat} {res : Int32} {rs par : Nat → Int32} (hx : cw_T x nt N) (hF : sp_WF nt N M rs par) (hM : M ≤ 40) : ∀ (f d : Nat), f + 1 ≤ d → ∀ (n : Int32) (lo wa : Nat), sp_nd N n = true → (nt 4 n.toNatClampNeg).toInt ≤ f → lo + f < 1000 → wa + f < 1000 → kX0 d 31 [.ref 0, .int n, .int (nI lo), .int (nI wa), .int res] x = some (some (.int (sp_b (sp_lf nt res f n lo wa))), x) := by
  have hN := hx.2.1
  intro f
  induction f with
  | zero => intro d _ n lo wa hn h4; have := sp_dp1 hF hN hn; omega
  | succ f ih =>
    intro d hd n lo wa hn h4 hl hwa
    obtain ⟨d, rfl⟩ : ∃ c, d = c + 1 := ⟨d - 1, by omega⟩
    have hi := sp_nd_lt hN hn
    have hg := fun r => mj_g_k (sp_nd_in hN hn (Nat.le_refl _)) r
    have ih2 : ∀ (c : Int32) (lo' wa' : Nat), sp_nd N c = true → (nt 4 c.toNatClampNeg).toInt < (nt 4 n.toNatClampNeg).toInt → lo' ≤ lo + 1 → wa' ≤ wa + 1 → kX0 d 31 [.ref 0, .int c, .int (nI lo'), .int (nI wa'), .int res] x = some (some (.int (sp_b (sp_lf nt res f c lo' wa'))), x) :=
      fun c lo' wa' h1 h2 h3 h5 => ih d (by omega) c lo' wa' h1 (by omega) (by omega) (by omega)
    have hin := sp_isK_in _ (hF.1 _ hi).1
    simp only [List.mem_cons, List.not_mem_nil, or_false] at hin
    rcases hin with e | e | e | e | e | e | e | e | e | e | e | e | e | e | e | e | e | e | e | e | e | e | e | e | e | e | e | e | e | e | e | e | e | e | e | e | e | e | e | e | e | e | e | e | e | e | e | e | e | e | e | e | e | e | e | e | e | e | e | e | e | e | e | e | e | e | e | e | e | e | e | e | e | e | e | e | e
    · rw [wX0_isLeft_0_out d n (nI lo) (nI wa) res x (by rw [hx.2.2.1, e]; decide), hg, hg, hg, bX0_isLeft_392, sp_lf_s, e]; rfl
    · rw [wX0_isLeft_0_out d n (nI lo) (nI wa) res x (by rw [hx.2.2.1, e]; decide), hg, hg, hg, bX0_isLeft_392, sp_lf_s, e]; rfl
    · rw [wX0_isLeft_0_out d n (nI lo) (nI wa) res x (by rw [hx.2.2.1, e]; decide), hg, hg, hg, bX0_isLeft_392, sp_lf_s, e]; rfl
    · rw [wX0_isLeft_0_out d n (nI lo) (nI wa) res x (by rw [hx.2.2.1, e]; decide), hg, hg, hg, bX0_isLeft_392, sp_lf_s, e]; rfl
    · rw [wX0_isLeft_0_out d n (nI lo) (nI wa) res x (by rw [hx.2.2.1, e]; decide), hg, hg, hg, bX0_isLeft_392, sp_lf_s, e]; rfl
    · rw [wX0_isLeft_0_out d n (nI lo) (nI wa) res x (by rw [hx.2.2.1, e]; decide), hg, hg, hg, bX0_isLeft_392, sp_lf_s, e]; rfl
    · rw [wX0_isLeft_0_out d n (nI lo) (nI wa) res x (by rw [hx.2.2.1, e]; decide), hg, hg, hg, bX0_isLeft_392, sp_lf_s, e]; rfl
    · rw [wX0_isLeft_0_out d n (nI lo) (nI wa) res x (by rw [hx.2.2.1, e]; decide), hg, hg, hg, bX0_isLeft_392, sp_lf_s, e]; rfl
    · rw [wX0_isLeft_0_out d n (nI lo) (nI wa) res x (by rw [hx.2.2.1, e]; decide), hg, hg, hg, bX0_isLeft_392, sp_lf_s, e]; rfl
    · rw [wX0_isLeft_0_out d n (nI lo) (nI wa) res x (by rw [hx.2.2.1, e]; decide), hg, hg, hg, bX0_isLeft_392, sp_lf_s, e]; rfl
    · rw [wX0_isLeft_0_out d n (nI lo) (nI wa) res x (by rw [hx.2.2.1, e]; decide), hg, hg, hg, bX0_isLeft_392, sp_lf_s, e]; rfl
    · rw [wX0_isLeft_0_out d n (nI lo) (nI wa) res x (by rw [hx.2.2.1, e]; decide), hg, hg, hg, bX0_isLeft_392, sp_lf_s, e]; rfl
    · rw [wX0_isLeft_0_out d n (nI lo) (nI wa) res x (by rw [hx.2.2.1, e]; decide), hg, hg, hg, bX0_isLeft_392, sp_lf_s, e]; rfl
    · rw [wX0_isLeft_0_out d n (nI lo) (nI wa) res x (by rw [hx.2.2.1, e]; decide), hg, hg, hg, bX0_isLeft_392, sp_lf_s, e]; rfl
    · rw [wX0_isLeft_0_out d n (nI lo) (nI wa) res x (by rw [hx.2.2.1, e]; decide), hg, hg, hg, bX0_isLeft_392, sp_lf_s, e]; rfl
    · rw [wX0_isLeft_0_out d n (nI lo) (nI wa) res x (by rw [hx.2.2.1, e]; decide), hg, hg, hg, bX0_isLeft_392, sp_lf_s, e]; rfl
    · rw [wX0_isLeft_0_out d n (nI lo) (nI wa) res x (by rw [hx.2.2.1, e]; decide), hg, hg, hg, bX0_isLeft_392, sp_lf_s, e]; rfl
    · rw [wX0_isLeft_0_out d n (nI lo) (nI wa) res x (by rw [hx.2.2.1, e]; decide), hg, hg, hg, bX0_isLeft_392, sp_lf_s, e]; rfl
    · rw [wX0_isLeft_0_out d n (nI lo) (nI wa) res x (by rw [hx.2.2.1, e]; decide), hg, hg, hg, bX0_isLeft_392, sp_lf_s, e]; rfl
    · rw [wX0_isLeft_0_out d n (nI lo) (nI wa) res x (by rw [hx.2.2.1, e]; decide), hg, hg, hg, bX0_isLeft_392, sp_lf_s, e]; rfl
    · rw [wX0_isLeft_0_out d n (nI lo) (nI wa) res x (by rw [hx.2.2.1, e]; decide), hg, hg, hg, bX0_isLeft_392, sp_lf_s, e]; rfl
    · rw [wX0_isLeft_0_out d n (nI lo) (nI wa) res x (by rw [hx.2.2.1, e]; decide), hg, hg, hg, bX0_isLeft_392, sp_lf_s, e]; rfl
    · rw [wX0_isLeft_0_out d n (nI lo) (nI wa) res x (by rw [hx.2.2.1, e]; decide), hg, hg, hg, bX0_isLeft_392, sp_lf_s, e]; rfl
    · rw [wX0_isLeft_0_out d n (nI lo) (nI wa) res x (by rw [hx.2.2.1, e]; decide), hg, hg, hg, bX0_isLeft_392, sp_lf_s, e]; rfl
    · rw [wX0_isLeft_0_out d n (nI lo) (nI wa) res x (by rw [hx.2.2.1, e]; decide), hg, hg, hg, bX0_isLeft_392, sp_lf_s, e]; rfl
    · rw [wX0_isLeft_0_out d n (nI lo) (nI wa) res x (by rw [hx.2.2.1, e]; decide), hg, hg, hg, bX0_isLeft_392, sp_lf_s, e]; rfl
    · rw [wX0_isLeft_0_out d n (nI lo) (nI wa) res x (by rw [hx.2.2.1, e]; decide), hg, hg, hg, bX0_isLeft_392, sp_lf_s, e]; rfl
    · rw [wX0_isLeft_0_out d n (nI lo) (nI wa) res x (by rw [hx.2.2.1, e]; decide), hg, hg, hg, bX0_isLeft_392, sp_lf_s, e]; rfl
    · rw [wX0_isLeft_0_out d n (nI lo) (nI wa) res x (by rw [hx.2.2.1, e]; decide), hg, hg, hg, bX0_isLeft_392, sp_lf_s, e]; rfl
    · rw [wX0_isLeft_0_out d n (nI lo) (nI wa) res x (by rw [hx.2.2.1, e]; decide), hg, hg, hg, bX0_isLeft_392, sp_lf_s, e]; rfl
    · rw [wX0_isLeft_0_out d n (nI lo) (nI wa) res x (by rw [hx.2.2.1, e]; decide), hg, hg, hg, bX0_isLeft_392, sp_lf_s, e]; rfl
    · rw [wX0_isLeft_0_out d n (nI lo) (nI wa) res x (by rw [hx.2.2.1, e]; decide), hg, hg, hg, bX0_isLeft_392, sp_lf_s, e]; rfl
    · rw [wX0_isLeft_0_out d n (nI lo) (nI wa) res x (by rw [hx.2.2.1, e]; decide), hg, hg, hg, bX0_isLeft_392, sp_lf_s, e]; rfl
    · rw [wX0_isLeft_0_out d n (nI lo) (nI wa) res x (by rw [hx.2.2.1, e]; decide), hg, hg, hg, bX0_isLeft_392, sp_lf_s, e]; rfl
    · rw [wX0_isLeft_0_out d n (nI lo) (nI wa) res x (by rw [hx.2.2.1, e]; decide), hg, hg, hg, bX0_isLeft_392, sp_lf_s, e]; rfl
    · rw [wX0_isLeft_0_out d n (nI lo) (nI wa) res x (by rw [hx.2.2.1, e]; decide), hg, hg, hg, bX0_isLeft_392, sp_lf_s, e]; rfl
    · rw [wX0_isLeft_0_out d n (nI lo) (nI wa) res x (by rw [hx.2.2.1, e]; decide), hg, hg, hg, bX0_isLeft_392, sp_lf_s, e]; rfl
    · rw [wX0_isLeft_0_out d n (nI lo) (nI wa) res x (by rw [hx.2.2.1, e]; decide), hg, hg, hg, bX0_isLeft_392, sp_lf_s, e]; rfl
    · rw [wX0_isLeft_0_out d n (nI lo) (nI wa) res x (by rw [hx.2.2.1, e]; decide), hg, hg, hg, bX0_isLeft_392, sp_lf_s, e]; rfl
    · rw [wX0_isLeft_0_out d n (nI lo) (nI wa) res x (by rw [hx.2.2.1, e]; decide), hg, hg, hg, bX0_isLeft_392, sp_lf_s, e]; rfl
    · rw [wX0_isLeft_0_out d n (nI lo) (nI wa) res x (by rw [hx.2.2.1, e]; decide), hg, hg, hg, bX0_isLeft_392, sp_lf_s, e]; rfl
    · rw [wX0_isLeft_0_out d n (nI lo) (nI wa) res x (by rw [hx.2.2.1, e]; decide), hg, hg, hg, bX0_isLeft_392, sp_lf_s, e]; rfl
    · rw [wX0_isLeft_0_out d n (nI lo) (nI wa) res x (by rw [hx.2.2.1, e]; decide), hg, hg, hg, bX0_isLeft_392, sp_lf_s, e]; rfl
    · rw [wX0_isLeft_0_out d n (nI lo) (nI wa) res x (by rw [hx.2.2.1, e]; decide), hg, hg, hg, bX0_isLeft_392, sp_lf_s, e]; rfl
    · rw [wX0_isLeft_0_out d n (nI lo) (nI wa) res x (by rw [hx.2.2.1, e]; decide), hg, hg, hg, bX0_isLeft_392, sp_lf_s, e]; rfl
    · rw [wX0_isLeft_0_out d n (nI lo) (nI wa) res x (by rw [hx.2.2.1, e]; decide), hg, hg, hg, bX0_isLeft_392, sp_lf_s, e]; rfl
    · rw [wX0_isLeft_0_out d n (nI lo) (nI wa) res x (by rw [hx.2.2.1, e]; decide), hg, hg, hg, bX0_isLeft_392, sp_lf_s, e]; rfl
    · rw [wX0_isLeft_0_out d n (nI lo) (nI wa) res x (by rw [hx.2.2.1, e]; decide), hg, hg, hg, bX0_isLeft_392, sp_lf_s, e]; rfl
    · rw [wX0_isLeft_0_out d n (nI lo) (nI wa) res x (by rw [hx.2.2.1, e]; decide), hg, hg, hg, bX0_isLeft_392, sp_lf_s, e]; rfl
    · rw [wX0_isLeft_0_out d n (nI lo) (nI wa) res x (by rw [hx.2.2.1, e]; decide), hg, hg, hg, bX0_isLeft_392, sp_lf_s, e]; rfl
    · rw [wX0_isLeft_0_out d n (nI lo) (nI wa) res x (by rw [hx.2.2.1, e]; decide), hg, hg, hg, bX0_isLeft_392, sp_lf_s, e]; rfl
    · rw [wX0_isLeft_0_out d n (nI lo) (nI wa) res x (by rw [hx.2.2.1, e]; decide), hg, hg, hg, bX0_isLeft_392, sp_lf_s, e]; rfl
    · exact cw_l62 hx hF hM hn (by omega) (by omega) ih2 e
    · exact cw_l63 hx hF hM hn (by omega) (by omega) ih2 e
    · exact cw_l64 hx hF hM hn (by omega) (by omega) ih2 e
    · exact cw_l65 hx hF hM hn (by omega) (by omega) ih2 e
    · exact cw_l66 hx hF hM hn (by omega) (by omega) ih2 e
    · exact cw_l67 hx hF hM hn (by omega) (by omega) ih2 e
    · exact cw_l68 hx hF hM hn (by omega) (by omega) ih2 e
    · exact cw_l69 hx hF hM hn (by omega) (by omega) ih2 e
    · exact cw_l70 hx hF hM hn (by omega) (by omega) ih2 e
    · exact cw_l71 hx hF hM hn (by omega) (by omega) ih2 e
    · exact cw_l72 hx hF hM hn (by omega) (by omega) ih2 e
    · exact cw_l73 hx hF hM hn (by omega) (by omega) ih2 e
    · exact cw_l74 hx hF hM hn (by omega) (by omega) ih2 e
    · exact cw_l75 hx hF hM hn (by omega) (by omega) ih2 e
    · exact cw_l76 hx hF hM hn (by omega) (by omega) ih2 e
    · exact cw_l77 hx hF hM hn (by omega) (by omega) ih2 e
    · exact cw_l78 hx hF hM hn (by omega) (by omega) ih2 e
    · exact cw_l79 hx hF hM hn (by omega) (by omega) ih2 e
    · exact cw_l80 hx hF hM hn (by omega) (by omega) ih2 e
    · exact cw_l81 hx hF hM hn (by omega) (by omega) ih2 e
    · exact cw_l82 hx hF hM hn (by omega) (by omega) ih2 e
    · exact cw_l83 hx hF hM hn (by omega) (by omega) ih2 e
    · exact cw_l84 hx hF hM hn (by omega) (by omega) ih2 e
    · exact cw_l85 hx hF hM hn (by omega) (by omega) ih2 e
    · rw [wX0_isLeft_0_out d n (nI lo) (nI wa) res x (by rw [hx.2.2.1, e]; decide), hg, hg, hg, bX0_isLeft_392, sp_lf_s, e]; rfl
