/-! families of kinds -/
def nD (nt : sp_NT) (n : Int32) : Nat := (nt 4 n.toNatClampNeg).toNatClampNeg
def wTb (nt : sp_NT) (N M : Nat) (res par : Nat → Int32) : Prop := sp_WF nt N M res par ∧ M ≤ 40 ∧ N ≤ 4000
/-- an expression of depth at most f; a statement -/
def wE (nt : sp_NT) (N f : Nat) (n : Int32) : Prop := sp_nd N n = true ∧ sp_E (nK nt n) = true ∧ nD nt n ≤ f
def wA (nt : sp_NT) (N f : Nat) (n : Int32) : Prop := sp_nd N n = true ∧ sp_Sk (nK nt n) = true ∧ nD nt n ≤ f
theorem i_lo {v c : Int32} {k : Nat} (h : c ≤ v) (e : c.toInt = k) : k ≤ v.toNatClampNeg := by
  show k ≤ v.toInt.toNat; have := Int32.le_iff_toInt_le.mp h; omega
theorem i_hi {v c : Int32} {k : Nat} (h : v ≤ c) (e : c.toInt = k) : v.toNatClampNeg ≤ k := by
  show v.toInt.toNat ≤ k; have := Int32.le_iff_toInt_le.mp h; omega
theorem i_hi' {v c : Int32} {k m : Nat} (h : v ≤ c) (e : c.toInt = k) (hm : k ≤ m) : v.toNatClampNeg ≤ m := Nat.le_trans (i_hi h e) hm
theorem i_enum {k lo hi : Int32} {a c : Nat} (h1 : lo ≤ k) (h2 : k ≤ hi) (e1 : lo.toInt = a) (e2 : hi.toInt = a + c) : ∃ j, j ≤ c ∧ k = nI (a + j) := by
  have q1 := Int32.le_iff_toInt_le.mp h1
  have q2 := Int32.le_iff_toInt_le.mp h2
  have q3 := k.toInt_lt
  refine ⟨k.toInt.toNat - a, by omega, ?_⟩
  apply Int32.toInt_inj.mp
  rw [nI_toInt (by omega)]
  omega
theorem sp_i_iff {v lo hi : Int32} (h : sp_i v lo hi = true) : lo ≤ v ∧ v ≤ hi := by unfold sp_i at h; simpa using h
section
variable {nt : sp_NT} {N M : Nat} {res par : Nat → Int32}
theorem wTb.ok (h : wTb nt N M res par) {n : Int32} (hn : sp_nd N n = true) : sp_OK nt M res par n.toNatClampNeg ∧ sp_TY nt n.toNatClampNeg := by
  have hi := sp_nd_lt h.2.2 hn
  exact ⟨h.1.1 _ hi, h.1.ty h.2.1 h.2.2 _ (Nat.le_of_lt hi)⟩
theorem wTb.a (h : wTb nt N M res par) {n : Int32} {f : Nat} (hn : sp_nd N n = true) (hd : nD nt n ≤ f + 1) (hk : sp_hA (nK nt n) = true) (ha : sp_nd n.toNatClampNeg (nA nt n) = true) : sp_nd N (nA nt n) = true ∧ nD nt (nA nt n) ≤ f := by
  obtain ⟨h1, h2⟩ := h.1.ga h.2.2 hn hk ha
  refine ⟨h1, ?_⟩
  have h3 : (nt 4 n.toNatClampNeg).toInt.toNat ≤ f + 1 := hd
  have h4 := (sp_dp1 h.1 h.2.2 hn).1
  have h2 : (nt 4 (nA nt n).toNatClampNeg).toInt < (nt 4 n.toNatClampNeg).toInt := h2
  show (nt 4 (nA nt n).toNatClampNeg).toInt.toNat ≤ f
  omega
theorem wTb.b (h : wTb nt N M res par) {n : Int32} {f : Nat} (hn : sp_nd N n = true) (hd : nD nt n ≤ f + 1) (hk : sp_hB (nK nt n) = true) (hb : sp_nd n.toNatClampNeg (nB nt n) = true) : sp_nd N (nB nt n) = true ∧ nD nt (nB nt n) ≤ f := by
  obtain ⟨h1, h2⟩ := h.1.gb h.2.2 hn hk hb
  refine ⟨h1, ?_⟩
  have h3 : (nt 4 n.toNatClampNeg).toInt.toNat ≤ f + 1 := hd
  have h4 := (sp_dp1 h.1 h.2.2 hn).1
  have h2 : (nt 4 (nB nt n).toNatClampNeg).toInt < (nt 4 n.toNatClampNeg).toInt := h2
  show (nt 4 (nB nt n).toNatClampNeg).toInt.toNat ≤ f
  omega
theorem wTb.d (h : wTb nt N M res par) {n : Int32} (hn : sp_nd N n = true) : 1 ≤ nD nt n ∧ nD nt n ≤ 40 := by
  have h4 := sp_dp1 h.1 h.2.2 hn
  constructor
  · show 1 ≤ (nt 4 n.toNatClampNeg).toInt.toNat; omega
  · show (nt 4 n.toNatClampNeg).toInt.toNat ≤ 40; omega
theorem wTb.t (h : wTb nt N M res par) {n : Int32} (hn : sp_nd N n = true) : nT nt n ≤ 8 ∧ (nK nt n ≤ 47 ∨ nK nt n = 51 → 1 ≤ nT nt n) := by
  obtain ⟨h1, h2, h3, -⟩ := h.1.ty h.2.1 h.2.2 _ (Nat.le_refl _) n hn
  exact ⟨i_hi h2 rfl, fun q => i_lo (h3 q) rfl⟩
theorem wTb.ea (h : wTb nt N M res par) {n : Int32} {f : Nat} (hn : sp_nd N n = true) (hd : nD nt n ≤ f + 1) (hk : sp_hA (nK nt n) = true) (ha : sp_nd n.toNatClampNeg (nA nt n) = true) (hE : sp_E (nK nt (nA nt n)) = true) : wE nt N f (nA nt n) := ⟨(h.a hn hd hk ha).1, hE, (h.a hn hd hk ha).2⟩
theorem wTb.eb (h : wTb nt N M res par) {n : Int32} {f : Nat} (hn : sp_nd N n = true) (hd : nD nt n ≤ f + 1) (hk : sp_hB (nK nt n) = true) (hb : sp_nd n.toNatClampNeg (nB nt n) = true) (hE : sp_E (nK nt (nB nt n)) = true) : wE nt N f (nB nt n) := ⟨(h.b hn hd hk hb).1, hE, (h.b hn hd hk hb).2⟩
theorem wTb.sa (h : wTb nt N M res par) {n : Int32} {f : Nat} (hn : sp_nd N n = true) (hd : nD nt n ≤ f + 1) (hk : sp_hA (nK nt n) = true) (ha : sp_nd n.toNatClampNeg (nA nt n) = true) (hE : sp_Sk (nK nt (nA nt n)) = true) : wA nt N f (nA nt n) := ⟨(h.a hn hd hk ha).1, hE, (h.a hn hd hk ha).2⟩
theorem wTb.sb (h : wTb nt N M res par) {n : Int32} {f : Nat} (hn : sp_nd N n = true) (hd : nD nt n ≤ f + 1) (hk : sp_hB (nK nt n) = true) (hb : sp_nd n.toNatClampNeg (nB nt n) = true) (hE : sp_Sk (nK nt (nB nt n)) = true) : wA nt N f (nB nt n) := ⟨(h.b hn hd hk hb).1, hE, (h.b hn hd hk hb).2⟩
theorem wE_bin (h : wTb nt N M res par) {n : Int32} {f : Nat} (hn : sp_nd N n = true) (hd : nD nt n ≤ f + 1) (h1 : 10 ≤ nK nt n) (h2 : nK nt n ≤ 20) : wE nt N f (nA nt n) ∧ wE nt N f (nB nt n) ∧ 1 ≤ nT nt (nA nt n) ∧ nT nt (nA nt n) ≤ 4 ∧ nT nt (nB nt n) = (if 18 ≤ nK nt n then 1 else nT nt (nA nt n)) ∧ nT nt n = nT nt (nA nt n) := by
  obtain ⟨ho, hT⟩ := h.ok hn
  obtain ⟨j, hj, e⟩ := i_enum (a := 10) (c := 10) h1 h2 rfl rfl
  have hj : j = 0 ∨ j = 1 ∨ j = 2 ∨ j = 3 ∨ j = 4 ∨ j = 5 ∨ j = 6 ∨ j = 7 ∨ j = 8 ∨ j = 9 ∨ j = 10 := by omega
  rcases hj with rfl | rfl | rfl | rfl | rfl | rfl | rfl | rfl | rfl | rfl | rfl
  · have e : nK nt n = 10 := e
    obtain ⟨⟨a1, a2, a3, a4⟩, a5, ⟨b1, b2, b3⟩, t⟩ := sp_k10 ho hT e
    refine ⟨h.ea hn hd (by rw [e]; rfl) a1 a2, h.eb hn hd (by rw [e]; rfl) b1 b2, i_lo a3 rfl, i_hi' a5 rfl (by decide), ?_, congrArg Int32.toNatClampNeg t⟩
    rw [e, if_neg (by decide)]; exact congrArg Int32.toNatClampNeg b3
  · have e : nK nt n = 11 := e
    obtain ⟨⟨a1, a2, a3, a4⟩, a5, ⟨b1, b2, b3⟩, t⟩ := sp_k11 ho hT e
    refine ⟨h.ea hn hd (by rw [e]; rfl) a1 a2, h.eb hn hd (by rw [e]; rfl) b1 b2, i_lo a3 rfl, i_hi' a5 rfl (by decide), ?_, congrArg Int32.toNatClampNeg t⟩
    rw [e, if_neg (by decide)]; exact congrArg Int32.toNatClampNeg b3
  · have e : nK nt n = 12 := e
    obtain ⟨⟨a1, a2, a3, a4⟩, a5, ⟨b1, b2, b3⟩, t⟩ := sp_k12 ho hT e
    refine ⟨h.ea hn hd (by rw [e]; rfl) a1 a2, h.eb hn hd (by rw [e]; rfl) b1 b2, i_lo a3 rfl, i_hi' a5 rfl (by decide), ?_, congrArg Int32.toNatClampNeg t⟩
    rw [e, if_neg (by decide)]; exact congrArg Int32.toNatClampNeg b3
  · have e : nK nt n = 13 := e
    obtain ⟨⟨a1, a2, a3, a4⟩, a5, ⟨b1, b2, b3⟩, t⟩ := sp_k13 ho hT e
    refine ⟨h.ea hn hd (by rw [e]; rfl) a1 a2, h.eb hn hd (by rw [e]; rfl) b1 b2, i_lo a3 rfl, i_hi' a5 rfl (by decide), ?_, congrArg Int32.toNatClampNeg t⟩
    rw [e, if_neg (by decide)]; exact congrArg Int32.toNatClampNeg b3
  · have e : nK nt n = 14 := e
    obtain ⟨⟨a1, a2, a3, a4⟩, a5, ⟨b1, b2, b3⟩, t⟩ := sp_k14 ho hT e
    refine ⟨h.ea hn hd (by rw [e]; rfl) a1 a2, h.eb hn hd (by rw [e]; rfl) b1 b2, i_lo a3 rfl, i_hi' a5 rfl (by decide), ?_, congrArg Int32.toNatClampNeg t⟩
    rw [e, if_neg (by decide)]; exact congrArg Int32.toNatClampNeg b3
  · have e : nK nt n = 15 := e
    obtain ⟨⟨a1, a2, a3, a4⟩, a5, ⟨b1, b2, b3⟩, t⟩ := sp_k15 ho hT e
    refine ⟨h.ea hn hd (by rw [e]; rfl) a1 a2, h.eb hn hd (by rw [e]; rfl) b1 b2, i_lo a3 rfl, i_hi' a5 rfl (by decide), ?_, congrArg Int32.toNatClampNeg t⟩
    rw [e, if_neg (by decide)]; exact congrArg Int32.toNatClampNeg b3
  · have e : nK nt n = 16 := e
    obtain ⟨⟨a1, a2, a3, a4⟩, a5, ⟨b1, b2, b3⟩, t⟩ := sp_k16 ho hT e
    refine ⟨h.ea hn hd (by rw [e]; rfl) a1 a2, h.eb hn hd (by rw [e]; rfl) b1 b2, i_lo a3 rfl, i_hi' a5 rfl (by decide), ?_, congrArg Int32.toNatClampNeg t⟩
    rw [e, if_neg (by decide)]; exact congrArg Int32.toNatClampNeg b3
  · have e : nK nt n = 17 := e
    obtain ⟨⟨a1, a2, a3, a4⟩, a5, ⟨b1, b2, b3⟩, t⟩ := sp_k17 ho hT e
    refine ⟨h.ea hn hd (by rw [e]; rfl) a1 a2, h.eb hn hd (by rw [e]; rfl) b1 b2, i_lo a3 rfl, i_hi' a5 rfl (by decide), ?_, congrArg Int32.toNatClampNeg t⟩
    rw [e, if_neg (by decide)]; exact congrArg Int32.toNatClampNeg b3
  · have e : nK nt n = 18 := e
    obtain ⟨⟨a1, a2, a3, a4⟩, a5, ⟨b1, b2, b3⟩, t⟩ := sp_k18 ho hT e
    refine ⟨h.ea hn hd (by rw [e]; rfl) a1 a2, h.eb hn hd (by rw [e]; rfl) b1 b2, i_lo a3 rfl, i_hi' a5 rfl (by decide), ?_, congrArg Int32.toNatClampNeg t⟩
    rw [e, if_pos (by decide)]; exact congrArg Int32.toNatClampNeg b3
  · have e : nK nt n = 19 := e
    obtain ⟨⟨a1, a2, a3, a4⟩, a5, ⟨b1, b2, b3⟩, t⟩ := sp_k19 ho hT e
    refine ⟨h.ea hn hd (by rw [e]; rfl) a1 a2, h.eb hn hd (by rw [e]; rfl) b1 b2, i_lo a3 rfl, i_hi' a5 rfl (by decide), ?_, congrArg Int32.toNatClampNeg t⟩
    rw [e, if_pos (by decide)]; exact congrArg Int32.toNatClampNeg b3
  · have e : nK nt n = 20 := e
    obtain ⟨⟨a1, a2, a3, a4⟩, a5, ⟨b1, b2, b3⟩, t⟩ := sp_k20 ho hT e
    refine ⟨h.ea hn hd (by rw [e]; rfl) a1 a2, h.eb hn hd (by rw [e]; rfl) b1 b2, i_lo a3 rfl, i_hi' a5 rfl (by decide), ?_, congrArg Int32.toNatClampNeg t⟩
    rw [e, if_pos (by decide)]; exact congrArg Int32.toNatClampNeg b3
theorem wE_cmp (h : wTb nt N M res par) {n : Int32} {f : Nat} (hn : sp_nd N n = true) (hd : nD nt n ≤ f + 1) (h1 : 23 ≤ nK nt n) (h2 : nK nt n ≤ 28) : wE nt N f (nA nt n) ∧ wE nt N f (nB nt n) ∧ 1 ≤ nT nt (nA nt n) ∧ nT nt (nA nt n) ≤ 4 ∧ nT nt (nB nt n) = nT nt (nA nt n) ∧ nT nt n = 1 := by
  obtain ⟨ho, hT⟩ := h.ok hn
  obtain ⟨j, hj, e⟩ := i_enum (a := 23) (c := 5) h1 h2 rfl rfl
  have hj : j = 0 ∨ j = 1 ∨ j = 2 ∨ j = 3 ∨ j = 4 ∨ j = 5 := by omega
  rcases hj with rfl | rfl | rfl | rfl | rfl | rfl
  · have e : nK nt n = 23 := e
    obtain ⟨⟨a1, a2, a3, a4⟩, a5, ⟨b1, b2, b3⟩, t⟩ := sp_k23 ho hT e
    exact ⟨h.ea hn hd (by rw [e]; rfl) a1 a2, h.eb hn hd (by rw [e]; rfl) b1 b2, i_lo a3 rfl, i_hi a5 rfl, congrArg Int32.toNatClampNeg b3, congrArg Int32.toNatClampNeg t⟩
  · have e : nK nt n = 24 := e
    obtain ⟨⟨a1, a2, a3, a4⟩, a5, ⟨b1, b2, b3⟩, t⟩ := sp_k24 ho hT e
    exact ⟨h.ea hn hd (by rw [e]; rfl) a1 a2, h.eb hn hd (by rw [e]; rfl) b1 b2, i_lo a3 rfl, i_hi a5 rfl, congrArg Int32.toNatClampNeg b3, congrArg Int32.toNatClampNeg t⟩
  · have e : nK nt n = 25 := e
    obtain ⟨⟨a1, a2, a3, a4⟩, a5, ⟨b1, b2, b3⟩, t⟩ := sp_k25 ho hT e
    exact ⟨h.ea hn hd (by rw [e]; rfl) a1 a2, h.eb hn hd (by rw [e]; rfl) b1 b2, i_lo a3 rfl, i_hi a5 rfl, congrArg Int32.toNatClampNeg b3, congrArg Int32.toNatClampNeg t⟩
  · have e : nK nt n = 26 := e
    obtain ⟨⟨a1, a2, a3, a4⟩, a5, ⟨b1, b2, b3⟩, t⟩ := sp_k26 ho hT e
    exact ⟨h.ea hn hd (by rw [e]; rfl) a1 a2, h.eb hn hd (by rw [e]; rfl) b1 b2, i_lo a3 rfl, i_hi a5 rfl, congrArg Int32.toNatClampNeg b3, congrArg Int32.toNatClampNeg t⟩
  · have e : nK nt n = 27 := e
    obtain ⟨⟨a1, a2, a3, a4⟩, a5, ⟨b1, b2, b3⟩, t⟩ := sp_k27 ho hT e
    exact ⟨h.ea hn hd (by rw [e]; rfl) a1 a2, h.eb hn hd (by rw [e]; rfl) b1 b2, i_lo a3 rfl, i_hi a5 rfl, congrArg Int32.toNatClampNeg b3, congrArg Int32.toNatClampNeg t⟩
  · have e : nK nt n = 28 := e
    obtain ⟨⟨a1, a2, a3, a4⟩, a5, ⟨b1, b2, b3⟩, t⟩ := sp_k28 ho hT e
    exact ⟨h.ea hn hd (by rw [e]; rfl) a1 a2, h.eb hn hd (by rw [e]; rfl) b1 b2, i_lo a3 rfl, i_hi a5 rfl, congrArg Int32.toNatClampNeg b3, congrArg Int32.toNatClampNeg t⟩
theorem wE_chg (h : wTb nt N M res par) {n : Int32} {f : Nat} (hn : sp_nd N n = true) (hd : nD nt n ≤ f + 1) (h1 : 35 ≤ nK nt n) (h2 : nK nt n ≤ 45) : sp_nd N (nA nt n) = true ∧ nD nt (nA nt n) ≤ f ∧ (nK nt (nA nt n) = 6 ∨ nK nt (nA nt n) = 8) ∧ 1 ≤ nT nt (nA nt n) ∧ nT nt (nA nt n) ≤ 4 ∧ wE nt N f (nB nt n) ∧ nT nt (nB nt n) = (if 43 ≤ nK nt n then 1 else nT nt (nA nt n)) ∧ nT nt n = nT nt (nA nt n) := by
  obtain ⟨ho, hT⟩ := h.ok hn
  obtain ⟨j, hj, e⟩ := i_enum (a := 35) (c := 10) h1 h2 rfl rfl
  have hj : j = 0 ∨ j = 1 ∨ j = 2 ∨ j = 3 ∨ j = 4 ∨ j = 5 ∨ j = 6 ∨ j = 7 ∨ j = 8 ∨ j = 9 ∨ j = 10 := by omega
  rcases hj with rfl | rfl | rfl | rfl | rfl | rfl | rfl | rfl | rfl | rfl | rfl
  · have e : nK nt n = 35 := e
    obtain ⟨⟨a1, a2⟩, a3, a4, ⟨b1, b2, b3⟩, t⟩ := sp_k35 ho hT e
    have q := h.a hn hd (by rw [e]; rfl) a1
    refine ⟨q.1, q.2, a2, i_lo a3 rfl, i_hi' a4 rfl (by decide), h.eb hn hd (by rw [e]; rfl) b1 b2, ?_, congrArg Int32.toNatClampNeg t⟩
    rw [e, if_neg (by decide)]; exact congrArg Int32.toNatClampNeg b3
  · have e : nK nt n = 36 := e
    obtain ⟨⟨a1, a2⟩, a3, a4, ⟨b1, b2, b3⟩, t⟩ := sp_k36 ho hT e
    have q := h.a hn hd (by rw [e]; rfl) a1
    refine ⟨q.1, q.2, a2, i_lo a3 rfl, i_hi' a4 rfl (by decide), h.eb hn hd (by rw [e]; rfl) b1 b2, ?_, congrArg Int32.toNatClampNeg t⟩
    rw [e, if_neg (by decide)]; exact congrArg Int32.toNatClampNeg b3
  · have e : nK nt n = 37 := e
    obtain ⟨⟨a1, a2⟩, a3, a4, ⟨b1, b2, b3⟩, t⟩ := sp_k37 ho hT e
    have q := h.a hn hd (by rw [e]; rfl) a1
    refine ⟨q.1, q.2, a2, i_lo a3 rfl, i_hi' a4 rfl (by decide), h.eb hn hd (by rw [e]; rfl) b1 b2, ?_, congrArg Int32.toNatClampNeg t⟩
    rw [e, if_neg (by decide)]; exact congrArg Int32.toNatClampNeg b3
  · have e : nK nt n = 38 := e
    obtain ⟨⟨a1, a2⟩, a3, a4, ⟨b1, b2, b3⟩, t⟩ := sp_k38 ho hT e
    have q := h.a hn hd (by rw [e]; rfl) a1
    refine ⟨q.1, q.2, a2, i_lo a3 rfl, i_hi' a4 rfl (by decide), h.eb hn hd (by rw [e]; rfl) b1 b2, ?_, congrArg Int32.toNatClampNeg t⟩
    rw [e, if_neg (by decide)]; exact congrArg Int32.toNatClampNeg b3
  · have e : nK nt n = 39 := e
    obtain ⟨⟨a1, a2⟩, a3, a4, ⟨b1, b2, b3⟩, t⟩ := sp_k39 ho hT e
    have q := h.a hn hd (by rw [e]; rfl) a1
    refine ⟨q.1, q.2, a2, i_lo a3 rfl, i_hi' a4 rfl (by decide), h.eb hn hd (by rw [e]; rfl) b1 b2, ?_, congrArg Int32.toNatClampNeg t⟩
    rw [e, if_neg (by decide)]; exact congrArg Int32.toNatClampNeg b3
  · have e : nK nt n = 40 := e
    obtain ⟨⟨a1, a2⟩, a3, a4, ⟨b1, b2, b3⟩, t⟩ := sp_k40 ho hT e
    have q := h.a hn hd (by rw [e]; rfl) a1
    refine ⟨q.1, q.2, a2, i_lo a3 rfl, i_hi' a4 rfl (by decide), h.eb hn hd (by rw [e]; rfl) b1 b2, ?_, congrArg Int32.toNatClampNeg t⟩
    rw [e, if_neg (by decide)]; exact congrArg Int32.toNatClampNeg b3
  · have e : nK nt n = 41 := e
    obtain ⟨⟨a1, a2⟩, a3, a4, ⟨b1, b2, b3⟩, t⟩ := sp_k41 ho hT e
    have q := h.a hn hd (by rw [e]; rfl) a1
    refine ⟨q.1, q.2, a2, i_lo a3 rfl, i_hi' a4 rfl (by decide), h.eb hn hd (by rw [e]; rfl) b1 b2, ?_, congrArg Int32.toNatClampNeg t⟩
    rw [e, if_neg (by decide)]; exact congrArg Int32.toNatClampNeg b3
  · have e : nK nt n = 42 := e
    obtain ⟨⟨a1, a2⟩, a3, a4, ⟨b1, b2, b3⟩, t⟩ := sp_k42 ho hT e
    have q := h.a hn hd (by rw [e]; rfl) a1
    refine ⟨q.1, q.2, a2, i_lo a3 rfl, i_hi' a4 rfl (by decide), h.eb hn hd (by rw [e]; rfl) b1 b2, ?_, congrArg Int32.toNatClampNeg t⟩
    rw [e, if_neg (by decide)]; exact congrArg Int32.toNatClampNeg b3
  · have e : nK nt n = 43 := e
    obtain ⟨⟨a1, a2⟩, a3, a4, ⟨b1, b2, b3⟩, t⟩ := sp_k43 ho hT e
    have q := h.a hn hd (by rw [e]; rfl) a1
    refine ⟨q.1, q.2, a2, i_lo a3 rfl, i_hi' a4 rfl (by decide), h.eb hn hd (by rw [e]; rfl) b1 b2, ?_, congrArg Int32.toNatClampNeg t⟩
    rw [e, if_pos (by decide)]; exact congrArg Int32.toNatClampNeg b3
  · have e : nK nt n = 44 := e
    obtain ⟨⟨a1, a2⟩, a3, a4, ⟨b1, b2, b3⟩, t⟩ := sp_k44 ho hT e
    have q := h.a hn hd (by rw [e]; rfl) a1
    refine ⟨q.1, q.2, a2, i_lo a3 rfl, i_hi' a4 rfl (by decide), h.eb hn hd (by rw [e]; rfl) b1 b2, ?_, congrArg Int32.toNatClampNeg t⟩
    rw [e, if_pos (by decide)]; exact congrArg Int32.toNatClampNeg b3
  · have e : nK nt n = 45 := e
    obtain ⟨⟨a1, a2⟩, a3, a4, ⟨b1, b2, b3⟩, t⟩ := sp_k45 ho hT e
    have q := h.a hn hd (by rw [e]; rfl) a1
    refine ⟨q.1, q.2, a2, i_lo a3 rfl, i_hi' a4 rfl (by decide), h.eb hn hd (by rw [e]; rfl) b1 b2, ?_, congrArg Int32.toNatClampNeg t⟩
    rw [e, if_pos (by decide)]; exact congrArg Int32.toNatClampNeg b3
theorem wE_stp (h : wTb nt N M res par) {n : Int32} {f : Nat} (hn : sp_nd N n = true) (hd : nD nt n ≤ f + 1) (e : nK nt n = 34) : sp_nd N (nA nt n) = true ∧ nD nt (nA nt n) ≤ f ∧ (nK nt (nA nt n) = 6 ∨ nK nt (nA nt n) = 8) ∧ 1 ≤ nT nt (nA nt n) ∧ nT nt (nA nt n) ≤ 4 ∧ 0 ≤ nB nt n ∧ nB nt n ≤ 3 ∧ nT nt n = nT nt (nA nt n) := by
  obtain ⟨ho, hT⟩ := h.ok hn
  obtain ⟨⟨a1, a2⟩, b1, b2, a3, a4, t⟩ := sp_k34 ho hT e
  have q := h.a hn hd (by rw [e]; rfl) a1
  exact ⟨q.1, q.2, a2, i_lo a3 rfl, i_hi' a4 rfl (by decide), b1, b2, congrArg Int32.toNatClampNeg t⟩
theorem wE_con (h : wTb nt N M res par) {n : Int32} {f : Nat} (hn : sp_nd N n = true) (hd : nD nt n ≤ f + 1) (h1 : 1 ≤ nK nt n) (h2 : nK nt n ≤ 4) : nT nt n = (nK nt n).toNatClampNeg := by
  obtain ⟨ho, hT⟩ := h.ok hn
  obtain ⟨j, hj, e⟩ := i_enum (a := 1) (c := 3) h1 h2 rfl rfl
  have hj : j = 0 ∨ j = 1 ∨ j = 2 ∨ j = 3 := by omega
  rcases hj with rfl | rfl | rfl | rfl
  · have e : nK nt n = 1 := e
    have t := sp_k1 ho hT e
    rw [e]; exact congrArg Int32.toNatClampNeg t.2
  · have e : nK nt n = 2 := e
    have t := sp_k2 ho hT e
    rw [e]; exact congrArg Int32.toNatClampNeg t
  · have e : nK nt n = 3 := e
    have t := sp_k3 ho hT e
    rw [e]; exact congrArg Int32.toNatClampNeg t.2
  · have e : nK nt n = 4 := e
    have t := sp_k4 ho hT e
    rw [e]; exact congrArg Int32.toNatClampNeg t
theorem wE_nil (h : wTb nt N M res par) {n : Int32} {f : Nat} (hn : sp_nd N n = true) (hd : nD nt n ≤ f + 1) (e : nK nt n = 51) : 5 ≤ nT nt n ∧ nT nt n ≤ 8 := by
  obtain ⟨ho, hT⟩ := h.ok hn
  obtain ⟨-, a1, t⟩ := sp_k51 ho hT e
  have q := sp_i_iff a1
  show 5 ≤ (nt 3 n.toNatClampNeg).toNatClampNeg ∧ (nt 3 n.toNatClampNeg).toNatClampNeg ≤ 8
  rw [t]; exact ⟨i_lo q.1 rfl, i_hi q.2 rfl⟩
theorem wE_load (h : wTb nt N M res par) {n : Int32} {f : Nat} (hn : sp_nd N n = true) (hd : nD nt n ≤ f + 1) (e : nK nt n = 6) : sp_nd N (nA nt n) = true ∧ nK nt (nA nt n) = 5 ∧ nT nt n = nT nt (nA nt n) := by
  obtain ⟨ho, hT⟩ := h.ok hn
  obtain ⟨⟨a1, a2⟩, -, t⟩ := sp_k6 ho hT e
  exact ⟨sp_nd_mono (Nat.le_of_lt (sp_nd_lt h.2.2 hn)) h.2.2 a1, a2, congrArg Int32.toNatClampNeg t⟩
theorem wE_store (h : wTb nt N M res par) {n : Int32} {f : Nat} (hn : sp_nd N n = true) (hd : nD nt n ≤ f + 1) (e : nK nt n = 7) : sp_nd N (nA nt n) = true ∧ nK nt (nA nt n) = 5 ∧ wE nt N f (nB nt n) ∧ nT nt (nB nt n) = nT nt (nA nt n) ∧ nT nt n = nT nt (nA nt n) := by
  obtain ⟨ho, hT⟩ := h.ok hn
  obtain ⟨⟨a1, a2⟩, ⟨b1, b2, b3⟩, t⟩ := sp_k7 ho hT e
  exact ⟨sp_nd_mono (Nat.le_of_lt (sp_nd_lt h.2.2 hn)) h.2.2 a1, a2, h.eb hn hd (by rw [e]; rfl) b1 b2, congrArg Int32.toNatClampNeg b3, congrArg Int32.toNatClampNeg t⟩
theorem wE_at (h : wTb nt N M res par) {n : Int32} {f : Nat} (hn : sp_nd N n = true) (hd : nD nt n ≤ f + 1) (e : nK nt n = 8) : wE nt N f (nA nt n) ∧ wE nt N f (nB nt n) ∧ 5 ≤ nT nt (nA nt n) ∧ nT nt (nA nt n) ≤ 8 ∧ nT nt (nB nt n) = 1 ∧ nT nt n = w_el (nT nt (nA nt n)) := by
  obtain ⟨ho, hT⟩ := h.ok hn
  obtain ⟨⟨a1, a2, a3, a4⟩, a5, ⟨b1, b2, b3⟩, t⟩ := sp_k8 ho hT e
  refine ⟨h.ea hn hd (by rw [e]; rfl) a1 a2, h.eb hn hd (by rw [e]; rfl) b1 b2, i_lo a5 rfl, i_hi a4 rfl, congrArg Int32.toNatClampNeg b3, ?_⟩
  obtain ⟨j, hj, e2⟩ := i_enum (a := 5) (c := 3) a5 a4 rfl rfl
  have hj : j = 0 ∨ j = 1 ∨ j = 2 ∨ j = 3 := by omega
  show (nt 3 n.toNatClampNeg).toNatClampNeg = w_el ((nt 3 (nA nt n).toNatClampNeg).toNatClampNeg)
  rw [t, e2]
  rcases hj with rfl | rfl | rfl | rfl <;> rfl
theorem wE_put (h : wTb nt N M res par) {n : Int32} {f : Nat} (hn : sp_nd N n = true) (hd : nD nt n ≤ f + 1) (e : nK nt n = 9) : sp_nd N (nA nt n) = true ∧ nD nt (nA nt n) ≤ f ∧ nK nt (nA nt n) = 8 ∧ wE nt N f (nB nt n) ∧ nT nt (nB nt n) = nT nt (nA nt n) ∧ nT nt n = nT nt (nA nt n) := by
  obtain ⟨ho, hT⟩ := h.ok hn
  obtain ⟨⟨a1, a2⟩, ⟨b1, b2, b3⟩, t⟩ := sp_k9 ho hT e
  have q := h.a hn hd (by rw [e]; rfl) a1
  exact ⟨q.1, q.2, a2, h.eb hn hd (by rw [e]; rfl) b1 b2, congrArg Int32.toNatClampNeg b3, congrArg Int32.toNatClampNeg t⟩
theorem wE_neg (h : wTb nt N M res par) {n : Int32} {f : Nat} (hn : sp_nd N n = true) (hd : nD nt n ≤ f + 1) (e : nK nt n = 21) : wE nt N f (nA nt n) ∧ 1 ≤ nT nt (nA nt n) ∧ nT nt (nA nt n) ≤ 4 ∧ nT nt n = nT nt (nA nt n) := by
  obtain ⟨ho, hT⟩ := h.ok hn
  obtain ⟨⟨a1, a2, a3, a4⟩, a5, -, t⟩ := sp_k21 ho hT e
  exact ⟨h.ea hn hd (by rw [e]; rfl) a1 a2, i_lo a3 rfl, i_hi a5 rfl, congrArg Int32.toNatClampNeg t⟩
theorem wE_cast (h : wTb nt N M res par) {n : Int32} {f : Nat} (hn : sp_nd N n = true) (hd : nD nt n ≤ f + 1) (e : nK nt n = 22) : wE nt N f (nB nt n) ∧ 1 ≤ nT nt (nB nt n) ∧ nT nt (nB nt n) ≤ 4 ∧ ((1 ≤ (nA nt n).toNatClampNeg ∧ (nA nt n).toNatClampNeg ≤ 4) ∨ (9 ≤ (nA nt n).toNatClampNeg ∧ (nA nt n).toNatClampNeg ≤ 11)) ∧ 0 ≤ nA nt n ∧ nT nt n = (if 4 < (nA nt n).toNatClampNeg then 1 else (nA nt n).toNatClampNeg) := by
  obtain ⟨ho, hT⟩ := h.ok hn
  obtain ⟨⟨b1, b2, b3, b4⟩, b5, a1, t⟩ := sp_k22 ho hT e
  have t : nt 3 n.toNatClampNeg = if nA nt n ≤ 4 then nA nt n else 1 := t
  rw [Bool.or_eq_true] at a1
  have q0 : ∀ c : Int32, 1 ≤ c → 0 ≤ c := fun c hc => Int32.le_trans (by decide) hc
  show wE nt N f (nB nt n) ∧ 1 ≤ nT nt (nB nt n) ∧ nT nt (nB nt n) ≤ 4 ∧ _ ∧ 0 ≤ nA nt n ∧ (nt 3 n.toNatClampNeg).toNatClampNeg = _
  rw [t]
  refine ⟨h.eb hn hd (by rw [e]; rfl) b1 b2, i_lo b3 rfl, i_hi b5 rfl, ?_⟩
  rcases a1 with a1 | a1
  · have q := sp_i_iff a1
    have q1 : 1 ≤ (nA nt n).toNatClampNeg := i_lo q.1 rfl
    have q2 : (nA nt n).toNatClampNeg ≤ 4 := i_hi q.2 rfl
    rw [if_pos q.2, if_neg (by omega)]
    exact ⟨Or.inl ⟨q1, q2⟩, q0 _ q.1, rfl⟩
  · have q := sp_i_iff a1
    have q1 : 9 ≤ (nA nt n).toNatClampNeg := i_lo q.1 rfl
    have q2 : (nA nt n).toNatClampNeg ≤ 11 := i_hi q.2 rfl
    rw [if_neg (fun q3 => by have q4 : (nA nt n).toNatClampNeg ≤ 4 := i_hi q3 rfl; omega), if_pos (by omega)]
    exact ⟨Or.inr ⟨q1, q2⟩, Int32.le_trans (by decide) q.1, rfl⟩
theorem wE_both (h : wTb nt N M res par) {n : Int32} {f : Nat} (hn : sp_nd N n = true) (hd : nD nt n ≤ f + 1) (e : nK nt n = 29) : wE nt N f (nA nt n) ∧ nT nt (nA nt n) = 1 ∧ wE nt N f (nB nt n) ∧ nT nt (nB nt n) = 1 ∧ nT nt n = 1 := by
  obtain ⟨ho, hT⟩ := h.ok hn
  obtain ⟨⟨a1, a2, a3⟩, ⟨b1, b2, b3⟩, t⟩ := sp_k29 ho hT e
  exact ⟨h.ea hn hd (by rw [e]; rfl) a1 a2, congrArg Int32.toNatClampNeg a3, h.eb hn hd (by rw [e]; rfl) b1 b2, congrArg Int32.toNatClampNeg b3, congrArg Int32.toNatClampNeg t⟩
theorem wE_either (h : wTb nt N M res par) {n : Int32} {f : Nat} (hn : sp_nd N n = true) (hd : nD nt n ≤ f + 1) (e : nK nt n = 30) : wE nt N f (nA nt n) ∧ nT nt (nA nt n) = 1 ∧ wE nt N f (nB nt n) ∧ nT nt (nB nt n) = 1 ∧ nT nt n = 1 := by
  obtain ⟨ho, hT⟩ := h.ok hn
  obtain ⟨⟨a1, a2, a3⟩, ⟨b1, b2, b3⟩, t⟩ := sp_k30 ho hT e
  exact ⟨h.ea hn hd (by rw [e]; rfl) a1 a2, congrArg Int32.toNatClampNeg a3, h.eb hn hd (by rw [e]; rfl) b1 b2, congrArg Int32.toNatClampNeg b3, congrArg Int32.toNatClampNeg t⟩
theorem wE_not (h : wTb nt N M res par) {n : Int32} {f : Nat} (hn : sp_nd N n = true) (hd : nD nt n ≤ f + 1) (e : nK nt n = 31) : wE nt N f (nA nt n) ∧ nT nt (nA nt n) = 1 ∧ nT nt n = 1 := by
  obtain ⟨ho, hT⟩ := h.ok hn
  obtain ⟨⟨a1, a2, a3⟩, -, t⟩ := sp_k31 ho hT e
  exact ⟨h.ea hn hd (by rw [e]; rfl) a1 a2, congrArg Int32.toNatClampNeg a3, congrArg Int32.toNatClampNeg t⟩
theorem wE_pair (h : wTb nt N M res par) {n : Int32} {f : Nat} (hn : sp_nd N n = true) (hd : nD nt n ≤ f + 1) (e : nK nt n = 33) : wE nt N f (nA nt n) ∧ wE nt N f (nB nt n) ∧ 1 ≤ nT nt (nA nt n) ∧ nT nt (nA nt n) ≤ 8 ∧ nT nt (nB nt n) = nT nt (nA nt n) ∧ nT nt n = nT nt (nA nt n) := by
  obtain ⟨ho, hT⟩ := h.ok hn
  obtain ⟨⟨a1, a2, a3, a4⟩, ⟨b1, b2, b3⟩, t⟩ := sp_k33 ho hT e
  exact ⟨h.ea hn hd (by rw [e]; rfl) a1 a2, h.eb hn hd (by rw [e]; rfl) b1 b2, i_lo a3 rfl, i_hi a4 rfl, congrArg Int32.toNatClampNeg b3, congrArg Int32.toNatClampNeg t⟩
theorem wE_choose (h : wTb nt N M res par) {n : Int32} {f : Nat} (hn : sp_nd N n = true) (hd : nD nt n ≤ f + 1) (e : nK nt n = 32) : wE nt N f (nA nt n) ∧ nT nt (nA nt n) = 1 ∧ sp_nd N (nB nt n) = true ∧ nD nt (nB nt n) ≤ f ∧ nK nt (nB nt n) = 33 ∧ nT nt n = nT nt (nB nt n) := by
  obtain ⟨ho, hT⟩ := h.ok hn
  obtain ⟨⟨a1, a2, a3⟩, ⟨b1, b2⟩, t⟩ := sp_k32 ho hT e
  have q := h.b hn hd (by rw [e]; rfl) b1
  exact ⟨h.ea hn hd (by rw [e]; rfl) a1 a2, congrArg Int32.toNatClampNeg a3, q.1, q.2, b2, congrArg Int32.toNatClampNeg t⟩
theorem wE_make (h : wTb nt N M res par) {n : Int32} {f : Nat} (hn : sp_nd N n = true) (hd : nD nt n ≤ f + 1) (e : nK nt n = 46) : 5 ≤ (nA nt n).toNatClampNeg ∧ (nA nt n).toNatClampNeg ≤ 8 ∧ 0 ≤ nA nt n ∧ wE nt N f (nB nt n) ∧ nT nt (nB nt n) = 1 ∧ nT nt n = (nA nt n).toNatClampNeg := by
  obtain ⟨ho, hT⟩ := h.ok hn
  obtain ⟨a1, ⟨b1, b2, b3⟩, t⟩ := sp_k46 ho hT e
  have q := sp_i_iff a1
  exact ⟨i_lo q.1 rfl, i_hi q.2 rfl, Int32.le_trans (by decide) q.1, h.eb hn hd (by rw [e]; rfl) b1 b2, congrArg Int32.toNatClampNeg b3, congrArg Int32.toNatClampNeg t⟩
theorem wE_len (h : wTb nt N M res par) {n : Int32} {f : Nat} (hn : sp_nd N n = true) (hd : nD nt n ≤ f + 1) (e : nK nt n = 47) : wE nt N f (nA nt n) ∧ 5 ≤ nT nt (nA nt n) ∧ nT nt (nA nt n) ≤ 8 ∧ nT nt n = 1 := by
  obtain ⟨ho, hT⟩ := h.ok hn
  obtain ⟨⟨a1, a2, a3, a4⟩, a5, -, t⟩ := sp_k47 ho hT e
  exact ⟨h.ea hn hd (by rw [e]; rfl) a1 a2, i_lo a5 rfl, i_hi a4 rfl, congrArg Int32.toNatClampNeg t⟩
theorem wE_call (h : wTb nt N M res par) {n : Int32} {f : Nat} (hn : sp_nd N n = true) (hd : nD nt n ≤ f + 1) (e : nK nt n = 48) : sp_nd M (nA nt n) = true ∧ (nB nt n = -1 ∨ (sp_nd N (nB nt n) = true ∧ nD nt (nB nt n) ≤ f ∧ nK nt (nB nt n) = 49)) ∧ nt 3 n.toNatClampNeg = res (nA nt n).toNatClampNeg ∧ (sp_chain nt 4001 (par (nA nt n).toNatClampNeg)).map (sp_tya nt) = (sp_chain nt 4001 (nB nt n)).map (sp_tya nt) := by
  obtain ⟨ho, hT⟩ := h.ok hn
  obtain ⟨a1, b1, t, c⟩ := sp_k48 ho hT e
  refine ⟨a1, ?_, t, c⟩
  rcases b1 with b1 | ⟨b1, b2⟩
  · exact Or.inl b1
  · have q := h.b hn hd (by rw [e]; rfl) b1
    exact Or.inr ⟨q.1, q.2, b2⟩
theorem wE_given (h : wTb nt N M res par) {n : Int32} {f : Nat} (hn : sp_nd N n = true) (hd : nD nt n ≤ f + 1) (e : nK nt n = 49) : (wE nt N f (nA nt n) ∧ 1 ≤ nT nt (nA nt n) ∧ nT nt (nA nt n) ≤ 8) ∧ (nB nt n = -1 ∨ (sp_nd N (nB nt n) = true ∧ nD nt (nB nt n) ≤ f ∧ nK nt (nB nt n) = 49)) := by
  obtain ⟨ho, hT⟩ := h.ok hn
  obtain ⟨⟨a1, a2, a3, a4⟩, b1⟩ := sp_k49 ho hT e
  refine ⟨⟨h.ea hn hd (by rw [e]; rfl) a1 a2, i_lo a3 rfl, i_hi a4 rfl⟩, ?_⟩
  rcases b1 with b1 | ⟨b1, b2⟩
  · exact Or.inl b1
  · have q := h.b hn hd (by rw [e]; rfl) b1
    exact Or.inr ⟨q.1, q.2, b2⟩
theorem wE_catches (h : wTb nt N M res par) {n : Int32} {f : Nat} (hn : sp_nd N n = true) (hd : nD nt n ≤ f + 1) (e : nK nt n = 76) : (sp_nd N (nA nt n) = true ∧ nD nt (nA nt n) ≤ f ∧ (nK nt (nA nt n) = 77 ∨ nK nt (nA nt n) = 78)) ∧ (nB nt n = -1 ∨ (sp_nd N (nB nt n) = true ∧ nD nt (nB nt n) ≤ f ∧ nK nt (nB nt n) = 76)) := by
  obtain ⟨ho, hT⟩ := h.ok hn
  obtain ⟨⟨a1, a2⟩, b1⟩ := sp_k76 ho hT e
  have q := h.a hn hd (by rw [e]; rfl) a1
  refine ⟨⟨q.1, q.2, a2⟩, ?_⟩
  rcases b1 with b1 | ⟨b1, b2⟩
  · exact Or.inl b1
  · have q := h.b hn hd (by rw [e]; rfl) b1
    exact Or.inr ⟨q.1, q.2, b2⟩
theorem wE_cases (h : wTb nt N M res par) {n : Int32} {f : Nat} (hn : sp_nd N n = true) (hd : nD nt n ≤ f + 1) (e : nK nt n = 82) : (sp_nd N (nA nt n) = true ∧ nD nt (nA nt n) ≤ f ∧ (nK nt (nA nt n) = 83 ∨ nK nt (nA nt n) = 84)) ∧ (nB nt n = -1 ∨ (sp_nd N (nB nt n) = true ∧ nD nt (nB nt n) ≤ f ∧ nK nt (nB nt n) = 82)) := by
  obtain ⟨ho, hT⟩ := h.ok hn
  obtain ⟨⟨a1, a2⟩, b1⟩ := sp_k82 ho hT e
  have q := h.a hn hd (by rw [e]; rfl) a1
  refine ⟨⟨q.1, q.2, a2⟩, ?_⟩
  rcases b1 with b1 | ⟨b1, b2⟩
  · exact Or.inl b1
  · have q := h.b hn hd (by rw [e]; rfl) b1
    exact Or.inr ⟨q.1, q.2, b2⟩
theorem wE_param (h : wTb nt N M res par) {n : Int32} {f : Nat} (hn : sp_nd N n = true) (hd : nD nt n ≤ f + 1) (e : nK nt n = 86) : (sp_nd N (nA nt n) = true ∧ nK nt (nA nt n) = 5) ∧ (nB nt n = -1 ∨ (sp_nd N (nB nt n) = true ∧ nD nt (nB nt n) ≤ f ∧ nK nt (nB nt n) = 86)) := by
  obtain ⟨ho, hT⟩ := h.ok hn
  obtain ⟨⟨a1, a2⟩, b1⟩ := sp_k86 ho hT e
  have q := h.a hn hd (by rw [e]; rfl) a1
  refine ⟨⟨q.1, a2⟩, ?_⟩
  rcases b1 with b1 | ⟨b1, b2⟩
  · exact Or.inl b1
  · have q := h.b hn hd (by rw [e]; rfl) b1
    exact Or.inr ⟨q.1, q.2, b2⟩
theorem wE_expr (h : wTb nt N M res par) {n : Int32} {f : Nat} (hn : sp_nd N n = true) (hd : nD nt n ≤ f + 1) (e : nK nt n = 60) : wE nt N f (nA nt n) := by
  obtain ⟨ho, hT⟩ := h.ok hn
  obtain ⟨a1, -⟩ := sp_k60 ho hT e
  rcases a1 with ⟨a1, a2, -⟩ | ⟨a1, a2⟩
  · exact h.ea hn hd (by rw [e]; rfl) a1 a2
  · exact h.ea hn hd (by rw [e]; rfl) a1 (by rw [show nK nt (nA nt n) = 48 from a2]; rfl)
theorem wE_decl (h : wTb nt N M res par) {n : Int32} {f : Nat} (hn : sp_nd N n = true) (hd : nD nt n ≤ f + 1) (e : nK nt n = 61) : sp_nd N (nA nt n) = true ∧ nK nt (nA nt n) = 5 ∧ wE nt N f (nB nt n) ∧ nT nt (nB nt n) = nT nt (nA nt n) ∧ 1 ≤ nT nt (nA nt n) := by
  obtain ⟨ho, hT⟩ := h.ok hn
  obtain ⟨⟨a1, a2⟩, ⟨b1, b2, b3⟩⟩ := sp_k61 ho hT e
  have q := h.a hn hd (by rw [e]; rfl) a1
  exact ⟨q.1, a2, h.eb hn hd (by rw [e]; rfl) b1 b2, congrArg Int32.toNatClampNeg b3, (h.t q.1).2 (Or.inl (by rw [show nK nt (nA nt n) = 5 from a2]; decide))⟩
theorem wE_seq (h : wTb nt N M res par) {n : Int32} {f : Nat} (hn : sp_nd N n = true) (hd : nD nt n ≤ f + 1) (e : nK nt n = 62) : wA nt N f (nA nt n) ∧ wA nt N f (nB nt n) := by
  obtain ⟨ho, hT⟩ := h.ok hn
  obtain ⟨⟨a1, a2⟩, ⟨b1, b2⟩⟩ := sp_k62 ho hT e
  exact ⟨h.sa hn hd (by rw [e]; rfl) a1 a2, h.sb hn hd (by rw [e]; rfl) b1 b2⟩
theorem wE_branch (h : wTb nt N M res par) {n : Int32} {f : Nat} (hn : sp_nd N n = true) (hd : nD nt n ≤ f + 1) (e : nK nt n = 66) : wA nt N f (nA nt n) ∧ wA nt N f (nB nt n) := by
  obtain ⟨ho, hT⟩ := h.ok hn
  obtain ⟨⟨a1, a2⟩, ⟨b1, b2⟩⟩ := sp_k66 ho hT e
  exact ⟨h.sa hn hd (by rw [e]; rfl) a1 a2, h.sb hn hd (by rw [e]; rfl) b1 b2⟩
theorem wE_fin (h : wTb nt N M res par) {n : Int32} {f : Nat} (hn : sp_nd N n = true) (hd : nD nt n ≤ f + 1) (e : nK nt n = 79) : wA nt N f (nA nt n) ∧ wA nt N f (nB nt n) := by
  obtain ⟨ho, hT⟩ := h.ok hn
  obtain ⟨⟨a1, a2⟩, ⟨b1, b2⟩⟩ := sp_k79 ho hT e
  exact ⟨h.sa hn hd (by rw [e]; rfl) a1 a2, h.sb hn hd (by rw [e]; rfl) b1 b2⟩
theorem wE_block (h : wTb nt N M res par) {n : Int32} {f : Nat} (hn : sp_nd N n = true) (hd : nD nt n ≤ f + 1) (e : nK nt n = 63) : wA nt N f (nA nt n) := by
  obtain ⟨ho, hT⟩ := h.ok hn
  obtain ⟨⟨a1, a2⟩, -⟩ := sp_k63 ho hT e
  exact h.sa hn hd (by rw [e]; rfl) a1 a2
theorem wE_if (h : wTb nt N M res par) {n : Int32} {f : Nat} (hn : sp_nd N n = true) (hd : nD nt n ≤ f + 1) (e : nK nt n = 64) : wE nt N f (nA nt n) ∧ nT nt (nA nt n) = 1 ∧ wA nt N f (nB nt n) := by
  obtain ⟨ho, hT⟩ := h.ok hn
  obtain ⟨⟨a1, a2, a3⟩, ⟨b1, b2⟩⟩ := sp_k64 ho hT e
  exact ⟨h.ea hn hd (by rw [e]; rfl) a1 a2, congrArg Int32.toNatClampNeg a3, h.sb hn hd (by rw [e]; rfl) b1 b2⟩
theorem wE_while (h : wTb nt N M res par) {n : Int32} {f : Nat} (hn : sp_nd N n = true) (hd : nD nt n ≤ f + 1) (e : nK nt n = 67) : wE nt N f (nA nt n) ∧ nT nt (nA nt n) = 1 ∧ wA nt N f (nB nt n) := by
  obtain ⟨ho, hT⟩ := h.ok hn
  obtain ⟨⟨a1, a2, a3⟩, ⟨b1, b2⟩⟩ := sp_k67 ho hT e
  exact ⟨h.ea hn hd (by rw [e]; rfl) a1 a2, congrArg Int32.toNatClampNeg a3, h.sb hn hd (by rw [e]; rfl) b1 b2⟩
theorem wE_head (h : wTb nt N M res par) {n : Int32} {f : Nat} (hn : sp_nd N n = true) (hd : nD nt n ≤ f + 1) (e : nK nt n = 70) : wE nt N f (nA nt n) ∧ nT nt (nA nt n) = 1 ∧ wA nt N f (nB nt n) := by
  obtain ⟨ho, hT⟩ := h.ok hn
  obtain ⟨⟨a1, a2, a3⟩, ⟨b1, b2⟩⟩ := sp_k70 ho hT e
  exact ⟨h.ea hn hd (by rw [e]; rfl) a1 a2, congrArg Int32.toNatClampNeg a3, h.sb hn hd (by rw [e]; rfl) b1 b2⟩
theorem wE_ifelse (h : wTb nt N M res par) {n : Int32} {f : Nat} (hn : sp_nd N n = true) (hd : nD nt n ≤ f + 1) (e : nK nt n = 65) : wE nt N f (nA nt n) ∧ nT nt (nA nt n) = 1 ∧ sp_nd N (nB nt n) = true ∧ nD nt (nB nt n) ≤ f ∧ nK nt (nB nt n) = 66 := by
  obtain ⟨ho, hT⟩ := h.ok hn
  obtain ⟨⟨a1, a2, a3⟩, ⟨b1, b2⟩⟩ := sp_k65 ho hT e
  have q := h.b hn hd (by rw [e]; rfl) b1
  exact ⟨h.ea hn hd (by rw [e]; rfl) a1 a2, congrArg Int32.toNatClampNeg a3, q.1, q.2, b2⟩
theorem wE_until (h : wTb nt N M res par) {n : Int32} {f : Nat} (hn : sp_nd N n = true) (hd : nD nt n ≤ f + 1) (e : nK nt n = 68) : wA nt N f (nA nt n) ∧ wE nt N f (nB nt n) ∧ nT nt (nB nt n) = 1 := by
  obtain ⟨ho, hT⟩ := h.ok hn
  obtain ⟨⟨a1, a2⟩, ⟨b1, b2, b3⟩⟩ := sp_k68 ho hT e
  exact ⟨h.sa hn hd (by rw [e]; rfl) a1 a2, h.eb hn hd (by rw [e]; rfl) b1 b2, congrArg Int32.toNatClampNeg b3⟩
theorem wE_for (h : wTb nt N M res par) {n : Int32} {f : Nat} (hn : sp_nd N n = true) (hd : nD nt n ≤ f + 1) (e : nK nt n = 69) : sp_nd N (nA nt n) = true ∧ nD nt (nA nt n) ≤ f ∧ nK nt (nA nt n) = 70 ∧ wA nt N f (nB nt n) := by
  obtain ⟨ho, hT⟩ := h.ok hn
  obtain ⟨⟨a1, a2⟩, ⟨b1, b2⟩⟩ := sp_k69 ho hT e
  have q := h.a hn hd (by rw [e]; rfl) a1
  exact ⟨q.1, q.2, a2, h.sb hn hd (by rw [e]; rfl) b1 b2⟩
theorem wE_ret (h : wTb nt N M res par) {n : Int32} {f : Nat} (hn : sp_nd N n = true) (hd : nD nt n ≤ f + 1) (e : nK nt n = 73) : nA nt n = -1 ∨ (wE nt N f (nA nt n) ∧ 1 ≤ nT nt (nA nt n) ∧ nT nt (nA nt n) ≤ 8) := by
  obtain ⟨ho, hT⟩ := h.ok hn
  obtain ⟨-, a⟩ := sp_k73 ho hT e
  rcases a with a | ⟨a1, a2, a3, a4⟩
  · exact Or.inl a
  · exact Or.inr ⟨h.ea hn hd (by rw [e]; rfl) a1 a2, i_lo a3 rfl, i_hi a4 rfl⟩
theorem wE_throw (h : wTb nt N M res par) {n : Int32} {f : Nat} (hn : sp_nd N n = true) (hd : nD nt n ≤ f + 1) (e : nK nt n = 74) : wE nt N f (nA nt n) ∧ nT nt (nA nt n) = 1 := by
  obtain ⟨ho, hT⟩ := h.ok hn
  obtain ⟨-, a1, a2, a3⟩ := sp_k74 ho hT e
  exact ⟨h.ea hn hd (by rw [e]; rfl) a1 a2, congrArg Int32.toNatClampNeg a3⟩
theorem wE_try (h : wTb nt N M res par) {n : Int32} {f : Nat} (hn : sp_nd N n = true) (hd : nD nt n ≤ f + 1) (e : nK nt n = 75) : wA nt N f (nA nt n) ∧ sp_nd N (nB nt n) = true ∧ nD nt (nB nt n) ≤ f ∧ nK nt (nB nt n) = 76 := by
  obtain ⟨ho, hT⟩ := h.ok hn
  obtain ⟨⟨a1, a2⟩, ⟨b1, b2⟩⟩ := sp_k75 ho hT e
  have q := h.b hn hd (by rw [e]; rfl) b1
  exact ⟨h.sa hn hd (by rw [e]; rfl) a1 a2, q.1, q.2, b2⟩
theorem wE_catch (h : wTb nt N M res par) {n : Int32} {f : Nat} (hn : sp_nd N n = true) (hd : nD nt n ≤ f + 1) (e : nK nt n = 77) : 0 ≤ nA nt n ∧ nA nt n ≤ 7 ∧ wA nt N f (nB nt n) := by
  obtain ⟨ho, hT⟩ := h.ok hn
  obtain ⟨a1, a2, ⟨b1, b2⟩⟩ := sp_k77 ho hT e
  exact ⟨a1, a2, h.sb hn hd (by rw [e]; rfl) b1 b2⟩
theorem wE_with (h : wTb nt N M res par) {n : Int32} {f : Nat} (hn : sp_nd N n = true) (hd : nD nt n ≤ f + 1) (e : nK nt n = 78) : sp_nd N (nA nt n) = true ∧ nK nt (nA nt n) = 5 ∧ nT nt (nA nt n) = 1 ∧ sp_nd N (nB nt n) = true ∧ nD nt (nB nt n) ≤ f ∧ nK nt (nB nt n) = 77 := by
  obtain ⟨ho, hT⟩ := h.ok hn
  obtain ⟨⟨a1, a2⟩, a3, ⟨b1, b2⟩⟩ := sp_k78 ho hT e
  have q := h.b hn hd (by rw [e]; rfl) b1
  have q0 := h.a hn hd (by rw [e]; rfl) a1
  exact ⟨q0.1, a2, congrArg Int32.toNatClampNeg a3, q.1, q.2, b2⟩
theorem wE_lock (h : wTb nt N M res par) {n : Int32} {f : Nat} (hn : sp_nd N n = true) (hd : nD nt n ≤ f + 1) (e : nK nt n = 80) : wE nt N f (nA nt n) ∧ 5 ≤ nT nt (nA nt n) ∧ nT nt (nA nt n) ≤ 8 ∧ wA nt N f (nB nt n) := by
  obtain ⟨ho, hT⟩ := h.ok hn
  obtain ⟨⟨a1, a2, a3, a4⟩, a5, ⟨b1, b2⟩⟩ := sp_k80 ho hT e
  exact ⟨h.ea hn hd (by rw [e]; rfl) a1 a2, i_lo a5 rfl, i_hi a4 rfl, h.sb hn hd (by rw [e]; rfl) b1 b2⟩
theorem wE_switch (h : wTb nt N M res par) {n : Int32} {f : Nat} (hn : sp_nd N n = true) (hd : nD nt n ≤ f + 1) (e : nK nt n = 81) : wE nt N f (nA nt n) ∧ nT nt (nA nt n) = 1 ∧ sp_nd N (nB nt n) = true ∧ nD nt (nB nt n) ≤ f ∧ nK nt (nB nt n) = 82 := by
  obtain ⟨ho, hT⟩ := h.ok hn
  obtain ⟨⟨a1, a2, a3⟩, ⟨b1, b2⟩⟩ := sp_k81 ho hT e
  have q := h.b hn hd (by rw [e]; rfl) b1
  exact ⟨h.ea hn hd (by rw [e]; rfl) a1 a2, congrArg Int32.toNatClampNeg a3, q.1, q.2, b2⟩
theorem wE_case (h : wTb nt N M res par) {n : Int32} {f : Nat} (hn : sp_nd N n = true) (hd : nD nt n ≤ f + 1) (e : nK nt n = 83) : wA nt N f (nB nt n) := by
  obtain ⟨ho, hT⟩ := h.ok hn
  obtain ⟨b1, b2⟩ := sp_k83 ho hT e
  exact h.sb hn hd (by rw [e]; rfl) b1 b2
theorem wE_dflt (h : wTb nt N M res par) {n : Int32} {f : Nat} (hn : sp_nd N n = true) (hd : nD nt n ≤ f + 1) (e : nK nt n = 84) : wA nt N f (nB nt n) := by
  obtain ⟨ho, hT⟩ := h.ok hn
  obtain ⟨-, b1, b2⟩ := sp_k84 ho hT e
  exact h.sb hn hd (by rw [e]; rfl) b1 b2
theorem wE_line (h : wTb nt N M res par) {n : Int32} {f : Nat} (hn : sp_nd N n = true) (hd : nD nt n ≤ f + 1) (e : nK nt n = 85) : 0 ≤ nA nt n ∧ nA nt n ≤ 65535 ∧ wA nt N f (nB nt n) := by
  obtain ⟨ho, hT⟩ := h.ok hn
  obtain ⟨a1, a2, ⟨b1, b2⟩⟩ := sp_k85 ho hT e
  exact ⟨a1, a2, h.sb hn hd (by rw [e]; rfl) b1 b2⟩
/-- the links of a chain -/
def wCh (nt : sp_NT) (N f : Nat) (K : Int32) (l : List Int32) : Prop := ∀ q, q ∈ l → sp_nd N q = true ∧ nD nt q ≤ f ∧ nK nt q = K
theorem wTb.ch (h : wTb nt N M res par) {K : Int32} (hK : K = 49 ∨ K = 76 ∨ K = 82 ∨ K = 86) : ∀ (c : Nat) {f : Nat} {p : Int32}, (p = -1 ∨ (sp_nd N p = true ∧ nD nt p ≤ f ∧ nK nt p = K)) → wCh nt N f K (sp_chain nt c p) := by
  intro c
  induction c with
  | zero => intro f p _ q hq; simp [sp_chain] at hq
  | succ c ih =>
    intro f p hp q hq
    unfold sp_chain at hq
    rcases hp with rfl | ⟨h1, h2, h3⟩
    · simp at hq
    · split at hq
      · simp at hq
      · rcases List.mem_cons.mp hq with rfl | hq
        · exact ⟨h1, h2, h3⟩
        · cases f with
          | zero => have := (h.d h1).1; omega
          | succ f =>
            have hb : nB nt p = -1 ∨ (sp_nd N (nB nt p) = true ∧ nD nt (nB nt p) ≤ f ∧ nK nt (nB nt p) = K) := by
              rcases hK with rfl | rfl | rfl | rfl
              · exact (wE_given h h1 h2 h3).2
              · exact (wE_catches h h1 h2 h3).2
              · exact (wE_cases h h1 h2 h3).2
              · exact (wE_param h h1 h2 h3).2
            obtain ⟨q1, q2, q3⟩ := ih hb q hq
            exact ⟨q1, Nat.le_succ_of_le q2, q3⟩
end
