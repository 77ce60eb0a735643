/-! CodeWriterModel: member, whole -/
/-- what may change while all members stay -/
def zK (cf pf rf lf k j : Nat) : Bool := match k with
  | 0 => !(Nat.beq j 0 || Nat.beq j 7)
  | 19 => Nat.ble cf j
  | 20 => Nat.ble pf j
  | 21 => Nat.ble pf j
  | 22 => Nat.ble pf j
  | 23 => Nat.ble pf j
  | 24 => Nat.ble (4 * rf) j
  | 25 => Nat.ble (2 * lf) j
  | _ => Nat.ble 26 k
section
variable {nt : sp_NT} {N M : Nat} {res par bod D : Nat → Int32} {G : uG} {x y z : mj_X} {T : Nat → List Nat}
theorem mdU.keep (hU : mdU nt N M res par bod D G x) {D' : Nat → Int32} (f : zfr (zK (uCf G M) (uPf G M) (uRf G M) (uLf G M)) x z) (z26 : ∀ j, z.1 26 j = 0) (z27 : z.1 27 = D') (z74 : ∀ k, ∃ m, m < 300000 ∧ z.1 74 k = nI m) : mdU nt N M res par bod D' G z := by
  obtain ⟨⟨t1, t2, t3, t4, t5, t6, t7, t8⟩, ⟨m1, m2, m3, m4⟩, hb, h26, h27, h74, hf, hE⟩ := hU
  have e := f.2
  have lo : ∀ {a j : Nat}, j < a → Nat.ble a j = false := fun {a j} h => by
    cases q : Nat.ble a j
    · rfl
    · exact absurd (Nat.le_of_ble_eq_true q) (by omega)
  have E : ∀ k, 1 ≤ k → k ≤ 18 → z.1 k = x.1 k := fun k h1 h2 => funext fun j => e k j (by
    unfold zK
    split
    all_goals first | omega | (exact lo (by omega)))
  refine ⟨⟨by rw [e 0 0 rfl]; exact t1, t2, by rw [E 2 (by decide) (by decide)]; exact t3, by rw [E 3 (by decide) (by decide)]; exact t4, by rw [E 4 (by decide) (by decide)]; exact t5, by rw [E 5 (by decide) (by decide)]; exact t6, by rw [E 6 (by decide) (by decide)]; exact t7, by rw [E 7 (by decide) (by decide)]; exact t8⟩, ⟨by rw [e 0 7 rfl]; exact m1, m2, by rw [E 9 (by decide) (by decide)]; exact m3, by rw [E 10 (by decide) (by decide)]; exact m4⟩, by rw [E 11 (by decide) (by decide)]; exact hb, z26, z27, z74, fun m hm => ?_, fun m hm => ?_⟩
  · rw [E 12 (by decide) (by decide), E 16 (by decide) (by decide), E 17 (by decide) (by decide), E 18 (by decide) (by decide)]; exact hf m hm
  · have l1 := uS_le (fun m => uLen (G m)) (show m + 1 ≤ M by omega)
    have l2 := uS_le (fun m => (g_po (G m).1).length) (show m + 1 ≤ M by omega)
    have l3 := uS_le (fun m => (g_rg (G m).1).length) (show m + 1 ≤ M by omega)
    have l4 := uS_le (fun m => (g_ln (G m).1).length) (show m + 1 ≤ M by omega)
    have l1 : uCf G m + uLen (G m) ≤ uCf G M := l1
    have l2 : uPf G m + (g_po (G m).1).length ≤ uPf G M := l2
    have l3 : uRf G m + (g_rg (G m).1).length ≤ uRf G M := l3
    have l4 : uLf G m + (g_ln (G m).1).length ≤ uLf G M := l4
    refine (hE m hm).fr (fun j hj => e 19 j (lo (by omega))) (fun k j h1 h2 hj => ?_) (fun j hj => e 24 j (lo (by omega))) (fun j hj => e 25 j (lo (by omega))) ⟨by rw [E 13 (by decide) (by decide)], by rw [E 14 (by decide) (by decide)], by rw [E 15 (by decide) (by decide)]⟩
    have : k = 20 ∨ k = 21 ∨ k = 22 ∨ k = 23 := by omega
    rcases this with rfl | rfl | rfl | rfl
    · exact e 20 j (lo (by omega))
    · exact e 21 j (lo (by omega))
    · exact e 22 j (lo (by omega))
    · exact e 23 j (lo (by omega))
theorem zw3_K {cf pf rf lf : Nat} (f : zfr (zw3 cf pf rf lf) x y) : zfr (zK cf pf rf lf) x y := f.mono' (fun k j h => by
  by_cases k0 : k = 0
  · subst k0
    have h : (!(Nat.beq j 0 || Nat.beq j 7)) = false := h
    cases q : Nat.beq j 0
    · cases q' : Nat.beq j 7
      · rw [q, q'] at h; cases h
      · rw [Nat.eq_of_beq_eq_true q']; rfl
    · rw [Nat.eq_of_beq_eq_true q]; rfl
  have big : 26 ≤ k → False := fun q => by
    obtain ⟨c, rfl⟩ : ∃ c, k = c + 26 := ⟨k - 26, by omega⟩
    have h : Nat.ble 26 (c + 26) = false := h
    rw [Nat.ble_eq.mpr q] at h; cases h
  have lt : k < 26 := Nat.lt_of_not_le big
  have tr : ∀ b : Bool, b = false → ((b || false) || false) = false := fun b q => by rw [q]; rfl
  have : k = 1 ∨ k = 2 ∨ k = 3 ∨ k = 4 ∨ k = 5 ∨ k = 6 ∨ k = 7 ∨ k = 8 ∨ k = 9 ∨ k = 10 ∨ k = 11 ∨ k = 12 ∨ k = 13 ∨ k = 14 ∨ k = 15 ∨ k = 16 ∨ k = 17 ∨ k = 18 ∨ k = 19 ∨ k = 20 ∨ k = 21 ∨ k = 22 ∨ k = 23 ∨ k = 24 ∨ k = 25 := by omega
  rcases this with rfl | rfl | rfl | rfl | rfl | rfl | rfl | rfl | rfl | rfl | rfl | rfl | rfl | rfl | rfl | rfl | rfl | rfl | rfl | rfl | rfl | rfl | rfl | rfl | rfl
  · rfl
  · rfl
  · rfl
  · rfl
  · rfl
  · rfl
  · rfl
  · rfl
  · rfl
  · rfl
  · rfl
  · rfl
  · rfl
  · rfl
  · rfl
  · rfl
  · rfl
  · rfl
  · exact tr _ h
  · exact tr _ h
  · exact tr _ h
  · exact tr _ h
  · exact tr _ h
  · show ((false || Nat.ble (4 * rf) j) || false) = false
    have h : Nat.ble (4 * rf) j = false := h
    rw [h]; rfl
  · exact tr _ h)
theorem lz_K {cf pf rf lf wa : Nat} (f : zfr (lz wa) x y) : zfr (zK cf pf rf lf) x y := f.mono' (fun k j h => lz_f (Or.inl (fun e => by rw [e] at h; cases h)))
theorem lz_U {wa : Nat} (f : zfr (lz wa) x y) : zfr zU x y := f.mono' (fun k j h => lz_f (Or.inl (fun e => by rw [e] at h; cases h)))
theorem md_sc_K {cf pf rf lf : Nat} (b : mj_X) (s : sp_SS) : zfr (zK cf pf rf lf) b (md_sc b s) := ⟨rfl, fun k j h => by
  show (if k = 0 ∧ j = 27 then nI s.1 else if k = 26 then sp_b (s.2.1 j) else if k = 27 then s.2.2 j else b.1 k j) = b.1 k j
  rw [if_neg (fun q => by rw [q.1, q.2] at h; cases h), if_neg (fun q => by rw [q] at h; cases h), if_neg (fun q => by rw [q] at h; cases h)]⟩
theorem md_sc_U (b : mj_X) (s : sp_SS) : zfr zU b (md_sc b s) := ⟨rfl, fun k j h => by
  show (if k = 0 ∧ j = 27 then nI s.1 else if k = 26 then sp_b (s.2.1 j) else if k = 27 then s.2.2 j else b.1 k j) = b.1 k j
  rw [if_neg (fun q => by rw [q.1, q.2] at h; cases h), if_neg (fun q => by rw [q] at h; cases h), if_neg (fun q => by rw [q] at h; cases h)]⟩
theorem zO.w33 {w : Bool} {ba pf rf lf : Nat} {g : wG} (h : zO nt N M w ba pf rf lf x g) : x.1 0 33 = sp_b w := by
  obtain ⟨c, lm, lv, x0, A, hR, h00, e, hA'⟩ := h
  rcases hR.1.2.2 with q | q
  · rw [e]; exact q.2.2.1.2.1
  · exact absurd h00 (by rw [q.1.1]; decide)
theorem mj_wI_y {x : mj_X} {a j : Nat} {v : Int32} : (mj_wI x a j v).1 a = upd (x.1 a) j v := if_pos rfl
theorem mj_wI_n {x : mj_X} {a j k : Nat} {v : Int32} (h : k ≠ a) : (mj_wI x a j v).1 k = x.1 k := if_neg h
/-- the last writes -/
def m_fin (M : Nat) (a1 a2 a3 : Int32) (x : mj_X) : mj_X := mj_wI (mj_wI (mj_wI (mj_wI (mj_wI (mj_wI (mj_wI (mj_wI (mj_wI (mj_wI (mj_wI (mj_wI x 9 M a1) 10 M a2) 11 M a3) 13 M (x.1 0 39)) 14 M (x.1 0 37)) 15 M (x.1 0 33)) 12 (M + 1) (x.1 12 M + x.1 0 32)) 16 (M + 1) (x.1 16 M + x.1 0 42)) 17 (M + 1) (x.1 17 M + x.1 0 44)) 18 (M + 1) (x.1 18 M + x.1 0 45)) 0 7 (x.1 0 7 + (1 : Int32))) 7 a3.toNatClampNeg (1 : Int32)
theorem m_fin_F (M : Nat) (a1 a2 a3 : Int32) (x : mj_X) : zfr zU x (m_fin M a1 a2 a3 x) := by
    unfold m_fin
    exact ((((((((((((zfr.rf _ x).w _ rfl).w _ rfl).w _ rfl).w _ rfl).w _ rfl).w _ rfl).w _ rfl).w _ rfl).w _ rfl).w _ rfl).w _ rfl).w _ rfl
theorem m_fin_fr0 (M : Nat) (a1 a2 a3 : Int32) (x : mj_X) : ∀ k, 1 ≤ k → k ≤ 6 → (m_fin M a1 a2 a3 x).1 k = x.1 k := fun k h1 h6 => by
    unfold m_fin
    rw [mj_wI_n (by omega), mj_wI_n (by omega), mj_wI_n (by omega), mj_wI_n (by omega), mj_wI_n (by omega), mj_wI_n (by omega), mj_wI_n (by omega), mj_wI_n (by omega), mj_wI_n (by omega), mj_wI_n (by omega), mj_wI_n (by omega), mj_wI_n (by omega)]
theorem m_fin_fr1 (M : Nat) (a1 a2 a3 : Int32) (x : mj_X) : ∀ k, 19 ≤ k → (m_fin M a1 a2 a3 x).1 k = x.1 k := fun k h1 => by
    unfold m_fin
    rw [mj_wI_n (by omega), mj_wI_n (by omega), mj_wI_n (by omega), mj_wI_n (by omega), mj_wI_n (by omega), mj_wI_n (by omega), mj_wI_n (by omega), mj_wI_n (by omega), mj_wI_n (by omega), mj_wI_n (by omega), mj_wI_n (by omega), mj_wI_n (by omega)]
theorem m_fin_e12 (M : Nat) (a1 a2 a3 : Int32) (x : mj_X) : (m_fin M a1 a2 a3 x).1 12 = upd (x.1 12) (M + 1) (x.1 12 M + x.1 0 32) := by unfold m_fin; rw [mj_wI_n (by decide), mj_wI_n (by decide), mj_wI_n (by decide), mj_wI_n (by decide), mj_wI_n (by decide), mj_wI_y, mj_wI_n (by decide), mj_wI_n (by decide), mj_wI_n (by decide), mj_wI_n (by decide), mj_wI_n (by decide), mj_wI_n (by decide)]
theorem m_fin_e16 (M : Nat) (a1 a2 a3 : Int32) (x : mj_X) : (m_fin M a1 a2 a3 x).1 16 = upd (x.1 16) (M + 1) (x.1 16 M + x.1 0 42) := by unfold m_fin; rw [mj_wI_n (by decide), mj_wI_n (by decide), mj_wI_n (by decide), mj_wI_n (by decide), mj_wI_y, mj_wI_n (by decide), mj_wI_n (by decide), mj_wI_n (by decide), mj_wI_n (by decide), mj_wI_n (by decide), mj_wI_n (by decide), mj_wI_n (by decide)]
theorem m_fin_e17 (M : Nat) (a1 a2 a3 : Int32) (x : mj_X) : (m_fin M a1 a2 a3 x).1 17 = upd (x.1 17) (M + 1) (x.1 17 M + x.1 0 44) := by unfold m_fin; rw [mj_wI_n (by decide), mj_wI_n (by decide), mj_wI_n (by decide), mj_wI_y, mj_wI_n (by decide), mj_wI_n (by decide), mj_wI_n (by decide), mj_wI_n (by decide), mj_wI_n (by decide), mj_wI_n (by decide), mj_wI_n (by decide), mj_wI_n (by decide)]
theorem m_fin_e18 (M : Nat) (a1 a2 a3 : Int32) (x : mj_X) : (m_fin M a1 a2 a3 x).1 18 = upd (x.1 18) (M + 1) (x.1 18 M + x.1 0 45) := by unfold m_fin; rw [mj_wI_n (by decide), mj_wI_n (by decide), mj_wI_y, mj_wI_n (by decide), mj_wI_n (by decide), mj_wI_n (by decide), mj_wI_n (by decide), mj_wI_n (by decide), mj_wI_n (by decide), mj_wI_n (by decide), mj_wI_n (by decide), mj_wI_n (by decide)]
theorem m_fin_e13 (M : Nat) (a1 a2 a3 : Int32) (x : mj_X) : (m_fin M a1 a2 a3 x).1 13 = upd (x.1 13) M (x.1 0 39) := by unfold m_fin; rw [mj_wI_n (by decide), mj_wI_n (by decide), mj_wI_n (by decide), mj_wI_n (by decide), mj_wI_n (by decide), mj_wI_n (by decide), mj_wI_n (by decide), mj_wI_n (by decide), mj_wI_y, mj_wI_n (by decide), mj_wI_n (by decide), mj_wI_n (by decide)]
theorem m_fin_e14 (M : Nat) (a1 a2 a3 : Int32) (x : mj_X) : (m_fin M a1 a2 a3 x).1 14 = upd (x.1 14) M (x.1 0 37) := by unfold m_fin; rw [mj_wI_n (by decide), mj_wI_n (by decide), mj_wI_n (by decide), mj_wI_n (by decide), mj_wI_n (by decide), mj_wI_n (by decide), mj_wI_n (by decide), mj_wI_y, mj_wI_n (by decide), mj_wI_n (by decide), mj_wI_n (by decide), mj_wI_n (by decide)]
theorem m_fin_e15 (M : Nat) (a1 a2 a3 : Int32) (x : mj_X) : (m_fin M a1 a2 a3 x).1 15 = upd (x.1 15) M (x.1 0 33) := by unfold m_fin; rw [mj_wI_n (by decide), mj_wI_n (by decide), mj_wI_n (by decide), mj_wI_n (by decide), mj_wI_n (by decide), mj_wI_n (by decide), mj_wI_y, mj_wI_n (by decide), mj_wI_n (by decide), mj_wI_n (by decide), mj_wI_n (by decide), mj_wI_n (by decide)]
theorem m_fin_e9 (M : Nat) (a1 a2 a3 : Int32) (x : mj_X) : (m_fin M a1 a2 a3 x).1 9 = upd (x.1 9) M a1 := by unfold m_fin; rw [mj_wI_n (by decide), mj_wI_n (by decide), mj_wI_n (by decide), mj_wI_n (by decide), mj_wI_n (by decide), mj_wI_n (by decide), mj_wI_n (by decide), mj_wI_n (by decide), mj_wI_n (by decide), mj_wI_n (by decide), mj_wI_n (by decide), mj_wI_y]
theorem m_fin_e10 (M : Nat) (a1 a2 a3 : Int32) (x : mj_X) : (m_fin M a1 a2 a3 x).1 10 = upd (x.1 10) M a2 := by unfold m_fin; rw [mj_wI_n (by decide), mj_wI_n (by decide), mj_wI_n (by decide), mj_wI_n (by decide), mj_wI_n (by decide), mj_wI_n (by decide), mj_wI_n (by decide), mj_wI_n (by decide), mj_wI_n (by decide), mj_wI_n (by decide), mj_wI_y, mj_wI_n (by decide)]
theorem m_fin_e11 (M : Nat) (a1 a2 a3 : Int32) (x : mj_X) : (m_fin M a1 a2 a3 x).1 11 = upd (x.1 11) M a3 := by unfold m_fin; rw [mj_wI_n (by decide), mj_wI_n (by decide), mj_wI_n (by decide), mj_wI_n (by decide), mj_wI_n (by decide), mj_wI_n (by decide), mj_wI_n (by decide), mj_wI_n (by decide), mj_wI_n (by decide), mj_wI_y, mj_wI_n (by decide), mj_wI_n (by decide)]
theorem m_fin_e7 (M : Nat) (a1 a2 a3 : Int32) (x : mj_X) : (m_fin M a1 a2 a3 x).1 7 = upd (x.1 7) a3.toNatClampNeg 1 := by unfold m_fin; rw [mj_wI_y, mj_wI_n (by decide), mj_wI_n (by decide), mj_wI_n (by decide), mj_wI_n (by decide), mj_wI_n (by decide), mj_wI_n (by decide), mj_wI_n (by decide), mj_wI_n (by decide), mj_wI_n (by decide), mj_wI_n (by decide), mj_wI_n (by decide)]
theorem m_fin_e0 (M : Nat) (a1 a2 a3 : Int32) (x : mj_X) : (m_fin M a1 a2 a3 x).1 0 = upd (x.1 0) 7 (x.1 0 7 + 1) := by unfold m_fin; rw [mj_wI_n (by decide), mj_wI_y, mj_wI_n (by decide), mj_wI_n (by decide), mj_wI_n (by decide), mj_wI_n (by decide), mj_wI_n (by decide), mj_wI_n (by decide), mj_wI_n (by decide), mj_wI_n (by decide), mj_wI_n (by decide), mj_wI_n (by decide)]
theorem m_fin_e07 (M : Nat) (a1 a2 a3 : Int32) (x : mj_X) : (m_fin M a1 a2 a3 x).1 0 7 = x.1 0 7 + 1 := by rw [m_fin_e0, pk_us]
theorem m_fin_e00 (M : Nat) (a1 a2 a3 : Int32) (x : mj_X) : (m_fin M a1 a2 a3 x).1 0 0 = x.1 0 0 := by rw [m_fin_e0, pk_un (by decide)]
theorem m_memEnd {D' : Nat → Int32} {w : Bool} {g : wG} {a1 a2 a3 : Int32} (hU : mdU nt N M res par bod D' G x) (hM : M ≤ 39) (hB : uBd M G) (zo : zO nt N M w (uCf G M) (uPf G M) (uRf G M) (uLf G M) x g) (hcx : g_cx g = []) (hov : ¬ u_over w (uCf G M) (uRf G M) (uLf G M) g) (x26 : ∀ j, x.1 26 j = 0) (x27 : x.1 27 = D') (x74 : ∀ k, ∃ m, m < 300000 ∧ x.1 74 k = nI m) (x7 : x.1 0 7 = nI M) (h2 : ¬ a2 = -1 → sp_nd N a2 = true) (h3 : sp_nd N a3 = true) :
    (a2 = -1 → mdU (sp_mk nt a2 a3) N (M + 1) (upd res M a1) (upd par M a2) (upd bod M a3) D' (uAdd G M (g, w)) (m_fin M a1 a2 a3 x) ∧ uBd (M + 1) (uAdd G M (g, w)))
    ∧ (¬ a2 = -1 → mdU (sp_mk nt a2 a3) N (M + 1) (upd res M a1) (upd par M a2) (upd bod M a3) D' (uAdd G M (g, w)) (mj_wI (m_fin M a1 a2 a3 x) 7 a2.toNatClampNeg (1 : Int32)) ∧ uBd (M + 1) (uAdd G M (g, w)))
    ∧ zfr zU x (m_fin M a1 a2 a3 x) ∧ zfr zU x (mj_wI (m_fin M a1 a2 a3 x) 7 a2.toNatClampNeg (1 : Int32)) := by
  have F := m_fin_F M a1 a2 a3 x
  have F2 : zfr zU x (mj_wI (m_fin M a1 a2 a3 x) 7 a2.toNatClampNeg (1 : Int32)) := F.w _ rfl
  obtain ⟨f12, f16, f17, f18⟩ := hU.2.2.2.2.2.2.1 M (Nat.le_refl _)
  have fr0 := m_fin_fr0 M a1 a2 a3 x
  have fr1 := m_fin_fr1 M a1 a2 a3 x
  have e12 := m_fin_e12 M a1 a2 a3 x
  have e16 := m_fin_e16 M a1 a2 a3 x
  have e17 := m_fin_e17 M a1 a2 a3 x
  have e18 := m_fin_e18 M a1 a2 a3 x
  have e13 := m_fin_e13 M a1 a2 a3 x
  have e14 := m_fin_e14 M a1 a2 a3 x
  have e15 := m_fin_e15 M a1 a2 a3 x
  have e9 := m_fin_e9 M a1 a2 a3 x
  have e10 := m_fin_e10 M a1 a2 a3 x
  have e11 := m_fin_e11 M a1 a2 a3 x
  have e7 := m_fin_e7 M a1 a2 a3 x
  have e0 := m_fin_e0 M a1 a2 a3 x
  have e07 := m_fin_e07 M a1 a2 a3 x
  have e00 := m_fin_e00 M a1 a2 a3 x
  have core := fun (z : mj_X) => mdU.add (z := z) (D' := D') (w := w) (g := g) (a1 := a1) (a2 := a2) (a3 := a3) hU hM h3 h2 hB
  have mk := fun (z : mj_X) h13 h14 h15 ha => zO.mdE (z := z) (m := M) zo ⟨_, rfl⟩ h13 h14 h15 ha
  generalize m_fin M a1 a2 a3 x = z at *
  have h13 : z.1 13 M = x.1 0 39 := by rw [e13, pk_us]
  have h14 : z.1 14 M = x.1 0 37 := by rw [e14, pk_us]
  have h15 : z.1 15 M = x.1 0 33 := by rw [e15, pk_us]
  obtain ⟨k1, k2, k3, k4, k5, k6, k7, k8, k9⟩ := mk z h13 h14 h15 (fun k q1 q2 => fr1 k q1)
  refine ⟨fun c => ?_, fun c => ?_, F, F2⟩
  · refine core z k1 k6 hov hcx fr0 e00 (by rw [e7]; funext i; show (if i = _ then _ else _) = _; by_cases q : i = a3.toNatClampNeg; rw [if_pos q, if_pos (Or.inl q)]; rw [if_neg q, if_neg (fun r => r.elim q (fun r => r.1 c))]) (by rw [e07, x7]; exact nI_add M 1) e9 e10 e11 (fun m hm => ⟨by rw [e12, pk_un (by omega)], by rw [e16, pk_un (by omega)], by rw [e17, pk_un (by omega)], by rw [e18, pk_un (by omega)]⟩) ⟨by rw [e12, pk_us, f12, k2, nI_add], by rw [e16, pk_us, f16, k3, nI_add], by rw [e17, pk_us, f17, k4, nI_add], by rw [e18, pk_us, f18, k5, nI_add]⟩ (fun m hm => ⟨by rw [e13, pk_un (by omega)], by rw [e14, pk_un (by omega)], by rw [e15, pk_un (by omega)]⟩) (fun j => by rw [fr1 26 (by decide)]; exact x26 j) (by rw [fr1 27 (by decide)]; exact x27) (fun k => by rw [fr1 74 (by decide)]; exact x74 k) (fun j _ => by rw [fr1 19 (by decide)]) (fun k j q1 q2 _ => by rw [fr1 k (by omega)]) (fun j _ => by rw [fr1 24 (by decide)]) (fun j _ => by rw [fr1 25 (by decide)])
  · have n : ∀ k, k ≠ 7 → (mj_wI z 7 a2.toNatClampNeg (1 : Int32)).1 k = z.1 k := fun k hk => mj_wI_n hk
    obtain ⟨k1, -⟩ := mk (mj_wI z 7 a2.toNatClampNeg (1 : Int32)) (by rw [n 13 (by decide)]; exact h13) (by rw [n 14 (by decide)]; exact h14) (by rw [n 15 (by decide)]; exact h15) (fun k q1 q2 => by rw [n k (by omega)]; exact fr1 k q1)
    refine core _ k1 k6 hov hcx (fun k q1 q2 => by rw [n k (by omega)]; exact fr0 k q1 q2) (by rw [n 0 (by decide)]; exact e00) ?_ (by rw [n 0 (by decide), e07, x7]; exact nI_add M 1) (by rw [n 9 (by decide)]; exact e9) (by rw [n 10 (by decide)]; exact e10) (by rw [n 11 (by decide)]; exact e11) (fun m hm => ⟨by rw [n 12 (by decide), e12, pk_un (by omega)], by rw [n 16 (by decide), e16, pk_un (by omega)], by rw [n 17 (by decide), e17, pk_un (by omega)], by rw [n 18 (by decide), e18, pk_un (by omega)]⟩) ⟨by rw [n 12 (by decide), e12, pk_us, f12, k2, nI_add], by rw [n 16 (by decide), e16, pk_us, f16, k3, nI_add], by rw [n 17 (by decide), e17, pk_us, f17, k4, nI_add], by rw [n 18 (by decide), e18, pk_us, f18, k5, nI_add]⟩ (fun m hm => ⟨by rw [n 13 (by decide), e13, pk_un (by omega)], by rw [n 14 (by decide), e14, pk_un (by omega)], by rw [n 15 (by decide), e15, pk_un (by omega)]⟩) (fun j => by rw [n 26 (by decide), fr1 26 (by decide)]; exact x26 j) (by rw [n 27 (by decide), fr1 27 (by decide)]; exact x27) (fun k => by rw [n 74 (by decide), fr1 74 (by decide)]; exact x74 k) (fun j _ => by rw [n 19 (by decide), fr1 19 (by decide)]) (fun k j q1 q2 _ => by rw [n k (by omega), fr1 k (by omega)]) (fun j _ => by rw [n 24 (by decide), fr1 24 (by decide)]) (fun j _ => by rw [n 25 (by decide), fr1 25 (by decide)])
    funext i
    rw [mj_wI_1, if_pos rfl, e7]
    show (if i = a2.toNatClampNeg then (1 : Int32) else if i = a3.toNatClampNeg then 1 else x.1 7 i) = _
    by_cases q : i = a2.toNatClampNeg
    · rw [if_pos q, if_pos (Or.inr ⟨c, q⟩)]
    · rw [if_neg q]
      by_cases q' : i = a3.toNatClampNeg
      · rw [if_pos q', if_pos (Or.inl q')]
      · rw [if_neg q', if_neg (fun r => r.elim q' (fun r => q r.2))]
/-- member() of CodeWriterModel -/
theorem m_member {d : Nat} (hd : 1480 ≤ d) (hT : wTb nt N M res par) (hN : N ≤ 64) (t : oTs nt N T) (hU : mdU nt N M res par bod D G y) (hB : uBd M G) (a1 a2 a3 : Int32)
    (hW : u_good nt N a1 a2 a3 = true → (u_sc nt D a2 a3).1 = true → sp_lf nt a1 40 a3 0 0 = true → g_ok (wW nt a1 a2 a3) ∧ (g_ov (wW nt a1 a2 a3) = false → ∀ w q', q' ∈ w_fxs w w_z (g_it (wW nt a1 a2 a3)) → g_goes (wW nt a1 a2 a3) q'.2.2.1 = true)) :
    ∃ o z, u_way (uCf G M) (uRf G M) (uLf G M) (wW nt a1 a2 a3) o ∧ kX1 (d + 1) 23 [.ref 0, .int a1, .int a2, .int a3] y = some (some (.int (u_ans nt N M D a1 a2 a3 o).1), z) ∧ zfr zU y z
      ∧ ((u_ans nt N M D a1 a2 a3 o).2 = none → mdU nt N M res par bod (u_D nt N D a1 a2 a3) G z)
      ∧ ∀ w, (u_ans nt N M D a1 a2 a3 o).2 = some w → mdU (sp_mk nt a2 a3) N (M + 1) (upd res M a1) (upd par M a2) (upd bod M a3) (u_D nt N D a1 a2 a3) (uAdd G M (wW nt a1 a2 a3, w)) z ∧ uBd (M + 1) (uAdd G M (wW nt a1 a2 a3, w)) := by
  obtain ⟨o0, ho0⟩ := u_way_ex (uCf G M) (uRf G M) (uLf G M) (wW nt a1 a2 a3)
  have hy : md_T y nt N := hU.1
  -- an answer without a member
  have bad : ∀ (o : Option Bool) (v : Int32) (r : mj_R) (z : mj_X), r = some (some (.int v), z) → u_way (uCf G M) (uRf G M) (uLf G M) (wW nt a1 a2 a3) o → u_ans nt N M D a1 a2 a3 o = (v, none) → zfr zU y z → mdU nt N M res par bod (u_D nt N D a1 a2 a3) G z →
      ∃ o z, u_way (uCf G M) (uRf G M) (uLf G M) (wW nt a1 a2 a3) o ∧ r = some (some (.int (u_ans nt N M D a1 a2 a3 o).1), z) ∧ zfr zU y z
      ∧ ((u_ans nt N M D a1 a2 a3 o).2 = none → mdU nt N M res par bod (u_D nt N D a1 a2 a3) G z)
      ∧ ∀ w, (u_ans nt N M D a1 a2 a3 o).2 = some w → mdU (sp_mk nt a2 a3) N (M + 1) (upd res M a1) (upd par M a2) (upd bod M a3) (u_D nt N D a1 a2 a3) (uAdd G M (wW nt a1 a2 a3, w)) z ∧ uBd (M + 1) (uAdd G M (wW nt a1 a2 a3, w)) := by
    intro o v r z h1 h2 h3 h4 h5
    exact ⟨o, z, h2, by rw [h3]; exact h1, h4, fun _ => h5, fun w hw => by rw [h3] at hw; cases hw⟩
  have notgood : u_good nt N a1 a2 a3 = false → ∀ r : mj_R, r = some (some (Value.int (-1 : Int32)), y) → _ := fun hg r hr => bad o0 (-1) r y hr ho0 (by unfold u_ans; rw [hg]; rfl) (zfr.rf _ _) (by unfold u_D; rw [hg]; exact hU)
  rw [eX1_member]
  by_cases c1 : a1 < 0
  · rw [if_pos c1]
    exact notgood (by unfold u_good; rw [decide_eq_false (Int32.not_le.mpr c1)]; rfl) _ rfl
  rw [if_neg c1]
  by_cases c2 : (8 : Int32) < a1
  · rw [if_pos c2]
    exact notgood (by unfold u_good; rw [decide_eq_false (Int32.not_le.mpr c2), Bool.false_and, Bool.and_false]) _ rfl
  rw [if_neg c2]
  have k1 : decide ((0 : Int32) ≤ a1) = true := decide_eq_true (Int32.not_lt.mp c1)
  have k2 : decide (a1 ≤ (8 : Int32)) = true := decide_eq_true (Int32.not_lt.mp c2)
  -- from 25 on
  have at25 : (decide (a2 = -1) || sp_fk nt (sp_fr nt N) a2 86) = true → ∃ o z, u_way (uCf G M) (uRf G M) (uLf G M) (wW nt a1 a2 a3) o ∧ rX1_member d (25, [some (.ref 0), some (.int a1), some (.int a2), some (.int a3), none, none, none, none], [], y) = some (some (.int (u_ans nt N M D a1 a2 a3 o).1), z) ∧ zfr zU y z
      ∧ ((u_ans nt N M D a1 a2 a3 o).2 = none → mdU nt N M res par bod (u_D nt N D a1 a2 a3) G z)
      ∧ ∀ w, (u_ans nt N M D a1 a2 a3 o).2 = some w → mdU (sp_mk nt a2 a3) N (M + 1) (upd res M a1) (upd par M a2) (upd bod M a3) (u_D nt N D a1 a2 a3) (uAdd G M (wW nt a1 a2 a3, w)) z ∧ uBd (M + 1) (uAdd G M (wW nt a1 a2 a3, w)) := by
    intro k3
    rw [bX1_member_25, sX1_isStatement (by omega) hy, mj_rI_k]
    cases k4 : sp_act nt (sp_fr nt N) a3
    · rw [if_pos (by rfl)]
      exact notgood (by unfold u_good; rw [k4]; simp) _ rfl
    rw [if_neg (by decide)]
    have hg : u_good nt N a1 a2 a3 = true := by unfold u_good; rw [k1, k2, k3, k4]; rfl
    obtain ⟨l, l1, l2, l3, l4⟩ := u_par hT hN hg
    obtain ⟨hA, h5⟩ := u_body hT hg
    obtain ⟨b, hb⟩ : ∃ b, b = mj_wI (mj_wI y 0 30 a1) 0 29 (0 : Int32) := ⟨_, rfl⟩
    have bT : md_T b nt N := by rw [hb]; exact hy
    have e0 : mj_wI (mj_wI (mj_wI y 0 30 a1) 0 27 (0 : Int32)) 0 29 (0 : Int32) = md_sc b (u_s0 D) := by
      apply Prod.ext
      · funext k j
        rw [hb]
        simp only [mj_wI_1, md_sc]
        by_cases e1 : k = 0
        · subst e1
          by_cases e2 : j = 27
          · subst e2; rfl
          · simp [e2]
        · by_cases e2 : k = 26
          · subst e2
            simp only [e1, if_false, false_and]
            rw [hU.2.2.2.1 j]; rfl
          · by_cases e3 : k = 27
            · subst e3
              simp only [e1, e2, if_false, false_and, if_true]
              rw [hU.2.2.2.2.1]; rfl
            · simp [e1, e2, e3]
      · rw [hb]; rfl
    rw [e0]
    have p56 := m_mem56 (d := d) (by omega) hT bT (a1 := a1) (a2 := a2) (a3 := a3) l a2 (u_s0 D) 0 l1 (by show 0 + _ ≤ _; omega) (by omega)
    rw [Nat.zero_add] at p56
    rw [show (0 : Int32) = nI 0 from rfl, p56, bX1_member_56, if_pos rfl]
    have s1I := uFo_I nt l (u_s0 D) (u_s0_I D)
    have s1S := uFo_S hN l a2 (u_s0 D) l1 (u_s0_S D) (by show 0 + _ ≤ _; omega)
    have s1n : (uFo nt l (u_s0 D)).1 = l.length := by rw [uFo_1]; exact Nat.zero_add _
    have wl : (oT T a3).length ≤ N := t.1.len hT.2.2 hA.1
    have SC := md_place hT.2.2 (sX1_isScopedStatement bT hT.1 hT.2.1 (oTs.wt t) 41 40 a3 (by omega) hA.1 hA.2.1 (by have := hA.2.2; show (nt 4 a3.toNatClampNeg).toInt ≤ 40; have q : nD nt a3 = (nt 4 a3.toNatClampNeg).toInt.toNat := rfl; omega)) (by omega)
    have hsc : u_sc nt D a2 a3 = sp_sc nt 40 a3 (uFo nt l (u_s0 D)) := by unfold u_sc; rw [l2]
    have I2 : u_I (u_sc nt D a2 a3).2 := by rw [hsc]; exact s1I.sc 40 a3
    generalize uFo nt l (u_s0 D) = s1 at *
    obtain ⟨r1, r2⟩ := SC d (by omega) s1 s1S (by rw [s1n]; show l.length + (T a3.toNatClampNeg).length ≤ 4000; have : (T a3.toNatClampNeg).length ≤ N := wl; omega)
    rw [r1]
    unfold sp_o
    rw [mj_rI_k]
    have al1 : (sp_al s1.1 (sp_sc nt 40 a3 s1)).1 = (u_sc nt D a2 a3).1 := by rw [hsc]; rfl
    obtain ⟨s2, hs2⟩ : ∃ s2, s2 = (sp_al s1.1 (sp_sc nt 40 a3 s1)).2 := ⟨_, rfl⟩
    have s2I : u_I s2 := by
      rw [hs2]; show u_I (sp_pop _ (sp_sc nt 40 a3 s1).2)
      rw [← hsc]; exact sp_pop_P (P := u_I) (fun _ q => q.pop1) _ _ I2
    have s2D : s2.2.2 = u_D nt N D a1 a2 a3 := by
      rw [hs2]; show (sp_pop _ (sp_sc nt 40 a3 s1).2).2.2 = _
      rw [(sp_pop_1 _ _).2]; unfold u_D; rw [hg, ← hsc]; rfl
    have s2S : sp_SI N s2 := by rw [hs2]; exact r2.2.2
    rw [← hs2, al1, show (0 : Int32) = nI 0 from rfl, sX1_undeclare (by omega) hT.2.2 b s2S (Nat.zero_le _), mj_rV_k, Nat.sub_zero, s2I.clear, s2D]
    obtain ⟨x3, hx3⟩ : ∃ x3, x3 = md_sc b (0, (fun _ => false), u_D nt N D a1 a2 a3) := ⟨_, rfl⟩
    rw [← hx3]
    have bK : zfr (zK (uCf G M) (uPf G M) (uRf G M) (uLf G M)) y b := by rw [hb]; exact ((zfr.rf _ _).w _ rfl).w _ rfl
    have bU : zfr zU y b := by rw [hb]; exact ((zfr.rf _ _).w _ rfl).w _ rfl
    have x3K := bK.tr (md_sc_K (cf := uCf G M) (pf := uPf G M) (rf := uRf G M) (lf := uLf G M) b (0, (fun _ => false), u_D nt N D a1 a2 a3))
    have x3U := bU.tr (md_sc_U b (0, (fun _ => false), u_D nt N D a1 a2 a3))
    rw [← hx3] at x3K x3U
    have x3_26 : ∀ j, x3.1 26 j = 0 := fun j => by rw [hx3]; rfl
    have x3_27 : x3.1 27 = u_D nt N D a1 a2 a3 := by rw [hx3]; rfl
    have x3_74 : ∀ k, ∃ m, m < 300000 ∧ x3.1 74 k = nI m := fun k => by rw [hx3, hb]; exact hU.2.2.2.2.2.1 k
    have U3 : mdU nt N M res par bod (u_D nt N D a1 a2 a3) G x3 := hU.keep x3K x3_26 x3_27 x3_74
    cases sc : (u_sc nt D a2 a3).1
    · rw [if_pos (by rfl)]
      exact bad o0 (-2) _ x3 rfl ho0 (by unfold u_ans; rw [hg, sc]; rfl) x3U U3
    rw [if_neg (by decide)]
    have x3T : md_T x3 nt N := U3.1
    have lA0 : lA nt N a1 0 0 x3 := ⟨x3T, by rw [hx3, hb]; rfl, by rw [hx3, hb]; rfl, rfl, Nat.le_refl _⟩
    obtain ⟨x4, q1, q2⟩ := sX1_isLeft (rs := a1) hT (by omega) 40 a3 0 0 d x3 hA (by decide) (by omega) lA0
    rw [q1, mj_rI_k]
    have x4K := x3K.tr (lz_K (cf := uCf G M) (pf := uPf G M) (rf := uRf G M) (lf := uLf G M) q2)
    have x4U := x3U.tr (lz_U q2)
    have n29 : ∀ k j, k ≠ 29 → x4.1 k j = x3.1 k j := fun k j h => q2.2 k j (lz_f (Or.inl h))
    have x4_26 : ∀ j, x4.1 26 j = 0 := fun j => by rw [n29 26 j (by decide)]; exact x3_26 j
    have x4_27 : x4.1 27 = u_D nt N D a1 a2 a3 := by rw [← x3_27]; exact funext fun j => n29 27 j (by decide)
    have x4_74 : ∀ k, ∃ m, m < 300000 ∧ x4.1 74 k = nI m := fun k => by rw [n29 74 k (by decide)]; exact x3_74 k
    have U4 : mdU nt N M res par bod (u_D nt N D a1 a2 a3) G x4 := hU.keep x4K x4_26 x4_27 x4_74
    cases lf : sp_lf nt a1 40 a3 0 0
    · rw [if_pos (by rfl)]
      exact bad o0 (-3) _ x4 rfl ho0 (by unfold u_ans; rw [hg, sc, lf]; rfl) x4U U4
    rw [if_neg (by decide)]
    have m7 : x4.1 0 7 = nI M := U4.2.1.1
    have hM40 : M ≤ 40 := U4.2.1.2.1
    have pls : uPls nt l ≤ 2 * l.length := by
      clear p56 l1 l2 l3 l4 s1n
      induction l with
      | nil => exact Nat.le_refl _
      | cons p r ih =>
        have := w_tl_2 (nT nt (nA nt p))
        show (w_tl (nT nt (nA nt p))).length + uPls nt r ≤ 2 * (r.length + 1)
        omega
    by_cases c40 : M = 40
    · rw [if_pos (by rw [m7, c40]; rfl)]
      exact bad o0 (-4) _ x4 rfl ho0 (by unfold u_ans; rw [hg, sc, lf, l2]; show (if M = 40 ∨ _ then _ else _) = _; rw [if_pos (Or.inl c40)]) x4U U4
    rw [if_neg (fun q => by rw [m7] at q; have := congrArg Int32.toInt q; rw [nI_toInt (by omega)] at this; have e40 : (40 : Int32).toInt = 40 := rfl; omega), if_pos (show nI (uPls nt l) ≤ (255 : Int32) by rw [Int32.le_iff_toInt_le, nI_toInt (by omega)]; have e255 : (255 : Int32).toInt = 255 := rfl; omega)]
    have ansW : ∀ o, u_ans nt N M D a1 a2 a3 o = match o with | none => (-4, none) | some w => bif g_al (wW nt a1 a2 a3) then (-5, none) else (nI M, some w) := fun o => by
      unfold u_ans; rw [hg, sc, lf, l2]
      show (if M = 40 ∨ _ then _ else _) = _
      rw [if_neg (by omega)]; rfl
    obtain ⟨gok, ggo⟩ := hW hg sc lf
    obtain ⟨f12, f16, f17, f18⟩ := U4.2.2.2.2.2.2.1 M (Nat.le_refl _)
    have ZM : zM nt N M (uCf G M) (uPf G M) (uRf G M) (uLf G M) x4 := ⟨⟨U4.1, m7, hM40, f16, f18, by have := hB.2.1; omega, hB.2.2.2, hB.1, fun v p hv hp => by cases hp⟩, by omega, f12, f17, hB.2.2.1, x4_74⟩
    have x4_30 : x4.1 0 30 = a1 := by rw [n29 0 30 (by decide)]; exact lA0.2.1
    obtain ⟨d, rfl⟩ : ∃ e, d = e + 1 := ⟨d - 1, by omega⟩
    obtain ⟨x6, how, o, w1, w2, w3, w4, w5, w6⟩ := m_writeMember (d := d) (r := a1) (a3 := nI (uPls nt l)) (by omega) hT ZM x4_30 l1 l2 l3 hA gok ggo
    rw [w1, mj_rI_k]
    have x6K := x4K.tr (zw3_K w2)
    have x6U := x4U.tr (zw3_U w2)
    have n26 : ∀ k j, zw3 (uCf G M) (uPf G M) (uRf G M) (uLf G M) k j = false → x6.1 k j = x4.1 k j := w2.2
    have x6_26 : ∀ j, x6.1 26 j = 0 := fun j => by rw [n26 26 j rfl]; exact x4_26 j
    have x6_27 : x6.1 27 = u_D nt N D a1 a2 a3 := by rw [← x4_27]; exact funext fun j => n26 27 j rfl
    have U6 : mdU nt N M res par bod (u_D nt N D a1 a2 a3) G x6 := hU.keep x6K x6_26 x6_27 w3
    cases o with
    | none =>
      rw [w5 rfl, if_neg (by decide)]
      exact bad none (-4) _ x6 rfl w4 (by rw [ansW]) x6U U6
    | some w =>
      obtain ⟨v1, v2⟩ := w6 w rfl
      cases al : g_al (wW nt a1 a2 a3)
      · obtain ⟨h0, zo⟩ := v2 al
        rw [h0, if_pos (by decide)]
        have m7' : x6.1 0 7 = nI M := U6.2.1.1
        have cM : (x6.1 0 7).toNatClampNeg = M := by rw [m7']; exact nI_clamp (by omega)
        have gM : ∀ (n : Nat), 40 ≤ n → n < 2147483648 → ∀ r : mj_R, mj_g (x6.1 0 7) n r = r := fun n h1 h2 r => mj_g_k (by rw [m7']; exact mj_in_nI (by omega) h2) r
        have gM1 : ∀ r : mj_R, mj_g (x6.1 0 7 + (1 : Int32)) 41 r = r := fun r => mj_g_k (by rw [m7', show nI M + 1 = nI (M + 1) from nI_add M 1]; exact mj_in_nI (by omega) (by decide)) r
        have cM1 : (x6.1 0 7 + (1 : Int32)).toNatClampNeg = M + 1 := by rw [m7', show nI M + 1 = nI (M + 1) from nI_add M 1]; exact nI_clamp (by omega)
        have ga3 : ∀ r : mj_R, mj_g a3 4000 r = r := fun r => mj_g_k (sp_nd_in hT.2.2 hA.1 (Nat.le_refl _)) r
        have e33 := zo.w33
        have gb : ∀ r : mj_R, mj_gb (x6.1 0 33) r = r := fun r => by rw [e33, mj_gb_b]
        simp only [gM 40 (by decide) (by decide), gM 41 (by decide) (by decide), gM1, gb, ga3, cM, cM1]
        have ans : u_ans nt N M D a1 a2 a3 (some w) = (nI M, some w) := by rw [ansW, al]; rfl
        have hov : ¬ u_over w (uCf G M) (uRf G M) (uLf G M) (wW nt a1 a2 a3) := by
          cases w
          · exact w4.1
          · exact w4.1
        have ok3 := sp_nd_lt hT.2.2 hA.1
        by_cases c3 : a2 = -1
        · rw [if_pos c3]
          obtain ⟨e1, e2, e3⟩ := m_memEnd (a2 := a2) (a3 := a3) (a1 := a1) U6 (by omega) hB zo (wW_cx nt a1 a2 a3) hov x6_26 x6_27 w3 m7' (fun h => absurd c3 h) hA.1
          exact ⟨some w, _, w4, by rw [ans]; exact congrArg (fun v => (some (some (Value.int v), m_fin M a1 a2 a3 x6) : mj_R)) m7', x6U.tr e3.1, (fun hw => by rw [ans] at hw; cases hw), fun w' hw => by rw [ans] at hw; cases hw; exact e1 c3⟩
        · rw [if_neg c3]
          have n2 : sp_nd N a2 = true := by
            rcases (u_good_un hg).2.2.1 with q | q
            · exact absurd q c3
            · unfold sp_fk sp_fr at q; simp only [Bool.and_eq_true] at q; exact q.1.1
          rw [mj_g_k (sp_nd_in hT.2.2 n2 (Nat.le_refl _))]
          obtain ⟨e1, e2, e3⟩ := m_memEnd (a2 := a2) (a3 := a3) (a1 := a1) U6 (by omega) hB zo (wW_cx nt a1 a2 a3) hov x6_26 x6_27 w3 m7' (fun _ => n2) hA.1
          exact ⟨some w, _, w4, by rw [ans]; exact congrArg (fun v => (some (some (Value.int v), mj_wI (m_fin M a1 a2 a3 x6) 7 a2.toNatClampNeg (1 : Int32)) : mj_R)) m7', x6U.tr e3.2, (fun hw => by rw [ans] at hw; cases hw), fun w' hw => by rw [ans] at hw; cases hw; exact e2 c3⟩
      · rw [v1 al, if_neg (by decide)]
        exact bad (some w) (-5) _ x6 rfl w4 (by rw [ansW, al]; rfl) x6U U6
  by_cases c3 : a2 = -1
  · rw [if_pos c3]
    exact at25 (by rw [decide_eq_true c3]; rfl)
  · rw [if_neg c3, sX1_isA (by omega) hy, mj_rI_k]
    cases k3 : sp_fk nt (sp_fr nt N) a2 86
    · rw [if_pos (by rfl)]
      exact notgood (by unfold u_good; rw [k3, decide_eq_false c3]; simp) _ rfl
    · rw [if_neg (by decide)]
      exact at25 (by rw [k3, Bool.or_true])
end
