/-! CodeWriter: settle -/
theorem k_copy (x : mj_X) {cf n : Nat} (hn : n ≤ 65535) (hc : cf + n ≤ 90000) (hb : ∀ q, q < n → fits .byte (.int (x.1 28 q)) = true) : mj_pr cdX0 1009 [.ref 28, .int (0 : Int32), .ref 13, .int (nI cf), .int (nI n)] x = some (none, mj_cp x 28 0 13 cf n) := by
  have e0 : (0 : Int32).toNatClampNeg = 0 := rfl
  have e1 := nI_clamp (n := n) (by omega)
  have e2 := nI_clamp (n := cf) (by omega)
  show (bif decide ((0 : Int32) ≤ 0) && decide ((0 : Int32) ≤ nI cf) && decide ((0 : Int32) ≤ nI n) && Nat.ble ((0 : Int32).toNatClampNeg + (nI n).toNatClampNeg) 65551 && Nat.ble ((nI cf).toNatClampNeg + (nI n).toNatClampNeg) 90008 && !Nat.beq 28 13 && (List.range (nI n).toNatClampNeg).all (fun q => fits .byte (.int (x.1 28 ((0 : Int32).toNatClampNeg + q)))) then (some (none, mj_cp x 28 (0 : Int32).toNatClampNeg 13 (nI cf).toNatClampNeg (nI n).toNatClampNeg) : mj_R) else none) = _
  rw [e0, e1, e2]
  have a1 : decide ((0 : Int32) ≤ 0) = true := by decide
  have a2 : decide ((0 : Int32) ≤ nI cf) = true := decide_eq_true (nI_pos' (by omega))
  have a3 : decide ((0 : Int32) ≤ nI n) = true := decide_eq_true (nI_pos' (by omega))
  have a4 : Nat.ble (0 + n) 65551 = true := Nat.ble_eq.mpr (by omega)
  have a5 : Nat.ble (cf + n) 90008 = true := Nat.ble_eq.mpr (by omega)
  have a6 : (!Nat.beq 28 13) = true := by decide
  have a7 : (List.range n).all (fun q => fits .byte (.int (x.1 28 (0 + q)))) = true := List.all_eq_true.mpr (fun q hq => by rw [Nat.zero_add]; exact hb q (List.mem_range.mp hq))
  rw [a1, a2, a3, a4, a5, a6, a7]
  rfl
/-- the writes of settle, but the last -/
def k_fin (M : Nat) (v12 : Int32) (x : mj_X) : mj_X := mj_wI (mj_wI (mj_wI (mj_wI (mj_wI (mj_wI x 12 (M + 1) v12) 14 M (x.1 0 33)) 16 M (x.1 0 31)) 17 (M + 1) (x.1 0 43)) 21 (M + 1) (x.1 0 45)) 23 (M + 1) (x.1 0 46)
theorem k_fin_12 (M : Nat) (v : Int32) (x : mj_X) : (k_fin M v x).1 12 = upd (x.1 12) (M + 1) v := by unfold k_fin; rw [mj_wI_n (by decide), mj_wI_n (by decide), mj_wI_n (by decide), mj_wI_n (by decide), mj_wI_n (by decide), mj_wI_y]
theorem k_fin_14 (M : Nat) (v : Int32) (x : mj_X) : (k_fin M v x).1 14 = upd (x.1 14) M (x.1 0 33) := by unfold k_fin; rw [mj_wI_n (by decide), mj_wI_n (by decide), mj_wI_n (by decide), mj_wI_n (by decide), mj_wI_y, mj_wI_n (by decide)]
theorem k_fin_16 (M : Nat) (v : Int32) (x : mj_X) : (k_fin M v x).1 16 = upd (x.1 16) M (x.1 0 31) := by unfold k_fin; rw [mj_wI_n (by decide), mj_wI_n (by decide), mj_wI_n (by decide), mj_wI_y, mj_wI_n (by decide), mj_wI_n (by decide)]
theorem k_fin_17 (M : Nat) (v : Int32) (x : mj_X) : (k_fin M v x).1 17 = upd (x.1 17) (M + 1) (x.1 0 43) := by unfold k_fin; rw [mj_wI_n (by decide), mj_wI_n (by decide), mj_wI_y, mj_wI_n (by decide), mj_wI_n (by decide), mj_wI_n (by decide)]
theorem k_fin_21 (M : Nat) (v : Int32) (x : mj_X) : (k_fin M v x).1 21 = upd (x.1 21) (M + 1) (x.1 0 45) := by unfold k_fin; rw [mj_wI_n (by decide), mj_wI_y, mj_wI_n (by decide), mj_wI_n (by decide), mj_wI_n (by decide), mj_wI_n (by decide)]
theorem k_fin_23 (M : Nat) (v : Int32) (x : mj_X) : (k_fin M v x).1 23 = upd (x.1 23) (M + 1) (x.1 0 46) := by unfold k_fin; rw [mj_wI_y, mj_wI_n (by decide), mj_wI_n (by decide), mj_wI_n (by decide), mj_wI_n (by decide), mj_wI_n (by decide)]
theorem k_fin_n (M : Nat) (v : Int32) (x : mj_X) {k : Nat} (h : k ≠ 12 ∧ k ≠ 14 ∧ k ≠ 16 ∧ k ≠ 17 ∧ k ≠ 21 ∧ k ≠ 23) : (k_fin M v x).1 k = x.1 k := by unfold k_fin; rw [mj_wI_n (by omega), mj_wI_n (by omega), mj_wI_n (by omega), mj_wI_n (by omega), mj_wI_n (by omega), mj_wI_n (by omega)]
theorem k_fin_2 (M : Nat) (v : Int32) (x : mj_X) : (k_fin M v x).2 = x.2 := rfl
/-- what settle changes -/
def cS (M cf k j : Nat) : Bool := match k with
  | 0 => Nat.beq j 69 || Nat.beq j 70
  | 12 => Nat.beq j (M + 1)
  | 13 => Nat.ble cf j
  | 14 => Nat.beq j M
  | 15 => Nat.beq j M
  | 16 => Nat.beq j M
  | 17 => Nat.beq j (M + 1)
  | 21 => Nat.beq j (M + 1)
  | 23 => Nat.beq j (M + 1)
  | 28 => true
  | 68 => true
  | 69 => true
  | _ => false
section
variable {nt : sp_NT} {N M ret cf pf rf lf tb : Nat} {res par : Nat → Int32} {G : wG} {w : Bool} {x : mj_X} {E : wF} {lm : Nat → Nat} {lv : Nat → Bool}
theorem k_settle {d : Nat} (hd : 8 ≤ d) (hT : wTb nt N (M + 1) res par) (hM : M ≤ 39) (hx : cw_T x nt N) (hm : cw_M x (M + 1) res par) (hR : yR (M, w, cf, pf, rf, lf, tb) lm lv x G) (hcf : cf ≤ 90000) (hpf : pf ≤ 7000) (hgo : ∀ q, q ∈ w_fxs w w_z (g_it G) → g_goes G q.2.2.1 = true)
    (h12 : x.1 12 M = nI cf) (h17 : x.1 17 M = nI pf) (h21 : x.1 21 M = nI rf) (hD : cD nt (M + 1) res par ret G) (hE : cE G E) (hE2 : E.2 = []) (hf : w_far w G = false) (hms : g_ms G < 10000) :
    ∃ z, kX0 (d + 1) 96 [.ref 0, .int (nI M)] x = some (none, z) ∧ cwE (G, w) cf pf rf lf M z ∧ z.1 12 (M + 1) = nI (cf + uLen (G, w)) ∧ z.1 17 (M + 1) = nI (pf + (g_po G).length) ∧ z.1 21 (M + 1) = nI (rf + (g_rg G).length) ∧ z.1 23 (M + 1) = nI (lf + (g_ln G).length)
      ∧ z.2 = x.2 ∧ ∀ k j, cS M cf k j = false → z.1 k j = x.1 k j := by
  obtain ⟨d, rfl⟩ : ∃ e, d = e + 1 := ⟨d - 1, by omega⟩
  obtain ⟨A, a1, a2⟩ := k_patch (d := d) hR hgo
  obtain ⟨-, ⟨n1, -, -, n31, ⟨b1, b2, b3, b4⟩, -, -, ⟨p1, p2, p3, p4⟩, ⟨l1, l2, l3, l4, l5, l6⟩⟩, n33, n34, ⟨s1, s2, s3, s4⟩⟩ := hR
  have b1 : x.1 0 28 = nI (uLen (G, w)) := b1
  have b2 : uLen (G, w) ≤ 65535 := b2
  have b3 : cf + uLen (G, w) ≤ 90000 := b3
  have a2 : z_ar A 0 (uBy (G, w)) := a2
  have lenB : (uBy (G, w)).length = uLen (G, w) := w_by_ln _ _ _
  have g41 : ∀ r : mj_R, mj_g (nI M) 41 r = r := fun r => mj_g_k (mj_in_nI (by omega) (by decide)) r
  have g40 : ∀ r : mj_R, mj_g (nI M) 40 r = r := fun r => mj_g_k (mj_in_nI (by omega) (by decide)) r
  have g1 : ∀ r : mj_R, mj_g (nI (M + 1)) 41 r = r := fun r => mj_g_k (mj_in_nI (by omega) (by decide)) r
  have e28 : (set28 A x).1 28 = A := by simp [set28]
  have en : ∀ {a : Nat}, a ≠ 28 → (set28 A x).1 a = x.1 a := fun h => set28_n A x h
  rw [eX0_settle, a1, mj_rV_k, g41, nI_clamp (by omega), show nI M + (1 : Int32) = nI (M + 1) from nI_add M 1, en (by decide), en (by decide), h12, b1,
    k_copy (set28 A x) b2 b3 (fun q hq => by
      rw [e28]
      have hq' : q < (uBy (G, w)).length := by rw [lenB]; exact hq
      have h := a2 q _ (List.getElem?_eq_getElem hq')
      rw [Nat.zero_add] at h
      rw [h]
      obtain ⟨u, hu⟩ := o8s.by_ w (w_off w (g_it G) (g_lat G)) (g_it G) _ (List.getElem_mem hq')
      rw [hu]; exact fits_o8 u), mj_rV_k]
  obtain ⟨x2, hx2⟩ : ∃ x2, x2 = mj_cp (set28 A x) 28 0 13 cf (uLen (G, w)) := ⟨_, rfl⟩
  have x2n : ∀ {k : Nat}, k ≠ 13 → k ≠ 28 → x2.1 k = x.1 k := fun {k} h1 h2 => by
    rw [hx2]; show (if k = 13 then _ else (set28 A x).1 k) = _; rw [if_neg h1, en h2]
  have x213 : ∀ j, x2.1 13 j = if cf ≤ j ∧ j < cf + uLen (G, w) then A (j - cf) else x.1 13 j := fun j => by
    rw [hx2]; unfold mj_cp va_cpy; simp [set28]
  have x22 : x2.2 = x.2 := by rw [hx2]; rfl
  rw [← hx2]
  have gb : ∀ r : mj_R, mj_gb (x2.1 0 31) r = r := fun r => by rw [x2n (by decide) (by decide), n31, mj_gb_b]
  rw [g1, g40, gb, g40, g1, g1, g1, nI_clamp (by omega), x2n (k := 0) (by decide) (by decide), b1, nI_add]
  obtain ⟨x3, hx3⟩ : ∃ x3, x3 = k_fin M (nI (cf + uLen (G, w))) x2 := ⟨_, rfl⟩
  have ex3 : mj_wI (mj_wI (mj_wI (mj_wI (mj_wI (mj_wI x2 12 (M + 1) (nI (cf + uLen (G, w)))) 14 M (x.1 0 33)) 16 M (x.1 0 31)) 17 (M + 1) (x.1 0 43)) 21 (M + 1) (x.1 0 45)) 23 (M + 1) (x.1 0 46) = x3 := by
    rw [hx3]; unfold k_fin; rw [x2n (k := 0) (by decide) (by decide)]
  rw [ex3]
  have f12 : x3.1 12 = upd (x.1 12) (M + 1) (nI (cf + uLen (G, w))) := by rw [hx3, k_fin_12, x2n (by decide) (by decide)]
  have f14 : x3.1 14 = upd (x.1 14) M (x.1 0 33) := by rw [hx3, k_fin_14, x2n (k := 14) (by decide) (by decide), x2n (k := 0) (by decide) (by decide)]
  have f16 : x3.1 16 = upd (x.1 16) M (x.1 0 31) := by rw [hx3, k_fin_16, x2n (k := 16) (by decide) (by decide), x2n (k := 0) (by decide) (by decide)]
  have f17 : x3.1 17 = upd (x.1 17) (M + 1) (x.1 0 43) := by rw [hx3, k_fin_17, x2n (k := 17) (by decide) (by decide), x2n (k := 0) (by decide) (by decide)]
  have f21 : x3.1 21 = upd (x.1 21) (M + 1) (x.1 0 45) := by rw [hx3, k_fin_21, x2n (k := 21) (by decide) (by decide), x2n (k := 0) (by decide) (by decide)]
  have f23 : x3.1 23 = upd (x.1 23) (M + 1) (x.1 0 46) := by rw [hx3, k_fin_23, x2n (k := 23) (by decide) (by decide), x2n (k := 0) (by decide) (by decide)]
  have fn : ∀ {k : Nat}, k ≠ 12 ∧ k ≠ 14 ∧ k ≠ 16 ∧ k ≠ 17 ∧ k ≠ 21 ∧ k ≠ 23 → k ≠ 13 → k ≠ 28 → x3.1 k = x.1 k := fun h h1 h2 => by rw [hx3, k_fin_n _ _ _ h, x2n h1 h2]
  have f13 : ∀ j, x3.1 13 j = if cf ≤ j ∧ j < cf + uLen (G, w) then A (j - cf) else x.1 13 j := fun j => by rw [hx3, k_fin_n _ _ _ (by decide)]; exact x213 j
  have f2 : x3.2 = x.2 := by rw [hx3, k_fin_2]; exact x22
  clear ex3 hx3 hx2 x2n x213 x22 gb
  have B13 : z_ar (x3.1 13) cf (uBy (G, w)) := fun j v hj => by
    have hl := (List.getElem?_eq_some_iff.mp hj).1
    rw [lenB] at hl
    have := a2 j v hj
    rw [Nat.zero_add] at this
    rw [f13, if_pos ⟨by omega, by omega⟩, Nat.add_sub_cancel_left]; exact this
  have po3 : y_po pf x3 (g_po G) := y_po_fr p4 (fun j _ => ⟨by rw [fn (by decide) (by decide) (by decide)], by rw [fn (by decide) (by decide) (by decide)], by rw [f2]⟩)
  have T3 : cw_T x3 nt N := by
    unfold cw_T at hx ⊢
    rw [fn (k := 0) (by decide) (by decide) (by decide), fn (k := 1) (by decide) (by decide) (by decide), fn (k := 2) (by decide) (by decide) (by decide), fn (k := 3) (by decide) (by decide) (by decide), fn (k := 4) (by decide) (by decide) (by decide), fn (k := 5) (by decide) (by decide) (by decide), fn (k := 6) (by decide) (by decide) (by decide)]
    exact hx
  have M3 : cw_M x3 (M + 1) res par := by
    unfold cw_M at hm ⊢
    rw [fn (k := 0) (by decide) (by decide) (by decide), fn (k := 9) (by decide) (by decide) (by decide), fn (k := 10) (by decide) (by decide) (by decide)]
    exact hm
  have R3 : cwR G w rf x3 := s4.mono (fun k e _ _ q => by rw [fn (k := 22) (by decide) (by decide) (by decide)]; exact q)
  have K3 : cwK nt N (M + 1) res par G w M cf pf x3 := ⟨⟨B13, by rw [lenB]; exact b3⟩, T3, M3, by rw [f17, pk_un (by omega)]; exact h17, po3, hpf, p3, hM⟩
  obtain ⟨s, hs⟩ := k_deep (d := d) (by omega) hT K3 hD hE hE2 hf b2 hms ⟨by rw [f12, pk_un (by omega)]; exact h12, by rw [f12, pk_us]⟩ ⟨by rw [f21, pk_un (by omega)]; exact h21, by rw [f21, pk_us]; exact s1⟩ s2 R3
  rw [hs, mj_rI_k, g40]
  have bk : ∀ {k : Nat}, k ≠ 0 → k ≠ 68 → k ≠ 69 → (b_x x3 s).1 k = x3.1 k := fun h0 h1 h2 => b_xk x3 s h0 h1 h2
  have zk : ∀ {k : Nat}, k ≠ 15 → k ≠ 0 → k ≠ 68 → k ≠ 69 → (mj_wI (b_x x3 s) 15 M (nI (g_ms G))).1 k = x3.1 k := fun h h0 h1 h2 => by rw [mj_wI_n h, bk h0 h1 h2]
  refine ⟨_, rfl, ⟨⟨b2, n34⟩, by rw [zk (by decide) (by decide) (by decide) (by decide)]; exact B13, by rw [zk (by decide) (by decide) (by decide) (by decide), f14, pk_us]; exact n33, by rw [mj_wI_y, pk_us], by rw [zk (by decide) (by decide) (by decide) (by decide), f16, pk_us]; exact n31, ?_, p3, ?_, ?_⟩, by rw [zk (by decide) (by decide) (by decide) (by decide), f12, pk_us], by rw [zk (by decide) (by decide) (by decide) (by decide), f17, pk_us]; exact p1, by rw [zk (by decide) (by decide) (by decide) (by decide), f21, pk_us]; exact s1, by rw [zk (by decide) (by decide) (by decide) (by decide), f23, pk_us]; exact l1, f2, fun k j h => ?_⟩
  · exact y_po_fr po3 (fun j _ => ⟨by rw [zk (by decide) (by decide) (by decide) (by decide)], by rw [zk (by decide) (by decide) (by decide) (by decide)], rfl⟩)
  · exact R3.mono (fun k e _ _ q => by rw [zk (k := 22) (by decide) (by decide) (by decide) (by decide)]; exact q)
  · exact l5.mono (fun k e _ _ q => by rw [zk (k := 24) (by decide) (by decide) (by decide) (by decide), fn (k := 24) (by decide) (by decide) (by decide)]; exact q)
  · have nb : ∀ {a b : Nat}, Nat.beq a b = false → a ≠ b := fun {a b} q e => by rw [e, Nat.beq_refl] at q; cases q
    by_cases k0 : k = 0
    · subst k0
      have h : (Nat.beq j 69 || Nat.beq j 70) = false := h
      rw [Bool.or_eq_false_iff] at h
      rw [mj_wI_n (by decide), ← fn (k := 0) (by decide) (by decide) (by decide)]
      show (if (0 : Nat) = 0 ∧ j = 69 then _ else if (0 : Nat) = 0 ∧ j = 70 then _ else if (0 : Nat) = 68 then _ else if (0 : Nat) = 69 then _ else x3.1 0 j) = _
      rw [if_neg (fun q => nb h.1 q.2), if_neg (fun q => nb h.2 q.2), if_neg (by decide), if_neg (by decide)]
    by_cases k68 : k = 68
    · subst k68; cases h
    by_cases k69 : k = 69
    · subst k69; cases h
    by_cases k28 : k = 28
    · subst k28; cases h
    by_cases k15 : k = 15
    · subst k15
      rw [mj_wI_y, pk_un (nb h), bk (by decide) (by decide) (by decide), fn (by decide) (by decide) (by decide)]
    rw [zk k15 k0 k68 k69]
    by_cases k12 : k = 12
    · subst k12; rw [f12, pk_un (nb h)]
    by_cases k14 : k = 14
    · subst k14; rw [f14, pk_un (nb h)]
    by_cases k16 : k = 16
    · subst k16; rw [f16, pk_un (nb h)]
    by_cases k17 : k = 17
    · subst k17; rw [f17, pk_un (nb h)]
    by_cases k21 : k = 21
    · subst k21; rw [f21, pk_un (nb h)]
    by_cases k23 : k = 23
    · subst k23; rw [f23, pk_un (nb h)]
    by_cases k13 : k = 13
    · subst k13
      have h : Nat.ble cf j = false := h
      have lt : j < cf := Nat.lt_of_not_le (fun q => by rw [Nat.ble_eq.mpr q] at h; cases h)
      rw [f13, if_neg (by omega)]
    · rw [fn ⟨k12, k14, k16, k17, k21, k23⟩ k13 k28]
end
