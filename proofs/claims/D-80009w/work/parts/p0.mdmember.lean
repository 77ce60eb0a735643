/-! CodeWriterModel: writeMember -/
/-- more than a member can have, at the end -/
def u_over (w : Bool) (cf rf lf : Nat) (G : wG) : Prop := w_over w rf lf G ∨ 90000 < cf + (w_by_ w w_z (g_it G)).length
/-- narrow, wide, or too much -/
def u_way (cf rf lf : Nat) (G : wG) : Option Bool → Prop
  | none => u_over false cf rf lf G ∨ (w_far false G = true ∧ u_over true cf rf lf G)
  | some false => ¬ u_over false cf rf lf G ∧ w_far false G = false
  | some true => ¬ u_over true cf rf lf G ∧ w_far false G = true
theorem u_over.nw {cf rf lf : Nat} {G : wG} (h : u_over false cf rf lf G) (w : Bool) : u_over w cf rf lf G := by
  have n := w_by_nw w_z w_z w (g_it G)
  rcases h with (h | h | h | h) | h
  · exact Or.inl (Or.inl h)
  · exact Or.inl (Or.inr (Or.inl (by omega)))
  · exact Or.inl (Or.inr (Or.inr (Or.inl h)))
  · exact Or.inl (Or.inr (Or.inr (Or.inr h)))
  · exact Or.inr (by omega)
theorem u_way.uq {cf rf lf : Nat} {G : wG} : ∀ {o o' : Option Bool}, u_way cf rf lf G o → u_way cf rf lf G o' → o = o' := by
  intro o o' a b
  cases o with
  | none => cases o' with
    | none => rfl
    | some w => cases w with
      | false => exact absurd (a.elim id (fun q => absurd q.1 (by rw [b.2]; decide))) b.1
      | true => exact absurd (a.elim (fun q => q.nw true) (fun q => q.2)) b.1
  | some w => cases o' with
    | none => cases w with
      | false => exact absurd (b.elim id (fun q => absurd q.1 (by rw [a.2]; decide))) a.1
      | true => exact absurd (b.elim (fun q => q.nw true) (fun q => q.2)) a.1
    | some w' => cases w <;> cases w'
                 · rfl
                 · exact absurd (a.2.symm.trans b.2) (by decide)
                 · exact absurd (a.2.symm.trans b.2) (by decide)
                 · rfl
section
variable {nt : sp_NT} {N M : Nat} {w : Bool} {ba pf rf lf c : Nat} {x y : mj_X} {res par : Nat → Int32} {lm : Nat → Nat} {lv : Nat → Bool} {G : wG}
def zw3 (ba pf rf lf : Nat) (k j : Nat) : Bool := zw2 ba pf rf lf k j || (match k with
  | 0 => [31, 33, 34].elem j
  | _ => false)
theorem zw2_3 (f : zfr (zw2 ba pf rf lf) x y) : zfr (zw3 ba pf rf lf) x y := f.mono' (fun k j h => by
  unfold zw3 at h; rw [Bool.or_eq_false_iff] at h; exact h.1)
/-- before a member is written -/
def zM (nt : sp_NT) (N M ba pf rf lf : Nat) (x : mj_X) : Prop := z_env nt N M ba pf lf (fun _ => none) x ∧ M ≤ 39 ∧ x.1 12 M = nI ba ∧ x.1 17 M = nI rf ∧ rf ≤ 20000 ∧ ∀ k, ∃ m, m < 300000 ∧ x.1 74 k = nI m
/-- a member is written, its jumps are laid -/
def zO (nt : sp_NT) (N M : Nat) (w : Bool) (ba pf rf lf : Nat) (x : mj_X) (G : wG) : Prop := ∃ c lm lv x0 A, zR nt N M w ba pf rf lf c lm lv x0 G ∧ x0.1 0 34 = 0 ∧ x = set19 A x0 ∧ z_ar A ba (w_by_ w (w_off w (g_it G) (g_lat G)) (g_it G))
theorem zR.ov (h : zR nt N M w ba pf rf lf c lm lv x G) (h0 : x.1 0 34 = 0) (hcx : g_cx G = []) : u_over w ba rf lf G ↔ 90000 < ba + (w_by_ w w_z (g_it G)).length := by
  obtain ⟨⟨-, -, q⟩, -, -, r1, r2, -⟩ := h
  rcases q with ⟨n3, z34, ⟨b1, b2, b3, b4, b5⟩, zf, zl, zp, ⟨l1, l2, l3, l4, -⟩, -⟩ | ⟨q, -⟩
  · refine ⟨fun q => ?_, Or.inr⟩
    rcases q with (q | q | q | q) | q
    · rw [n3] at q; cases q
    · omega
    · unfold w_ph at q; rw [hcx] at q
      have : w_np [] = 0 := rfl
      omega
    · omega
    · exact q
  · exact absurd h0 (by rw [q.1]; decide)
theorem zR.ov0 (h : zR nt N M w ba pf rf lf c lm lv x G) (h0 : x.1 0 34 = 0) : g_ov G = false := by
  rcases h.1.2.2 with q | q
  · exact q.1
  · exact absurd h0 (by rw [q.1.1]; decide)
theorem m_wM78 {d : Nat} {a1 a2 a3 : Int32} (hcx : g_cx G = []) (hba : ba ≤ 90000) (hE : z_env nt N M ba pf lf (fun _ => none) x) (h17 : x.1 17 M = nI rf) (hrf : rf ≤ 20000) (h : (¬ x.1 0 34 = 0 ∧ u_over w ba rf lf G) ∨ (x.1 0 34 = 0 ∧ ∃ c lm lv x0 A, zR nt N M w ba pf rf lf c lm lv x0 G ∧ x0.1 0 34 = 0 ∧ x = set19 A x0)) :
    ∃ how, rX1_writeMember d (78, [some (.ref 0), some (.int a1), some (.int a2), some (.int a3), none], [], x) = some (some (.int how), x) ∧ ((u_over w ba rf lf G ∧ how = -4) ∨ (¬ u_over w ba rf lf G ∧ x.1 0 34 = 0 ∧ how = if g_al G = true then -5 else 0)) := by
  rw [bX1_writeMember_78]
  rcases h with ⟨h0, ho⟩ | ⟨h0, c, lm, lv, x0, A, hR, h00, e⟩
  · rw [if_neg h0]; exact ⟨-4, rfl, Or.inl ⟨ho, rfl⟩⟩
  · rw [if_pos h0]
    have ov := hR.ov h00 hcx
    have hR' := hR
    obtain ⟨⟨-, -, q⟩, -, -, r1, r2, -⟩ := hR'
    rcases q with ⟨n3, z34, ⟨b1, b2, b3, b4, b5⟩, zf, zl, zp, ⟨l1, l2, l3, l4, -⟩, ⟨s1, -⟩⟩ | ⟨q, -⟩
    · have e31 : x.1 0 31 = nI ba := by rw [e]; exact b1
      have e32 : x.1 0 32 = nI (w_by_ w w_z (g_it G)).length := by rw [e]; exact b3
      have e44 : x.1 0 44 = nI (g_rg G).length := by rw [e]; exact r1
      have e45 : x.1 0 45 = nI (g_ln G).length := by rw [e]; exact l1
      have e35 : x.1 0 35 = sp_b (g_al G) := by rw [e]; exact s1
      have e7 : x.1 0 7 = nI M := hE.2.1
      have e18 : x.1 18 M = nI lf := hE.2.2.2.2.1
      have g7 : ∀ r : mj_R, mj_g (x.1 0 7) 41 r = r := fun r => mj_g_k (by rw [e7]; exact mj_in_nI (by have := hE.2.2.1; omega) (by decide)) r
      have c7 : (x.1 0 7).toNatClampNeg = M := by rw [e7]; exact nI_clamp (by have := hE.2.2.1; omega)
      have p0 : (nI ba + nI (w_by_ w w_z (g_it G)).length) = nI (ba + (w_by_ w w_z (g_it G)).length) := nI_add _ _
      have p1 : nI rf + nI (g_rg G).length = nI (rf + (g_rg G).length) := nI_add _ _
      have p2 : nI lf + nI (g_ln G).length = nI (lf + (g_ln G).length) := nI_add _ _
      rw [e31, e32, p0]
      have lt : ∀ a b : Nat, a < 2147483648 → b < 2147483648 → (nI a < nI b ↔ a < b) := fun a b ha hb => by
        rw [Int32.lt_iff_toInt_lt, nI_toInt (by omega), nI_toInt (by omega)]; omega
      have le : ∀ a b : Nat, a < 2147483648 → b < 2147483648 → (nI a ≤ nI b ↔ a ≤ b) := fun a b ha hb => by
        rw [Int32.le_iff_toInt_le, nI_toInt (by omega), nI_toInt (by omega)]; omega
      by_cases u : 90000 < ba + (w_by_ w w_z (g_it G)).length
      · rw [if_pos (show (90000 : Int32) < _ from (lt 90000 _ (by omega) (by omega)).mpr u)]
        exact ⟨-4, rfl, Or.inl ⟨ov.mpr u, rfl⟩⟩
      · rw [if_neg (show ¬ (90000 : Int32) < _ from fun q => u ((lt 90000 _ (by omega) (by omega)).mp q)), g7, c7, h17, e44, p1, if_neg (show ¬ (20000 : Int32) < _ from fun q => absurd ((lt 20000 _ (by omega) (by omega)).mp q) (by omega)), g7, e18, e45, p2, if_pos (show _ ≤ (20000 : Int32) from (le _ 20000 (by omega) (by omega)).mpr l4), e35]
        cases al : g_al G
        · exact ⟨0, rfl, Or.inr ⟨fun q => u (ov.mp q), h0, rfl⟩⟩
        · exact ⟨-5, rfl, Or.inr ⟨fun q => u (ov.mp q), h0, rfl⟩⟩
    · exact absurd h00 (by rw [q.1]; decide)
theorem m_writeMember {d : Nat} (hd : 1471 ≤ d) (hT : wTb nt N M res par) (h : zM nt N M ba pf rf lf x) {q b r a3 : Int32} (h30 : x.1 0 30 = r) {l : List Int32} (hl : sp_Ch nt N 86 l q) (hlq : sp_chain nt 4001 q = l) (hn : l.length ≤ 64) (hA : wA nt N 40 b) (hok : g_ok (wW nt r q b))
    (hgo : g_ov (wW nt r q b) = false → ∀ w q', q' ∈ w_fxs w w_z (g_it (wW nt r q b)) → g_goes (wW nt r q b) q'.2.2.1 = true) :
    ∃ x' how o, kX1 (d + 1) 33 [.ref 0, .int q, .int b, .int a3] x = some (some (.int how), x') ∧ zfr (zw3 ba pf rf lf) x x' ∧ (∀ k, ∃ m, m < 300000 ∧ x'.1 74 k = nI m) ∧ u_way ba rf lf (wW nt r q b) o
      ∧ (o = none → how = -4) ∧ ∀ w, o = some w → (g_al (wW nt r q b) = true → how = -5) ∧ (g_al (wW nt r q b) = false → how = 0 ∧ zO nt N M w ba pf rf lf x' (wW nt r q b)) := by
  obtain ⟨d, rfl⟩ : ∃ e, d = e + 1 := ⟨d - 1, by omega⟩
  obtain ⟨hE, hM, h12, h17, hrf, h74⟩ := h
  have hcx := wW_cx nt r q b
  have hba : ba ≤ 90000 := hE.2.2.2.2.2.2.2.1
  have e7 : x.1 0 7 = nI M := hE.2.1
  have g7 : ∀ r : mj_R, mj_g (x.1 0 7) 41 r = r := fun r => mj_g_k (by rw [e7]; exact mj_in_nI (by omega) (by decide)) r
  have c7 : (x.1 0 7).toNatClampNeg = M := by rw [e7]; exact nI_clamp (by omega)
  rw [eX1_writeMember, g7, c7, h12]
  obtain ⟨y0, hy0⟩ : ∃ y0, y0 = mj_wI (mj_wI (mj_wI (mj_wI x 0 31 (nI ba)) 0 34 (0 : Int32)) 0 40 (0 : Int32)) 0 33 (0 : Int32) := ⟨_, rfl⟩
  rw [← hy0]
  have F0 : zfr (zw3 ba pf rf lf) x y0 := by rw [hy0]; exact ((((zfr.rf _ x).w _ rfl).w _ rfl).w _ rfl).w _ rfl
  have envs : ∀ {y : mj_X}, zfr (zw3 ba pf rf lf) x y → z_env nt N M ba pf lf (fun _ => none) y := fun {y} f => by
    obtain ⟨⟨t1, t2, t3, t4, t5, t6, t7, t8⟩, k2, k3, k4, k5, k6, k7, k8, k9⟩ := hE
    have e : ∀ k j, zw3 ba pf rf lf k j = false → y.1 k j = x.1 k j := f.2
    refine ⟨⟨?_, t2, ?_, ?_, ?_, ?_, ?_, ?_⟩, ?_, k3, ?_, ?_, k6, k7, k8, fun v p h4 hv => by simp at hv⟩
    · rw [e 0 0 rfl]; exact t1
    · funext j; rw [e 2 j rfl, t3]
    · funext j; rw [e 3 j rfl, t4]
    · funext j; rw [e 4 j rfl, t5]
    · funext j; rw [e 5 j rfl, t6]
    · funext j; rw [e 6 j rfl, t7]
    · funext j; rw [e 7 j rfl, t8]
    · rw [e 0 7 rfl]; exact k2
    · rw [e 16 M rfl]; exact k4
    · rw [e 18 M rfl]; exact k5
  have B0 : zB nt N M false ba pf rf lf y0 := ⟨envs F0, hM, by rw [F0.2 17 M rfl]; exact h17, hrf, by rw [hy0]; rfl, by rw [hy0]; rfl, by rw [hy0]; rfl, by rw [hy0]; rfl, fun k => by rw [hy0]; exact h74 k⟩
  obtain ⟨y1, r1, F1, k1, w1⟩ := m_writeAll (d := d) (c := 3990) (a3 := a3) (r := r) (by omega) (by decide) (by decide) hT B0 hba (by rw [F0.2 0 30 rfl]; exact h30) hl hlq hn hA hok
  rw [r1, mj_rV_k]
  have G1 := F0.tr (zw2_3 F1)
  generalize hG : wW nt r q b = G at *
  rcases w1 with ⟨h0, lm, lv, R1⟩ | ⟨h0, ho⟩
  · rw [if_pos h0]
    obtain ⟨A, s1, s2, s3⟩ := m_settles (d := d) R1.1 h0 hba (hgo (R1.ov0 h0) false)
    rw [s1, mj_rI_k]
    have FA : zfr (zw3 ba pf rf lf) x (set19 A y1) := by
      refine G1.tr ⟨rfl, fun k j hz => ?_⟩
      by_cases e : k = 19
      · subst e
        show (if (19 : Nat) = 19 then A else y1.1 19) j = _
        rw [if_pos rfl]
        have hz : ((Nat.ble ba j || false) || false) = false := hz
        exact s3 j (Or.inl (Nat.lt_of_not_le (fun q => by rw [Nat.ble_eq.mpr q] at hz; exact absurd hz (by decide))))
      · rw [set19_n A y1 e]
    cases far : w_far false G
    · rw [Bool.not_false, if_neg (by decide)]
      obtain ⟨how, r2, r3⟩ := m_wM78 (d := d + 1) (a1 := q) (a2 := b) (a3 := a3) (w := false) hcx hba (envs FA) (by rw [FA.2 17 M rfl]; exact h17) hrf (Or.inr ⟨h0, 3990, lm, lv, y1, A, R1, h0, rfl⟩)
      rcases r3 with ⟨u, e⟩ | ⟨u, -, e⟩
      · exact ⟨_, how, none, r2, FA, k1, Or.inl u, (fun _ => e), (fun w hw => by cases hw)⟩
      · refine ⟨_, how, some false, r2, FA, k1, ⟨u, far⟩, (fun hw => by cases hw), fun w hw => ?_⟩
        cases hw
        exact ⟨fun al => by rw [e, if_pos al], fun al => ⟨by rw [e, if_neg (by rw [al]; decide)], ⟨3990, lm, lv, y1, A, R1, h0, rfl, s2⟩⟩⟩
    · rw [Bool.not_true, if_pos (by rfl)]
      obtain ⟨y2, hy2⟩ : ∃ y2, y2 = mj_wI (mj_wI (set19 A y1) 0 33 (1 : Int32)) 0 40 (0 : Int32) := ⟨_, rfl⟩
      rw [← hy2]
      have F2 : zfr (zw3 ba pf rf lf) x y2 := by rw [hy2]; exact (FA.w _ rfl).w _ rfl
      have b31 : y2.1 0 31 = nI ba := by
        rw [hy2]
        rcases R1.1.2.2 with ⟨n3, z34, ⟨b1, -⟩, -⟩ | ⟨m1, -⟩
        · exact b1
        · exact m1.2.1
      have B2 : zB nt N M true ba pf rf lf y2 := ⟨envs F2, hM, by rw [F2.2 17 M rfl]; exact h17, hrf, b31, by rw [hy2]; rfl, by rw [hy2]; exact h0, by rw [hy2]; rfl, fun k => by rw [hy2]; exact k1 k⟩
      obtain ⟨y3, r3, F3, k3, w3⟩ := m_writeAll (d := d) (c := 3990) (a3 := a3) (r := r) (by omega) (by decide) (by decide) hT B2 hba (by rw [F2.2 0 30 rfl]; exact h30) hl hlq hn hA (by rw [hG]; exact hok)
      rw [hG] at w3
      rw [r3, mj_rV_k]
      have G3 := F2.tr (zw2_3 F3)
      have fin : ∀ {z : mj_X}, zfr (zw3 ba pf rf lf) x z → (∀ k, ∃ m, m < 300000 ∧ z.1 74 k = nI m) → ((¬ z.1 0 34 = 0 ∧ u_over true ba rf lf G) ∨ (z.1 0 34 = 0 ∧ ∃ c lm lv x0 A, (zR nt N M true ba pf rf lf c lm lv x0 G ∧ x0.1 0 34 = 0 ∧ z = set19 A x0) ∧ z_ar A ba (w_by_ true (w_off true (g_it G) (g_lat G)) (g_it G)))) →
          ∃ x' how o, rX1_writeMember (d + 1) (78, [some (.ref 0), some (.int q), some (.int b), some (.int a3), none], [], z) = some (some (.int how), x') ∧ zfr (zw3 ba pf rf lf) x x' ∧ (∀ k, ∃ m, m < 300000 ∧ x'.1 74 k = nI m) ∧ u_way ba rf lf G o
      ∧ (o = none → how = -4) ∧ ∀ w, o = some w → (g_al G = true → how = -5) ∧ (g_al G = false → how = 0 ∧ zO nt N M w ba pf rf lf x' G) := by
        intro z fz kz hz
        obtain ⟨how, r2, r3⟩ := m_wM78 (d := d + 1) (a1 := q) (a2 := b) (a3 := a3) (w := true) hcx hba (envs fz) (by rw [fz.2 17 M rfl]; exact h17) hrf (hz.imp id (fun ⟨u, c, lm, lv, x0, A, v, _⟩ => ⟨u, c, lm, lv, x0, A, v⟩))
        rcases r3 with ⟨u, e⟩ | ⟨u, u0, e⟩
        · exact ⟨z, how, none, r2, fz, kz, Or.inr ⟨far, u⟩, (fun _ => e), (fun w hw => by cases hw)⟩
        · refine ⟨z, how, some true, r2, fz, kz, ⟨u, far⟩, (fun hw => by cases hw), fun w hw => ?_⟩
          cases hw
          rcases hz with ⟨v0, -⟩ | ⟨-, c, lm, lv, x0, A, ⟨v1, v2, v3⟩, v4⟩
          · exact absurd u0 v0
          · exact ⟨fun al => by rw [e, if_pos al], fun al => ⟨by rw [e, if_neg (by rw [al]; decide)], ⟨c, lm, lv, x0, A, v1, v2, v3, v4⟩⟩⟩
      rcases w3 with ⟨h3, lm3, lv3, R3⟩ | ⟨h3, ho3⟩
      · rw [if_pos h3]
        obtain ⟨A3, t1, t2, t3⟩ := m_settles (d := d) R3.1 h3 hba (hgo (R3.ov0 h3) true)
        rw [t1, mj_rI_k]
        refine fin (G3.tr ⟨rfl, fun k j hz => ?_⟩) k3 (Or.inr ⟨h3, 3990, lm3, lv3, y3, A3, ⟨R3, h3, rfl⟩, t2⟩)
        by_cases e : k = 19
        · subst e
          show (if (19 : Nat) = 19 then A3 else y3.1 19) j = _
          rw [if_pos rfl]
          have hz : ((Nat.ble ba j || false) || false) = false := hz
          exact t3 j (Or.inl (Nat.lt_of_not_le (fun q => by rw [Nat.ble_eq.mpr q] at hz; exact absurd hz (by decide))))
        · rw [set19_n A3 y3 e]
      · rw [if_neg h3]
        exact fin G3 k3 (Or.inl ⟨h3, Or.inl ho3⟩)
  · rw [if_neg h0]
    obtain ⟨how, r2, r3⟩ := m_wM78 (d := d + 1) (a1 := q) (a2 := b) (a3 := a3) (w := false) hcx hba (envs G1) (by rw [G1.2 17 M rfl]; exact h17) hrf (Or.inl ⟨h0, Or.inl ho⟩)
    rcases r3 with ⟨u, e⟩ | ⟨u, -, e⟩
    · exact ⟨_, how, none, r2, G1, k1, Or.inl u, (fun _ => e), (fun w hw => by cases hw)⟩
    · exact absurd (Or.inl ho) u
end
