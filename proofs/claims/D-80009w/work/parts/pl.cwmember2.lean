section
variable {nt : sp_NT} {N M c : Nat} {res par bod D : Nat → Int32} {G : uG} {x y z : mj_X} {T : Nat → List Nat}
theorem k_fill25 {b : mj_X} (hN : N ≤ 4000) : mj_pr cdX0 1006 [.ref 25, .int (0 : Int32), .int (nI N), .int (0 : Int32)] b = some (none, mj_fI b 25 0 N 0) := by
  have e : mj_rg 0 (nI N) 4000 = true := by
    unfold mj_rg
    simp only [Bool.and_eq_true, decide_eq_true_eq]
    refine ⟨⟨Int32.le_refl _, nI_pos' (by omega)⟩, ?_⟩
    show nI N ≤ nI 4000
    exact nI_le (by omega) (by decide)
  show (bif mj_rg 0 (nI N) 4000 then mj_gb 0 (some (none, mj_fI b 25 (0 : Int32).toNatClampNeg (nI N).toNatClampNeg 0)) else none) = _
  rw [e, nI_clamp (by omega)]; rfl
theorem uAdd_lt {e : wG × Bool} {m : Nat} (hm : m < M) : uAdd G M e m = G m := if_neg (by omega)
theorem uAdd_eq {e : wG × Bool} : uAdd G M e M = e := if_pos rfl
theorem uAdd_S {e : wG × Bool} (f : wG × Bool → Nat) {m : Nat} (hm : m ≤ M) : uS (fun m => f (uAdd G M e m)) m = uS (fun m => f (G m)) m := uS_cg m (fun k hk => by rw [uAdd_lt (by omega)])
theorem uAdd_S1 {e : wG × Bool} (f : wG × Bool → Nat) : uS (fun m => f (uAdd G M e m)) (M + 1) = uS (fun m => f (G m)) M + f e := by
  show uS (fun m => f (uAdd G M e m)) M + f (uAdd G M e M) = _
  rw [uAdd_S f (Nat.le_refl _), uAdd_eq]
/-- the member that is added -/
theorem cwU.add {c' ret : Nat} {w : Bool} {g : wG} {a1 a2 a3 : Int32} {D' : Nat → Int32} {E : wF} {lm : Nat → Nat} {lv : Nat → Bool} {d tb : Nat} (hd : 9 ≤ d) (hT' : wTb (sp_mk nt a2 a3) N (M + 1) (upd res M a1) (upd par M a2)) (hU : cwU nt N M res par bod D' G c' x) (hM : M ≤ 39) (hB : uBd M G) (hR : yR (M, w, uCf G M, uPf G M, uRf G M, uLf G M, tb) lm lv x g)
    (hgo : ∀ q, q ∈ w_fxs w w_z (g_it g) → g_goes g q.2.2.1 = true) (hD : cD (sp_mk nt a2 a3) (M + 1) (upd res M a1) (upd par M a2) ret g) (hE : cE g E) (hE2 : E.2 = []) (hf : w_far w g = false) (hms : g_ms g < 10000) (h3 : sp_nd N a3 = true) (h2 : ¬ a2 = -1 → sp_nd N a2 = true)
    {x6 : Nat → Int32} (hx6 : x6 = sp_mk nt a2 a3 5) (hy : y = mj_wI (mj_wI (mj_wI (mj_wI ((fun k => if k = 6 then x6 else x.1 k, x.2) : mj_X) 0 7 (nI (M + 1))) 9 M a1) 10 M a2) 11 M a3) :
    ∃ z, kX0 d 96 [.ref 0, .int (nI M)] y = some (none, z) ∧ yfr zC 0 x z ∧ z.1 0 7 = nI (M + 1) ∧ cwU (sp_mk nt a2 a3) N (M + 1) (upd res M a1) (upd par M a2) (upd bod M a3) D' (uAdd G M (g, w)) c' z := by
  obtain ⟨d, rfl⟩ : ∃ e, d = e + 1 := ⟨d - 1, by omega⟩
  obtain ⟨⟨t1, t2, t3, t4, t5, t6, t7, t8⟩, ⟨m1, m2, m3, m4⟩, hb, h25, h26, h48, h66, hf', hE'⟩ := hU
  obtain ⟨f12, f17, f21, f23⟩ := hf' M (Nat.le_refl _)
  obtain ⟨B1, B2, B3, B4⟩ := hB
  -- the state ahead of settle
  have y0 : ∀ j, j ≠ 7 → y.1 0 j = x.1 0 j := fun j hj => by rw [hy, mj_wI_n (by decide), mj_wI_n (by decide), mj_wI_n (by decide), mj_wI_y, pk_un hj]; rfl
  have y07 : y.1 0 7 = nI (M + 1) := by rw [hy, mj_wI_n (by decide), mj_wI_n (by decide), mj_wI_n (by decide), mj_wI_y, pk_us]
  have y6 : y.1 6 = x6 := by rw [hy, mj_wI_n (by decide), mj_wI_n (by decide), mj_wI_n (by decide), mj_wI_n (by decide)]; show (if (6 : Nat) = 6 then x6 else x.1 6) = x6; exact if_pos rfl
  have y9 : y.1 9 = upd (x.1 9) M a1 := by rw [hy, mj_wI_n (by decide), mj_wI_n (by decide), mj_wI_y, mj_wI_n (by decide)]; rfl
  have y10 : y.1 10 = upd (x.1 10) M a2 := by rw [hy, mj_wI_n (by decide), mj_wI_y, mj_wI_n (by decide), mj_wI_n (by decide)]; rfl
  have y11 : y.1 11 = upd (x.1 11) M a3 := by rw [hy, mj_wI_y, mj_wI_n (by decide), mj_wI_n (by decide), mj_wI_n (by decide)]; rfl
  have yk : ∀ {k : Nat}, k ≠ 0 → k ≠ 6 → k ≠ 9 → k ≠ 10 → k ≠ 11 → y.1 k = x.1 k := fun {k} h0 h6 h9 h10 h11 => by
    rw [hy, mj_wI_n h11, mj_wI_n h10, mj_wI_n h9, mj_wI_n h0]; exact if_neg h6
  have y2 : y.2 = x.2 := by rw [hy]; rfl
  clear hy
  have yT : cw_T y (sp_mk nt a2 a3) N := by
    have mk : ∀ j, j ≠ 5 → sp_mk nt a2 a3 j = nt j := fun j hj => funext fun i => by
      show (if j = 5 ∧ _ then (1 : Int32) else nt j i) = nt j i
      rw [if_neg (fun q => hj q.1)]
    exact ⟨by rw [y0 6 (by decide)]; exact t1, t2, by rw [yk (by decide) (by decide) (by decide) (by decide) (by decide), t3, mk 0 (by decide)], by rw [yk (by decide) (by decide) (by decide) (by decide) (by decide), t4, mk 1 (by decide)], by rw [yk (by decide) (by decide) (by decide) (by decide) (by decide), t5, mk 2 (by decide)], by rw [yk (by decide) (by decide) (by decide) (by decide) (by decide), t6, mk 3 (by decide)], by rw [yk (by decide) (by decide) (by decide) (by decide) (by decide), t7, mk 4 (by decide)], by rw [y6, hx6]⟩
  have yM : cw_M y (M + 1) (upd res M a1) (upd par M a2) := ⟨y07, by omega, by rw [y9, m3], by rw [y10, m4]⟩
  have V : yV0 x y := ⟨fun j hj => y0 j (fun e => by rw [e] at hj; cases hj), fun k hk => yk (fun e => by rw [e] at hk; cases hk) (fun e => by rw [e] at hk; cases hk) (fun e => by rw [e] at hk; cases hk) (fun e => by rw [e] at hk; cases hk) (fun e => by rw [e] at hk; cases hk), y2⟩
  have R' : yR (M, w, uCf G M, uPf G M, uRf G M, uLf G M, tb) lm lv y g := ⟨hR.1.v0 V, hR.2.1.v0 V, by rw [y0 33 (by decide)]; exact hR.2.2.1, hR.2.2.2.1, by rw [y0 45 (by decide), yk (k := 22) (by decide) (by decide) (by decide) (by decide) (by decide)]; exact hR.2.2.2.2⟩
  obtain ⟨z, s1, s2, s3, s4, s5, s6, s7, s8⟩ := k_settle (d := d) (by omega) hT' hM yT yM R' B1 (by omega) hgo (by rw [yk (by decide) (by decide) (by decide) (by decide) (by decide)]; exact f12) (by rw [yk (by decide) (by decide) (by decide) (by decide) (by decide)]; exact f17) (by rw [yk (by decide) (by decide) (by decide) (by decide) (by decide)]; exact f21) hD hE hE2 hf hms
  have nb : ∀ {a b : Nat}, a ≠ b → Nat.beq a b = false := fun {a b} h => by
    cases q : Nat.beq a b
    · rfl
    · exact absurd (Nat.eq_of_beq_eq_true q) h
  have z0 : ∀ j, j ≠ 69 → j ≠ 70 → z.1 0 j = y.1 0 j := fun j h1 h2 => s8 0 j (by show (Nat.beq j 69 || Nat.beq j 70) = false; rw [nb h1, nb h2]; rfl)
  have zk : ∀ {k : Nat}, k ≠ 0 → k ≤ 11 ∨ (18 ≤ k ∧ k ≤ 20) ∨ k = 22 ∨ (24 ≤ k ∧ k ≤ 27) → z.1 k = y.1 k := fun {k} h0 h => funext fun j => s8 k j (by
    unfold cS
    split
    all_goals first | omega | rfl)
  have cS1 : ∀ m, m ≤ M → uCf (uAdd G M (g, w)) m = uCf G m ∧ uPf (uAdd G M (g, w)) m = uPf G m ∧ uRf (uAdd G M (g, w)) m = uRf G m ∧ uLf (uAdd G M (g, w)) m = uLf G m := fun m hm => ⟨uAdd_S uLen hm, uAdd_S (fun e => (g_po e.1).length) hm, uAdd_S (fun e => (g_rg e.1).length) hm, uAdd_S (fun e => (g_ln e.1).length) hm⟩
  have q1 : uCf (uAdd G M (g, w)) (M + 1) = uCf G M + uLen (g, w) := uAdd_S1 uLen
  have q2 : uPf (uAdd G M (g, w)) (M + 1) = uPf G M + (g_po g).length := uAdd_S1 (fun e => (g_po e.1).length)
  have q3 : uRf (uAdd G M (g, w)) (M + 1) = uRf G M + (g_rg g).length := uAdd_S1 (fun e => (g_rg e.1).length)
  have q4 : uLf (uAdd G M (g, w)) (M + 1) = uLf G M + (g_ln g).length := uAdd_S1 (fun e => (g_ln e.1).length)
  refine ⟨z, s1, ⟨fun k j h => ?_, fun k j _ => by rw [s7, y2]⟩, by rw [z0 7 (by decide) (by decide)]; exact y07, ?_⟩
  · unfold zC at h
    by_cases k0 : k = 0
    · subst k0
      rw [if_pos rfl] at h
      have hj : 70 < j := Nat.lt_of_not_le (fun q => by rw [Nat.ble_eq.mpr q] at h; cases h)
      rw [z0 j (by omega) (by omega), y0 j (by omega)]
    · rw [if_neg k0] at h
      have hk : 69 < k := Nat.lt_of_not_le (fun q => by rw [Nat.ble_eq.mpr q] at h; cases h)
      rw [s8 k j (by unfold cS; split <;> first | omega | rfl), yk k0 (by omega) (by omega) (by omega) (by omega)]
  · have zT : cw_T z (sp_mk nt a2 a3) N := by
      unfold cw_T at yT ⊢
      rw [z0 6 (by decide) (by decide), zk (k := 1) (by decide) (by decide), zk (k := 2) (by decide) (by decide), zk (k := 3) (by decide) (by decide), zk (k := 4) (by decide) (by decide), zk (k := 5) (by decide) (by decide), zk (k := 6) (by decide) (by decide)]
      exact yT
    have zM : cw_M z (M + 1) (upd res M a1) (upd par M a2) := by
      unfold cw_M at yM ⊢
      rw [z0 7 (by decide) (by decide), zk (k := 9) (by decide) (by decide), zk (k := 10) (by decide) (by decide)]
      exact yM
    refine ⟨zT, zM, by rw [zk (by decide) (by decide), y11, hb], fun j hj => by rw [zk (k := 25) (by decide) (by decide), yk (by decide) (by decide) (by decide) (by decide) (by decide)]; exact h25 j hj, by rw [zk (k := 26) (by decide) (by decide), yk (by decide) (by decide) (by decide) (by decide) (by decide)]; exact h26, by rw [z0 48 (by decide) (by decide), y0 48 (by decide)]; exact h48, by rw [z0 66 (by decide) (by decide), y0 66 (by decide)]; exact h66, fun m hm => ?_, fun m hm => ?_⟩
    · by_cases e : m = M + 1
      · rw [e, q1, q2, q3, q4]; exact ⟨s3, s4, s5, s6⟩
      · have hm' : m ≤ M := by omega
        obtain ⟨c1, c2, c3, c4⟩ := cS1 m hm'
        have ne : Nat.beq m (M + 1) = false := nb (by omega)
        rw [c1, c2, c3, c4, s8 12 m ne, s8 17 m ne, s8 21 m ne, s8 23 m ne, yk (k := 12) (by decide) (by decide) (by decide) (by decide) (by decide), yk (k := 17) (by decide) (by decide) (by decide) (by decide) (by decide), yk (k := 21) (by decide) (by decide) (by decide) (by decide) (by decide), yk (k := 23) (by decide) (by decide) (by decide) (by decide) (by decide)]
        exact hf' m hm'
    · by_cases e : m = M
      · obtain ⟨c1, c2, c3, c4⟩ := cS1 M (Nat.le_refl _)
        rw [e, uAdd_eq, c1, c2, c3, c4]; exact s2
      · have hm' : m < M := by omega
        obtain ⟨c1, c2, c3, c4⟩ := cS1 m (by omega)
        rw [uAdd_lt hm', c1, c2, c3, c4]
        have l1 := uS_le (fun m => uLen (G m)) (show m + 1 ≤ M by omega)
        have l1 : uCf G m + uLen (G m) ≤ uCf G M := l1
        have ne : Nat.beq m M = false := nb (by omega)
        refine (hE' m hm').fr (fun j hj => ?_) (fun j hj => ⟨by rw [zk (k := 18) (by decide) (by decide), yk (by decide) (by decide) (by decide) (by decide) (by decide)], by rw [zk (k := 19) (by decide) (by decide), yk (by decide) (by decide) (by decide) (by decide) (by decide)], by rw [s7, y2]⟩) (fun j hj => by rw [zk (k := 22) (by decide) (by decide), yk (by decide) (by decide) (by decide) (by decide) (by decide)]) (fun j hj => by rw [zk (k := 24) (by decide) (by decide), yk (by decide) (by decide) (by decide) (by decide) (by decide)]) ⟨?_, ?_, ?_⟩
        · rw [s8 13 j (lo_ble (by omega)), yk (by decide) (by decide) (by decide) (by decide) (by decide)]
        · rw [s8 14 m ne, yk (by decide) (by decide) (by decide) (by decide) (by decide)]
        · rw [s8 15 m ne, yk (by decide) (by decide) (by decide) (by decide) (by decide)]
        · rw [s8 16 m ne, yk (by decide) (by decide) (by decide) (by decide) (by decide)]
end
