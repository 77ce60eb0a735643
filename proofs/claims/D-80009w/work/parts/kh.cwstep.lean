/-! CodeWriter: statements: single steps -/
/-- what values read is the same -/
def yV0 (x y : mj_X) : Prop := (∀ j, [28, 29, 30, 31, 37, 38, 42, 43, 44, 46, 47, 48].elem j = true → y.1 0 j = x.1 0 j) ∧ (∀ k, [18, 19, 24, 28, 36, 37, 40, 41, 42].elem k = true → y.1 k = x.1 k) ∧ y.2 = x.2
theorem yV0.rf (x : mj_X) : yV0 x x := ⟨fun _ _ => rfl, fun _ _ => rfl, rfl⟩
/-- what a frame writes is no array that values read -/
def yvo (Z : Nat → Nat → Bool) : Prop := (∀ j, [28, 29, 30, 31, 37, 38, 42, 43, 44, 46, 47, 48].elem j = true → Z 0 j = false) ∧ ∀ k, [18, 19, 24, 28, 36, 37, 40, 41, 42].elem k = true → ∀ j, Z k j = false
theorem yV0.of {Z : Nat → Nat → Bool} {pf : Nat} {x y : mj_X} (f : yfr Z pf x y) (h : yvo Z) (h2 : y.2 = x.2) : yV0 x y := ⟨fun j hj => f.1 0 j (h.1 j hj), fun k hk => funext fun j => f.1 k j (h.2 k hk j), h2⟩
theorem yvo_of {Z : Nat → Nat → Bool} (h : ∀ j, [28, 29, 30, 31, 37, 38, 42, 43, 44, 46, 47, 48].elem j = true → Z 0 j = false) (h18 : ∀ j, Z 18 j = false) (h19 : ∀ j, Z 19 j = false) (h24 : ∀ j, Z 24 j = false) (h28 : ∀ j, Z 28 j = false) (h36 : ∀ j, Z 36 j = false) (h37 : ∀ j, Z 37 j = false) (h40 : ∀ j, Z 40 j = false) (h41 : ∀ j, Z 41 j = false) (h42 : ∀ j, Z 42 j = false) : yvo Z := by
  refine ⟨h, fun k hk => ?_⟩
  have : k = 18 ∨ k = 19 ∨ k = 24 ∨ k = 28 ∨ k = 36 ∨ k = 37 ∨ k = 40 ∨ k = 41 ∨ k = 42 := by simpa using hk
  rcases this with rfl | rfl | rfl | rfl | rfl | rfl | rfl | rfl | rfl <;> assumption
/-- places and acts -/
def yo4 (k j : Nat) : Bool := match k with
  | 0 => [32, 33, 60, 61].elem j
  | _ => false
/-- contexts from a number on -/
def yk (k a j : Nat) : Bool := match a with
  | 0 => [58, 59, 66].elem j
  | 50 => Nat.ble k j
  | 51 => Nat.ble k j
  | 52 => Nat.ble k j
  | 53 => Nat.ble k j
  | 54 => Nat.ble k j
  | 55 => Nat.ble k j
  | 56 => Nat.ble k j
  | 57 => Nat.ble k j
  | 58 => Nat.ble k j
  | _ => false
theorem elem_12 {Z : Nat → Bool} (h28 : Z 28 = false) (h29 : Z 29 = false) (h30 : Z 30 = false) (h31 : Z 31 = false) (h37 : Z 37 = false) (h38 : Z 38 = false) (h42 : Z 42 = false) (h43 : Z 43 = false) (h44 : Z 44 = false) (h46 : Z 46 = false) (h47 : Z 47 = false) (h48 : Z 48 = false) : ∀ j, [28, 29, 30, 31, 37, 38, 42, 43, 44, 46, 47, 48].elem j = true → Z j = false := by
  intro j hj
  have : j = 28 ∨ j = 29 ∨ j = 30 ∨ j = 31 ∨ j = 37 ∨ j = 38 ∨ j = 42 ∨ j = 43 ∨ j = 44 ∨ j = 46 ∨ j = 47 ∨ j = 48 := by simpa using hj
  rcases this with rfl | rfl | rfl | rfl | rfl | rfl | rfl | rfl | rfl | rfl | rfl | rfl <;> assumption
theorem yvo4 : yvo yo4 := yvo_of (elem_12 (Z := yo4 0) rfl rfl rfl rfl rfl rfl rfl rfl rfl rfl rfl rfl) (fun _ => rfl) (fun _ => rfl) (fun _ => rfl) (fun _ => rfl) (fun _ => rfl) (fun _ => rfl) (fun _ => rfl) (fun _ => rfl) (fun _ => rfl)
theorem yvok (k : Nat) : yvo (yk k) := yvo_of (elem_12 (Z := yk k 0) rfl rfl rfl rfl rfl rfl rfl rfl rfl rfl rfl rfl) (fun _ => rfl) (fun _ => rfl) (fun _ => rfl) (fun _ => rfl) (fun _ => rfl) (fun _ => rfl) (fun _ => rfl) (fun _ => rfl) (fun _ => rfl)
theorem yo4_w {P : yP} {K : Nat} {x y : mj_X} (f : yfr yo4 (p_pf P) x y) : yfr (yw2 P K) (p_pf P) x y := f.mono (fun k j h => by
  unfold yo4
  split
  · unfold yw2 at h
    have := (Bool.or_eq_false_iff.mp h).2
    simp at this ⊢; omega
  · rfl)
theorem yk_w {P : yP} {k : Nat} {x y : mj_X} (f : yfr (yk k) (p_pf P) x y) : yfr (yw2 P k) (p_pf P) x y := f.mono (fun a j h => by
  have h := (Bool.or_eq_false_iff.mp h).2
  unfold yk
  split
  · simp at h ⊢; omega
  · exact h
  · exact h
  · exact h
  · exact h
  · exact h
  · exact h
  · exact h
  · exact h
  · exfalso; simp at h
  · rfl)
section
variable {nt : sp_NT} {N : Nat} {P : yP} {X : List (Nat × Bool)} {hp : Nat} {H V : List wSl} {O : List (Int32 × List (Nat × Nat))} {K u sb : Nat} {C : Nat → Prop} {o : Option Int32} {lm lm' : Nat → Nat} {lv lv' ct ct' : Nat → Bool} {x y : mj_X} {g G : wG}
theorem y1.v0 (a : y1 P X lm lv x g) (e : yV0 x y) : y1 P X lm lv y g := by
  obtain ⟨e0, ek, e2⟩ := e
  obtain ⟨a1, a2, a3, a4, a5, a6, a7, ⟨p1, p2, p3, p4⟩, a9⟩ := a
  refine ⟨a1, a2, by rw [e0 30 rfl]; exact a3, by rw [e0 31 rfl]; exact a4, by rw [e0 28 rfl, ek 28 rfl]; exact a5, ?_, ?_, ⟨by rw [e0 43 rfl]; exact p1, by rw [e0 44 rfl]; exact p2, p3, y_po.same (ek 18 rfl) (ek 19 rfl) e2 _ p4⟩, ?_⟩
  · unfold yF at *; rw [e0 42 rfl, ek 40 rfl, ek 41 rfl, ek 42 rfl]; exact a6
  · unfold yV at *; rw [ek 36 rfl, ek 37 rfl]; exact a7
  · unfold yN at *; rw [e0 46 rfl, e0 47 rfl, e0 48 rfl, ek 24 rfl]; exact a9
theorem yL.v0 {nl v : Nat} (a : yL X nl lm lv x v) (e : yV0 x y) : yL X nl lm lv y v := a.fr (e.1 37 rfl) (e.1 38 rfl) (e.2.1 36 rfl) (e.2.1 37 rfl)
theorem yM.v0 (a : yM P x) (e : yV0 x y) : yM P y := by
  unfold yM at *; rw [e.1 29 rfl, e.1 30 rfl, e.1 31 rfl, e.1 43 rfl, e.1 28 rfl, e.1 48 rfl]; exact a
theorem c_over.of (a : c_over P g) {P' : yP} (h1 : g_ov G = g_ov g) (h2 : g_it G = g_it g) (h3 : g_ln G = g_ln g) (h4 : p_rf P + w_ph g ≤ p_rf P' + w_ph G) (e1 : p_w P' = p_w P) (e2 : p_lf P' = p_lf P) (e3 : p_cf P' = p_cf P) : c_over P' G := by
  unfold c_over at *
  rw [e1, e2, e3, h2]
  rcases a with a | a
  · exact Or.inl (a.of h1 h2 h3 h4)
  · exact Or.inr a
theorem Y2.low (h : Y2 nt N P hp H O K u sb C o V lm lv ct x g) {s : wSl} (hs : s ∈ H ++ V) : s.1 < K ∧ K ≤ 200 := by
  obtain ⟨-, ⟨-, -, s3, s4, -, -, -, s8, -⟩, -⟩ := h
  exact ⟨(s8 s hs).1, by omega⟩
/-- places and acts, and how deep it is -/
theorem Y2.num {u' sb' : Nat} (h : Y2 nt N P hp H O K u sb C o V lm lv ct x g) (f : yfr yo4 (p_pf P) x y) (h2 : y.2 = x.2) (hu : y.1 0 61 = nI u') (h1 : K ≤ u') (h3 : u' ≤ 200) (ha : ∃ t a, y.1 0 66 = nI t ∧ y.1 0 60 = nI a ∧ t ≤ sb' + a ∧ a ≤ 60001) (hsb : sb' ≤ 2000000000)
    (hw : ySame g G) (hcx : g_cx G = g_cx g) (hrg : g_rg G = g_rg g) (hpl : g_pl G = g_pl g) (hN : x.1 0 29 = 0 → yNn y G) : Y2 nt N P hp H O K u' sb' C o V lm lv ct y G := by
  have e0 := yV0.of f yvo4 h2
  have e := f.1
  have E : ∀ k, y.1 (k + 1) = x.1 (k + 1) := fun k => funext fun j => e (k + 1) j rfl
  obtain ⟨w1, w2, w3, w4, w5, w6, w7, w8, w9, w10⟩ := hw
  obtain ⟨he, ⟨s1, s2, s3, s4, s5, s6, s7, s8, s9, s10, s11, s12, s13⟩, hC, hX⟩ := h
  refine ⟨he.fr2 (yo4_w (K := K) f), ⟨by rw [hcx]; exact s1, by rw [e 0 58 rfl]; exact s2, h1, h3, hu, by rw [e 0 59 rfl]; exact s6, s7, by rw [E 49, E 50]; exact s8, by rw [e 0 65 rfl]; exact s9, by rw [e 0 45 rfl]; exact s10, by rw [E 20]; exact s11, ha, hsb⟩, ?_, ?_⟩
  · rw [w4]; exact hC.eq (E 34) (fun _ _ => ⟨rfl, rfl, rfl⟩) (Nat.le_refl _)
  · rw [e 0 29 rfl]
    rcases hX with ⟨h0, h5, h6, h7, -, r2, r3, r4, L, t, r5⟩ | ⟨h0, m1, m2, m3⟩
    · refine Or.inl ⟨h0, ?_, ?_, (h7.v0 e0).same ⟨w1, w2, w3, w4, w5, w6, w7, w8, w9, w10⟩, hN h0, ?_, ?_, ?_, L, t, ?_⟩
      · rw [hpl, E 34]; exact h5
      · rw [w4, w7]; exact h6.v0 e0
      · rw [e 0 45 rfl, E 21, hrg, w3]; exact r2
      · rw [hpl, E 34, w4]; exact r3
      · rw [w4]
        intro s hs
        have := r4 s hs
        unfold y_sb at *
        rw [E 52, E 53, E 54, E 55, E 56]; exact this
      · have hph : w_ph G = w_ph g := by unfold w_ph; rw [hrg, hcx]
        rw [e 0 66 rfl, e 0 65 rfl, E 62, E 63, E 64, E 51, E 57, hph, w3]; exact r5
    · refine Or.inr ⟨h0, m1.v0 e0, by rw [w4]; exact m2.v0 e0, m3.of w1 w3 w9 ?_ rfl rfl rfl⟩
      unfold w_ph; rw [hcx, hrg]; exact Nat.le_refl _
theorem Y2.ser (h : Y2 nt N P hp H O K u sb C o V lm lv ct x g) : (∃ t a, x.1 0 66 = nI t ∧ x.1 0 60 = nI a ∧ t ≤ sb + a ∧ a ≤ 60001) ∧ sb ≤ 2000000000 := ⟨h.2.1.2.2.2.2.2.2.2.2.2.2.2.1, h.2.1.2.2.2.2.2.2.2.2.2.2.2.2⟩
theorem Y2.nx (h : Y2 nt N P hp H O K u sb C o V lm lv ct x g) {v : Int32} {n : Nat} (hv : x.1 0 29 = 0 → v = nI n ∧ n ≤ 8000) : Y2 nt N P hp H O K u sb C o V lm lv ct (mj_wI x 0 32 v) (s_nx n g) := by
  refine h.num ((yfr.rf _ _ x).w _ rfl) rfl h.2.1.2.2.2.2.1 h.2.1.2.2.1 h.2.1.2.2.2.1 h.ser.1 h.ser.2 ⟨rfl, rfl, rfl, rfl, rfl, rfl, rfl, rfl, rfl, rfl⟩ rfl rfl rfl (fun h0 => ?_)
  obtain ⟨-, -, a3, a4, a5, a6⟩ := (h.ex h0).2.2.2.1
  exact ⟨(hv h0).1, (hv h0).2, a3, a4, a5, a6⟩
theorem Y2.tk (h : Y2 nt N P hp H O K u sb C o V lm lv ct x g) {t : Nat} (ht : t ≤ 8) (hb : x.1 0 29 = 0 → g_nx g < 250) : Y2 nt N P hp H O K u sb C o V lm lv ct (mj_wI (mj_wI x 0 32 (x.1 0 32 + sp_pl (nI t))) 0 33 (mj_max (x.1 0 33) (x.1 0 32 + sp_pl (nI t)))) (s_tk (w_tl t).length g) := by
  refine h.num (((yfr.rf _ _ x).w _ rfl).w _ rfl) rfl h.2.1.2.2.2.2.1 h.2.1.2.2.1 h.2.1.2.2.2.1 h.ser.1 h.ser.2 ⟨rfl, rfl, rfl, rfl, rfl, rfl, rfl, rfl, rfl, rfl⟩ rfl rfl rfl (fun h0 => ?_)
  obtain ⟨a1, a2, a3, a4, a5, a6⟩ := (h.ex h0).2.2.2.1
  have hl : (w_tl t).length ≤ 2 := by rcases w_tl_d t with r | r | r <;> rw [r] <;> simp
  have hb := hb h0
  refine ⟨?_, by show g_nx g + (w_tl t).length ≤ 8000; omega, ?_, by show max (g_mx g) (g_nx g + (w_tl t).length) ≤ 252; omega, a5, a6⟩
  · show x.1 0 32 + sp_pl (nI t) = nI (g_nx g + (w_tl t).length)
    rw [a1, sp_pl_n ht, nI_add]
  · show mj_max (x.1 0 33) (x.1 0 32 + sp_pl (nI t)) = nI (max (g_mx g) (g_nx g + (w_tl t).length))
    rw [a1, a3, sp_pl_n ht, nI_add, nI_max (by omega) (by omega)]
theorem e_takeX {d : Nat} (hd : 3 ≤ d) (t : Int32) (x : mj_X) : kX0 d 33 [.ref 0, .int t] x = some (some (.int (x.1 0 32)), mj_wI (mj_wI x 0 32 (x.1 0 32 + sp_pl t)) 0 33 (mj_max (x.1 0 33) (x.1 0 32 + sp_pl t))) := by
  obtain ⟨d, rfl⟩ : ∃ e, d = e + 1 := ⟨d - 1, by omega⟩
  rw [eX0_take, sX0_placesOf (by omega), mj_rI_k]
theorem n2 {a : Nat} (ha : a < 2000) (r : mj_R) : mj_g (nI a) 2000 r = r := mj_g_k (mj_in_nI ha (by omega)) r
theorem e_openX {d K : Nat} (hd : 1 ≤ d) (hK : K < 2000) (t v : Int32) {x : mj_X} (h : x.1 0 58 = nI K) : kX0 d 78 [.ref 0, .int t, .int v] x = some (some (.int (nI K)), (mj_wI (mj_wI (mj_wI (mj_wI (mj_wI (mj_wI (mj_wI (mj_wI (mj_wI x 0 58 (nI (K + 1))) 50 K t) 53 K v) 51 K (x.1 0 59)) 56 K (x.1 0 32)) 58 K (x.1 0 28)) 0 66 (x.1 0 66 + 1)) 52 K (x.1 0 66)) 0 59 (nI K))) := by
  obtain ⟨d, rfl⟩ : ∃ e, d = e + 1 := ⟨d - 1, by omega⟩
  have e : nI K + (1 : Int32) = nI (K + 1) := nI_add K 1
  rw [eX0_open, h, n2 hK, n2 hK, n2 hK, n2 hK, n2 hK, n2 hK, nI_clamp (by omega), e]
theorem e_shutX {d k : Nat} (hd : 1 ≤ d) (hk : k < 2000) (x : mj_X) : kX0 d 79 [.ref 0, .int (nI k)] x = some (none, mj_wI (mj_wI x 0 59 (x.1 51 k)) 0 58 (nI k)) := by
  obtain ⟨d, rfl⟩ : ∃ e, d = e + 1 := ⟨d - 1, by omega⟩
  rw [eX0_shut, n2 hk, nI_clamp (by omega)]
/-- a context is told -/
theorem Y2.open_ {sort b cc : Nat} {node : Int32} (h : Y2 nt N P hp H O K u sb C none V lm lv ct x g) (f : yfr (yk K) (p_pf P) x y) (h2 : y.2 = x.2) (hK : K + 1 ≤ u) (y58 : y.1 0 58 = nI (K + 1)) (y59 : y.1 0 59 = nI K) (y66 : y.1 0 66 = x.1 0 66 + 1) (y50 : y.1 50 K = nI sort) (h4 : sort ≤ 4) (y51 : y.1 51 K = x.1 0 59) (y52 : y.1 52 K = x.1 0 66) (hsb : sb + 1 ≤ 2000000000)
    (hX : x.1 0 29 = 0 → y.1 56 K = x.1 0 32 ∧ y.1 58 K = x.1 0 28 ∧ (sort ≤ 1 → b < g_nl g ∧ lv b = true ∧ y.1 54 K = nI (lm b)) ∧ (sort = 0 → cc < g_nl g ∧ lv cc = true ∧ y.1 55 K = nI (lm cc)) ∧ (sort = 3 → y.1 53 K = node) ∧ (sort = 4 → y.1 57 K = node)) :
    Y2 nt N P hp H O (K + 1) u (sb + 1) C none ((K, x.1 0 59, (sort, node, b, cc, g_nx g, (g_it g).length, [])) :: V) lm lv ct y (w_ctx sort node b cc g) := by
  have e0 := yV0.of f (yvok K) h2
  have e := f.1
  have hlow : ∀ s, s ∈ H ++ V → s.1 < K := fun s hs => (h.low hs).1
  have nb : ∀ {s : wSl}, s ∈ H ++ V → Nat.ble K s.1 = false := fun hs => by rw [← Bool.not_eq_true, Nat.ble_eq]; have := hlow _ hs; omega
  have E : ∀ a, (∀ j, yk K a j = false) → y.1 a = x.1 a := fun a ha => funext fun j => e a j (ha j)
  obtain ⟨he, ⟨s1, s2, s3, s4, s5, s6, s7, s8, s9, s10, s11, ⟨t, a, ts, as, ta, a6⟩, s13⟩, hC, hX'⟩ := h
  have mem : ∀ s : wSl, s ∈ H ++ (K, x.1 0 59, (sort, node, b, cc, g_nx g, (g_it g).length, [])) :: V → s = (K, x.1 0 59, (sort, node, b, cc, g_nx g, (g_it g).length, [])) ∨ s ∈ H ++ V := by
    intro s hs
    rcases List.mem_append.mp hs with q | q
    · exact Or.inr (List.mem_append.mpr (Or.inl q))
    · rcases List.mem_cons.mp q with q | q
      · exact Or.inl q
      · exact Or.inr (List.mem_append.mpr (Or.inr q))
  have hph : w_ph (w_ctx sort node b cc g) = w_ph g := by show (g_rg g).length + (0 + w_np (g_cx g)) = _; unfold w_ph; omega
  have hnp : w_np (g_cx (w_ctx sort node b cc g)) = w_np (g_cx g) := by show 0 + w_np (g_cx g) = _; omega
  have y66' : y.1 0 66 = nI (t + 1) := by rw [y66, ts]; exact nI_add t 1
  refine ⟨he.fr2 (yk_w f), ⟨?_, y58, hK, s4, by rw [e 0 61 rfl]; exact s5, ⟨y59, Nat.lt_succ_self K, s6⟩, ?_, fun s hs => ?_, by rw [e 0 65 rfl]; exact s9, by rw [e 0 45 rfl]; exact s10, by rw [E 21 (fun _ => rfl)]; exact s11, ⟨t + 1, a, y66', by rw [e 0 60 rfl]; exact as, by omega, a6⟩, hsb⟩, ?_, ?_⟩
  · show _ :: V.map (fun s => s.2.2) = _ :: g_cx g; rw [s1]
  · rw [List.pairwise_append] at s7 ⊢
    refine ⟨s7.1, List.pairwise_cons.mpr ⟨fun s hs => ?_, s7.2.1⟩, fun a ha b hb => ?_⟩
    · have := hlow s (List.mem_append.mpr (Or.inr hs))
      show K ≠ s.1; omega
    · rcases List.mem_cons.mp hb with rfl | hb
      · have := hlow a (List.mem_append.mpr (Or.inl ha))
        show a.1 ≠ K; omega
      · exact s7.2.2 a ha b hb
  · rcases mem s hs with rfl | q
    · exact ⟨Nat.lt_succ_self K, y50, y51, h4⟩
    · have := s8 s q
      rw [e 50 s.1 (nb q), e 51 s.1 (nb q)]
      exact ⟨by omega, this.2⟩
  · exact hC.eq (E 35 (fun _ => rfl)) (fun _ _ => ⟨rfl, rfl, rfl⟩) (Nat.le_refl _)
  · rw [e 0 29 rfl]
    rcases hX' with ⟨h0, h5, h6, h7, r1, r2, r3, r4, L, t', q1, q2, q3, q4, q5, q6, q7, q8, q9, q10, q11⟩ | ⟨h0, m1, m2, m3⟩
    · obtain ⟨z56, z58, z54, z55, z53, z57⟩ := hX h0
      have ett : t' = t := by rw [ts] at q1; exact ((nI_eq (by omega) (by omega)).mp q1).symm
      subst ett
      have up : ∀ {v : Int32}, yser t' v → yser (t' + 1) v := fun ⟨m, m1, m2⟩ => ⟨m, by omega, m2⟩
      have new : ∀ {v : Int32}, yser t' v → v ≠ nI t' := fun ⟨m, m1, m2⟩ z => by
        rw [m2] at z
        have := (nI_eq (by omega) (by omega)).mp z
        omega
      have y52t : y.1 52 K = nI t' := y52.trans ts
      refine Or.inl ⟨h0, by rw [E 35 (fun _ => rfl)]; exact h5, h6.v0 e0, (h7.v0 e0).same ⟨rfl, rfl, rfl, rfl, rfl, rfl, rfl, rfl, rfl, rfl⟩, ?_, ?_, ?_, fun s hs => ?_, L, t' + 1, y66', by omega, by rw [e 0 65 rfl]; exact q3, q4, by rw [hph]; exact q5, ?_, ?_, fun s hs => ?_, fun q hq => ⟨up (q9 q hq).1, (q9 q hq).2⟩, ?_, fun s hs hs2 => ?_⟩
      · unfold yNn at *
        rw [e 0 32 rfl, e 0 33 rfl, e 0 60 rfl]; exact r1
      · rw [e 0 45 rfl, E 22 (fun _ => rfl)]; exact r2
      · rw [E 35 (fun _ => rfl)]; exact r3
      · rcases mem s hs with rfl | q
        · exact ⟨z54, z55, by show y.1 56 K = nI (g_nx g); rw [z56]; exact r1.1, r1.2.1, z53, z57⟩
        · have := r4 s q
          unfold y_sb at *
          rw [e 53 s.1 (nb q), e 54 s.1 (nb q), e 55 s.1 (nb q), e 56 s.1 (nb q), e 57 s.1 (nb q)]; exact this
      · rw [E 63 (fun _ => rfl), E 64 (fun _ => rfl), E 65 (fun _ => rfl)]; exact q6
      · intro q hq
        have := q7 q hq
        exact ⟨up this.1, this.2⟩
      · rcases mem s hs with rfl | q
        · refine ⟨⟨t', Nat.lt_succ_self _, y52t⟩, ?_, fun _ => rfl⟩
          show ([] : List (Nat × Nat)) = y_own (y.1 52 K) L
          unfold y_own
          rw [List.filter_eq_nil_iff.mpr (fun q hq => by
            rw [y52t, decide_eq_true_eq]
            exact new (q7 q hq).1)]
          rfl
        · obtain ⟨c1, c2⟩ := q8 s q
          rw [e 52 s.1 (nb q)]
          exact ⟨up c1, c2⟩
      · have p : (O.map Prod.fst ++ (H ++ (K, x.1 0 59, (sort, node, b, cc, g_nx g, (g_it g).length, ([] : List (Nat × Nat)))) :: V).map (fun s => y.1 52 s.1)).Perm (nI t' :: (O.map Prod.fst ++ (H ++ V).map (fun s => x.1 52 s.1))) := by
          have e1 : ∀ A : List wSl, (∀ s, s ∈ A → s ∈ H ++ V) → A.map (fun s => y.1 52 s.1) = A.map (fun s => x.1 52 s.1) := by
            intro A hA
            exact List.map_congr_left (fun s hs => e 52 s.1 (nb (hA s hs)))
          rw [List.map_append, List.map_cons, List.map_append, e1 H (fun s hs => List.mem_append.mpr (Or.inl hs)), e1 V (fun s hs => List.mem_append.mpr (Or.inr hs))]
          show (O.map Prod.fst ++ (H.map (fun s => x.1 52 s.1) ++ y.1 52 K :: V.map (fun s => x.1 52 s.1))).Perm _
          rw [y52t]
          rw [← List.append_assoc, ← List.append_assoc]
          exact List.perm_middle
        refine (p.nodup_iff).mpr (List.nodup_cons.mpr ⟨fun hm => ?_, q10⟩)
        rcases List.mem_append.mp hm with q | q
        · obtain ⟨z, hz, ez⟩ := List.mem_map.mp q
          exact new (q9 z hz).1 ez
        · obtain ⟨z, hz, ez⟩ := List.mem_map.mp q
          exact new (q8 z hz).1 ez
      · rcases List.mem_cons.mp hs with rfl | q
        · show y.1 58 K = nI (w_at (p_w P) (g_it g) (g_it g).length) ∧ (g_it g).length ≤ (g_it g).length
          rw [z58, w_at_len]
          exact ⟨h7.2.2.2.2.1.1, Nat.le_refl _⟩
        · rw [e 58 s.1 (nb (List.mem_append.mpr (Or.inr q)))]
          exact q11 s q hs2
    · exact Or.inr ⟨h0, m1.v0 e0, m2.v0 e0, m3.of rfl rfl rfl (by rw [hph]; exact Nat.le_refl _) rfl rfl rfl⟩
/-- the innermost one is told apart, or not -/
theorem Y2.o1 (h : Y2 nt N P hp H O K u sb C none V lm lv ct x g) : Y2 nt N P hp H O K u sb C (some (x.1 0 59)) V lm lv ct x g := h
/-- a context is hidden -/
theorem Y2.hide {s : wSl} (h : Y2 nt N P hp H O K u sb C o (s :: V) lm lv ct x g) : Y2 nt N P (hp + (c_ps s.2.2).length) (s :: H) O K u sb C (some s.2.1) V lm lv ct x (w_shut g) := by
  obtain ⟨he, ⟨s1, s2, s3, s4, s5, s6, s7, s8, s9⟩, hC, hX⟩ := h
  have mem : ∀ t : wSl, t ∈ (s :: H) ++ V → t ∈ H ++ s :: V := by
    intro t ht
    simp only [List.cons_append, List.mem_cons, List.mem_append] at ht ⊢
    rcases ht with q | q | q
    · exact Or.inr (Or.inl q)
    · exact Or.inl q
    · exact Or.inr (Or.inr q)
  have p : (H ++ s :: V).Perm (s :: (H ++ V)) := List.perm_middle
  have hnp : w_np (g_cx g) = w_np (g_cx (w_shut g)) + (c_ps s.2.2).length := by
    show w_np (g_cx g) = w_np (g_cx g).tail + _
    rw [← s1]
    show (c_ps s.2.2).length + w_np (V.map (fun s => s.2.2)) = w_np (V.map (fun s => s.2.2)) + _
    omega
  have hph : w_ph g = w_ph (w_shut g) + (c_ps s.2.2).length := by
    show (g_rg g).length + w_np (g_cx g) = (g_rg g).length + w_np (g_cx (w_shut g)) + _
    omega
  refine ⟨he, ⟨?_, s2, s3, s4, s5, ?_, ?_, fun t ht => s8 t (mem t ht), s9⟩, hC, ?_⟩
  · show V.map (fun s => s.2.2) = (g_cx g).tail; rw [← s1]; rfl
  · exact s6.2.2.le (Nat.le_of_lt s6.2.1)
  · exact (p.pairwise_iff (fun {a b} h => h.symm)).mp s7
  · rcases hX with ⟨h0, h5, h6, h7, r1, r2, r3, r4, L, t', q1, q2, q3, q4, q5, q6, q7, q8, q9, q10, q11⟩ | ⟨h0, m1, m2, m3⟩
    · refine Or.inl ⟨h0, h5, h6, h7, r1, r2, r3, fun t ht => r4 t (mem t ht), L, t', q1, q2, q3, q4, by omega, q6, q7, fun t ht => q8 t (mem t ht), q9, ?_, fun t ht => q11 t (List.mem_cons_of_mem _ ht)⟩
      exact (((p.map (fun s => x.1 52 s.1)).append_left (O.map Prod.fst)).nodup_iff).mp q10
    · refine Or.inr ⟨h0, m1, m2, m3.of rfl rfl rfl ?_ rfl rfl rfl⟩
      show p_rf P + hp + ((g_rg g).length + w_np (g_cx g)) ≤ p_rf P + (hp + (c_ps s.2.2).length) + ((g_rg g).length + w_np (g_cx (w_shut g)))
      omega
/-- a hidden context is seen again -/
theorem Y2.seen {s : wSl} (h : Y2 nt N P (hp + (c_ps s.2.2).length) (s :: H) O K u sb C o V lm lv ct x g) (hch : z_ch s.2.1 s.1 V) (h58 : x.1 0 29 = 0 → 2 ≤ s.2.2.1 → x.1 58 s.1 = nI (w_at (p_w P) (g_it g) s.2.2.2.2.2.2.2.1) ∧ s.2.2.2.2.2.2.2.1 ≤ (g_it g).length) : Y2 nt N P hp H O K u sb C (some (nI s.1)) (s :: V) lm lv ct x (s_cx (s.2.2 :: g_cx g) g) := by
  obtain ⟨he, ⟨s1, s2, s3, s4, s5, s6, s7, s8, s9⟩, hC, hX⟩ := h
  have mem : ∀ t : wSl, t ∈ H ++ s :: V → t ∈ (s :: H) ++ V := by
    intro t ht
    simp only [List.cons_append, List.mem_cons, List.mem_append] at ht ⊢
    rcases ht with q | q | q
    · exact Or.inr (Or.inl q)
    · exact Or.inl q
    · exact Or.inr (Or.inr q)
  have p : (H ++ s :: V).Perm (s :: (H ++ V)) := List.perm_middle
  have hnp : w_np (g_cx (s_cx (s.2.2 :: g_cx g) g)) = w_np (g_cx g) + (c_ps s.2.2).length := by
    show (c_ps s.2.2).length + w_np (g_cx g) = w_np (g_cx g) + _
    omega
  have hph : w_ph (s_cx (s.2.2 :: g_cx g) g) = w_ph g + (c_ps s.2.2).length := by
    show (g_rg g).length + w_np (g_cx (s_cx (s.2.2 :: g_cx g) g)) = (g_rg g).length + w_np (g_cx g) + _
    omega
  refine ⟨he, ⟨?_, s2, s3, s4, s5, ?_, ?_, fun t ht => s8 t (mem t ht), s9⟩, hC, ?_⟩
  · show s.2.2 :: V.map (fun s => s.2.2) = s.2.2 :: g_cx g; rw [s1]
  · exact ⟨rfl, (s8 s (by simp)).1, hch⟩
  · exact (p.pairwise_iff (fun {a b} h => h.symm)).mpr s7
  · rcases hX with ⟨h0, h5, h6, h7, r1, r2, r3, r4, L, t', q1, q2, q3, q4, q5, q6, q7, q8, q9, q10, q11⟩ | ⟨h0, m1, m2, m3⟩
    · refine Or.inl ⟨h0, h5, h6, h7.same ⟨rfl, rfl, rfl, rfl, rfl, rfl, rfl, rfl, rfl, rfl⟩, r1, r2, r3, fun t ht => r4 t (mem t ht), L, t', q1, q2, q3, q4, by omega, q6, q7, fun t ht => q8 t (mem t ht), q9, ?_, fun t ht hs2 => ?_⟩
      · exact (((p.map (fun s => x.1 52 s.1)).append_left (O.map Prod.fst)).nodup_iff).mpr q10
      · rcases List.mem_cons.mp ht with rfl | ht
        · exact h58 h0 hs2
        · exact q11 t ht hs2
    · refine Or.inr ⟨h0, m1, m2, m3.of rfl rfl rfl ?_ rfl rfl rfl⟩
      show p_rf P + (hp + (c_ps s.2.2).length) + ((g_rg g).length + w_np (g_cx g)) ≤ p_rf P + hp + ((g_rg g).length + w_np (g_cx (s_cx (s.2.2 :: g_cx g) g)))
      omega
/-- a hidden context is no more; its pieces are kept -/
theorem Y2.shutH {s : wSl} (h : Y2 nt N P hp (s :: H) O K u sb C (some s.2.1) V lm lv ct x g) (hH : ∀ t, t ∈ H → t.1 < s.1) (hch : z_ch s.2.1 s.1 V) : Y2 nt N P hp H ((x.1 52 s.1, c_ps s.2.2) :: O) s.1 u sb C none V lm lv ct (mj_wI (mj_wI x 0 59 s.2.1) 0 58 (nI s.1)) g := by
  have f : yfr (yk K) (p_pf P) x (mj_wI (mj_wI x 0 59 s.2.1) 0 58 (nI s.1)) := ((yfr.rf _ _ x).w _ rfl).w _ rfl
  have e0 := yV0.of f (yvok K) rfl
  obtain ⟨he, ⟨s1, s2, s3, s4, s5, s6, s7, s8, s9, s10, s11, s12, s13⟩, hC, hX⟩ := h
  have hsK := (s8 s (by simp)).1
  have low : ∀ t, t ∈ H ++ V → t.1 < s.1 := by
    intro t ht
    rcases List.mem_append.mp ht with q | q
    · exact hH t q
    · exact hch.lt t q
  refine ⟨he.fr2 (yk_w f), ⟨s1, rfl, by omega, s4, s5, hch, (List.pairwise_cons.mp s7).2, fun t ht => ⟨low t ht, (s8 t (List.mem_cons_of_mem _ ht)).2⟩, s9, s10, s11, s12, s13⟩, hC, ?_⟩
  rcases hX with ⟨h0, h5, h6, h7, r1, r2, r3, r4, L, t', q1, q2, q3, q4, q5, q6, q7, q8, q9, q10, q11⟩ | ⟨h0, m1, m2, m3⟩
  · refine Or.inl ⟨h0, h5, h6.v0 e0, h7.v0 e0, r1, r2, r3, fun t ht => r4 t (List.mem_cons_of_mem _ ht), L, t', q1, q2, q3, q4, q5, q6, q7, fun t ht => q8 t (List.mem_cons_of_mem _ ht), fun q hq => ?_, ?_, q11⟩
    · rcases List.mem_cons.mp hq with rfl | hq
      · exact ⟨(q8 s (by simp)).1, (q8 s (by simp)).2.1⟩
      · exact q9 q hq
    · have p : (O.map Prod.fst ++ (s :: H ++ V).map (fun s => x.1 52 s.1)).Perm (x.1 52 s.1 :: (O.map Prod.fst ++ (H ++ V).map (fun s => x.1 52 s.1))) := List.perm_middle
      exact (p.nodup_iff).mp q10
  · exact Or.inr ⟨h0, m1.v0 e0, m2.v0 e0, m3⟩
/-- owners may be forgotten by the relation -/
theorem Y2.lessO {q : Int32 × List (Nat × Nat)} (h : Y2 nt N P hp H (q :: O) K u sb C o V lm lv ct x g) : Y2 nt N P hp H O K u sb C o V lm lv ct x g := by
  obtain ⟨he, hS, hC, hX⟩ := h
  refine ⟨he, hS, hC, ?_⟩
  rcases hX with ⟨h0, h5, h6, h7, r1, r2, r3, r4, L, t', q1, q2, q3, q4, q5, q6, q7, q8, q9, q10, q11⟩ | hm
  · exact Or.inl ⟨h0, h5, h6, h7, r1, r2, r3, r4, L, t', q1, q2, q3, q4, q5, q6, q7, q8, fun p hp => q9 p (List.mem_cons_of_mem _ hp), (List.nodup_cons.mp q10).2, q11⟩
  · exact Or.inr hm
/-- it is much from now on -/
theorem y1.mu {X : List (Nat × Bool)} {pl : Nat → Option Nat} (a : y1 P X lm lv x g) (he : yE nt N P pl x) : yM P (mj_wI x 0 29 1) := by
  obtain ⟨-, -, a3, a4, ⟨b1, b2, -, -⟩, -, -, ⟨p1, -, p3, -⟩, ⟨-, -, -, -, -, t, n6, n7⟩⟩ := a
  have h6 := he.2.2.2.2.2.1
  have := its_le (p_w P) (g_it g)
  exact ⟨rfl, ⟨_, a3⟩, a4, ⟨_, Nat.le_add_right _ _, by omega, p1⟩, ⟨_, b2, b1⟩, t, n6, by omega⟩
/-- what `cut` writes -/
def yc (s k j : Nat) : Bool := match k with
  | 0 => [29, 65].elem j
  | 58 => Nat.beq j s
  | 63 => true
  | 64 => true
  | 65 => true
  | _ => false
def yc0 (s k j : Nat) : Bool := match k with
  | 0 => [65].elem j
  | 58 => Nat.beq j s
  | 63 => true
  | 64 => true
  | 65 => true
  | _ => false
theorem yvoc (s : Nat) : yvo (yc0 s) := yvo_of (elem_12 (Z := yc0 s 0) rfl rfl rfl rfl rfl rfl rfl rfl rfl rfl rfl rfl) (fun _ => rfl) (fun _ => rfl) (fun _ => rfl) (fun _ => rfl) (fun _ => rfl) (fun _ => rfl) (fun _ => rfl) (fun _ => rfl) (fun _ => rfl)
theorem yc0_yc {s pf : Nat} {x y : mj_X} (f : yfr (yc0 s) pf x y) : yfr (yc s) pf x y := f.mono (fun k j h => by
  unfold yc at h
  unfold yc0
  split
  · simp at h ⊢; omega
  all_goals first | exact h | rfl)
theorem yc_w {P : yP} {K s : Nat} {x y : mj_X} (f : yfr (yc s) (p_pf P) x y) : yfr (yw2 P K) (p_pf P) x y := f.mono (fun k j h => by
  obtain ⟨h1, h2⟩ := Bool.or_eq_false_iff.mp h
  unfold yc
  split
  · unfold yw at h1
    simp at h1 h2 ⊢; omega
  · exfalso; simp at h2
  · exfalso; simp at h2
  · exfalso; simp at h2
  · exfalso; simp at h2
  · rfl)
theorem y_own_ne {v w : Int32} {a : Nat × Nat} {L : List (Int32 × Nat × Nat)} (h : w ≠ v) : y_own v ((w, a) :: L) = y_own v L := by
  unfold y_own; rw [List.filter_cons, if_neg (by simpa using h)]
theorem y_own_eq {v : Int32} {a : Nat × Nat} {L : List (Int32 × Nat × Nat)} : y_own v ((v, a) :: L) = a :: y_own v L := by
  unfold y_own; rw [List.filter_cons, if_pos (by simp)]; rfl
/-- a piece ends -/
theorem Y2.cut_ {s : wSl} {d : Nat} (hd : 1 ≤ d) (h : Y2 nt N P hp H O K u sb C o (s :: V) lm lv ct x g) (hs2 : 2 ≤ s.2.2.1) : ∃ y, kX0 d 82 [.ref 0, .int (nI s.1)] x = some (none, y) ∧ Y2 nt N P (hp + (c_ps (w_pc (g_it g).length s.2.2)).length) ((s.1, s.2.1, w_pc (g_it g).length s.2.2) :: H) O K u sb C (some s.2.1) V lm lv ct y (w_shut g) ∧ yfr (yc s.1) (p_pf P) x y ∧ (y.1 0 29 = 0 → x.1 0 29 = 0) := by
  obtain ⟨d, rfl⟩ : ∃ e, d = e + 1 := ⟨d - 1, by omega⟩
  have hlo := h.low (s := s) (by simp)
  have hs2k : s.1 < 2000 := by omega
  obtain ⟨he, ⟨s1, s2, s3, s4, s5, s6, s7, s8, s9, s10, s11, s12, s13⟩, hC, hX⟩ := h
  -- the relation behind, from what is left to say
  have mem : ∀ t : wSl, t ∈ ((s.1, s.2.1, w_pc (g_it g).length s.2.2) :: H) ++ V → t = (s.1, s.2.1, w_pc (g_it g).length s.2.2) ∨ t ∈ H ++ s :: V := by
    intro t ht
    simp only [List.cons_append, List.mem_cons, List.mem_append] at ht ⊢
    rcases ht with q | q | q
    · exact Or.inl q
    · exact Or.inr (Or.inl q)
    · exact Or.inr (Or.inr (Or.inr q))
  have ms : s ∈ H ++ s :: V := by simp
  have p : (H ++ s :: V).Perm (s :: (H ++ V)) := List.perm_middle
  have hnp : w_np (g_cx g) = w_np (g_cx (w_shut g)) + (c_ps s.2.2).length := by
    show w_np (g_cx g) = w_np (g_cx g).tail + _
    rw [← s1]
    show (c_ps s.2.2).length + w_np (V.map (fun s => s.2.2)) = w_np (V.map (fun s => s.2.2)) + _
    omega
  have hph : w_ph g = w_ph (w_shut g) + (c_ps s.2.2).length := by
    show (g_rg g).length + w_np (g_cx g) = (g_rg g).length + w_np (g_cx (w_shut g)) + _
    omega
  have hle : (c_ps s.2.2).length ≤ (c_ps (w_pc (g_it g).length s.2.2)).length := by
    unfold c_ps w_pc
    show _ ≤ (if s.2.2.2.2.2.2.2.1 < (g_it g).length then (s.2.2.2.2.2.2.2.1, (g_it g).length) :: s.2.2.2.2.2.2.2.2 else s.2.2.2.2.2.2.2.2).length
    split <;> simp
  have fin : ∀ y : mj_X, yfr (yc s.1) (p_pf P) x y → (∃ n, n ≤ 20000 ∧ y.1 0 65 = nI n) →
      ((y.1 0 29 = 0 ∧ (∀ v p, v < 4000 → g_pl g v = some p → y.1 35 v = nI p ∧ p < 256 ∧ nt 0 v = 5) ∧ yL [] (g_nl g) lm lv y (g_us g) ∧ y1 P [] lm lv y (w_shut g) ∧ yX P (hp + (c_ps (w_pc (g_it g).length s.2.2)).length) ((s.1, s.2.1, w_pc (g_it g).length s.2.2) :: H) V O C lm lv ct y (w_shut g)) ∨ (¬ y.1 0 29 = 0 ∧ yM P y ∧ yL [] (g_nl g) lm lv y 49600 ∧ c_over (pH P (hp + (c_ps (w_pc (g_it g).length s.2.2)).length)) (w_shut g))) →
      Y2 nt N P (hp + (c_ps (w_pc (g_it g).length s.2.2)).length) ((s.1, s.2.1, w_pc (g_it g).length s.2.2) :: H) O K u sb C (some s.2.1) V lm lv ct y (w_shut g) := by
    intro y f h65 hx
    have e := f.1
    have E : ∀ a, (∀ j, yc s.1 a j = false) → y.1 a = x.1 a := fun a ha => funext fun j => e a j (ha j)
    refine ⟨he.fr2 (yc_w (K := K) f), ⟨?_, by rw [e 0 58 rfl]; exact s2, s3, s4, by rw [e 0 61 rfl]; exact s5, s6.2.2.le (Nat.le_of_lt s6.2.1), ?_, fun t ht => ?_, h65, by rw [e 0 45 rfl]; exact s10, by rw [E 21 (fun _ => rfl)]; exact s11, by rw [e 0 66 rfl, e 0 60 rfl]; exact s12, s13⟩, hC.eq (E 35 (fun _ => rfl)) (fun _ _ => ⟨rfl, rfl, rfl⟩) (Nat.le_refl _), hx⟩
    · show V.map (fun s => s.2.2) = (g_cx g).tail; rw [← s1]; rfl
    · have s7' := (p.pairwise_iff (fun {a b} h => h.symm)).mp s7
      have := List.pairwise_cons.mp s7'
      exact List.pairwise_cons.mpr ⟨this.1, this.2⟩
    · rw [E 50 (fun _ => rfl), E 51 (fun _ => rfl)]
      rcases mem t ht with rfl | q
      · exact s8 s ms
      · exact s8 t q
  -- when it was much, or becomes much
  have much : ∀ y : mj_X, yfr (yc s.1) (p_pf P) x y → (∃ n, n ≤ 20000 ∧ y.1 0 65 = nI n) → y.1 0 29 = 1 → yM P y → yL [] (g_nl g) lm lv y 49600 → c_over (pH P (hp + (c_ps (w_pc (g_it g).length s.2.2)).length)) (w_shut g) → Y2 nt N P (hp + (c_ps (w_pc (g_it g).length s.2.2)).length) ((s.1, s.2.1, w_pc (g_it g).length s.2.2) :: H) O K u sb C (some s.2.1) V lm lv ct y (w_shut g) := fun y f h65 h29 m1 m2 m3 => fin y f h65 (Or.inr ⟨by rw [h29]; decide, m1, m2, m3⟩)
  rw [eX0_cut, n2 hs2k, n2 hs2k, n2 hs2k, nI_clamp (by omega)]
  rcases hX with ⟨h0, h5, h6, h7, r1, r2, r3, r4, L, t', q1, q2, q3, q4, q5, q6, q7, q8, q9, q10, q11⟩ | ⟨h0, m1, m2, m3⟩
  · obtain ⟨a58, afrom⟩ := q11 s (by simp) hs2
    have b28 := h7.2.2.2.2.1.1
    have b65 := h7.2.2.2.2.1.2.1
    have len := w_at_len (p_w P) (g_it g)
    have lef : w_at (p_w P) (g_it g) s.2.2.2.2.2.2.2.1 ≤ (w_by_ (p_w P) w_z (g_it g)).length := by
      rcases Nat.lt_or_ge s.2.2.2.2.2.2.2.1 (g_it g).length with q | q
      · have := w_at_lt (p_w P) (g_it g) q (Nat.le_refl _); omega
      · have : s.2.2.2.2.2.2.2.1 = (g_it g).length := by omega
        rw [this, len]; exact Nat.le_refl _
    -- no piece, or one more
    have ex : ∀ (y : mj_X) (L' : List (Int32 × Nat × Nat)), yfr (yc0 s.1) (p_pf P) x y → y.2 = x.2 → y.1 0 65 = nI L'.length → L'.length ≤ 20000 → L'.length ≤ w_ph (w_shut g) + (hp + (c_ps (w_pc (g_it g).length s.2.2)).length) → z_l1 (fun k e => y.1 63 k = e.1 ∧ y.1 64 k = nI (w_at (p_w P) (g_it g) e.2.1) ∧ y.1 65 k = nI (w_at (p_w P) (g_it g) e.2.2)) L' → (∀ e, e ∈ L' → yser t' e.1 ∧ e.2.1 ≤ (g_it g).length ∧ e.2.2 ≤ (g_it g).length) → (∀ v, v ≠ x.1 52 s.1 → y_own v L' = y_own v L) → c_ps (w_pc (g_it g).length s.2.2) = y_own (x.1 52 s.1) L' →
        Y2 nt N P (hp + (c_ps (w_pc (g_it g).length s.2.2)).length) ((s.1, s.2.1, w_pc (g_it g).length s.2.2) :: H) O K u sb C (some s.2.1) V lm lv ct y (w_shut g) := by
      intro y L' f h2 z1 z2 z3 z4 z5 z6 z7
      have e0 := yV0.of f (yvoc s.1) h2
      have f' := yc0_yc f
      have e := f.1
      have E : ∀ a, (∀ j, yc0 s.1 a j = false) → y.1 a = x.1 a := fun a ha => funext fun j => e a j (ha j)
      have q10' : (x.1 52 s.1 :: (O.map Prod.fst ++ (H ++ V).map (fun s => x.1 52 s.1))).Nodup := by
        have p2 : (O.map Prod.fst ++ (H ++ s :: V).map (fun s => x.1 52 s.1)).Perm (O.map Prod.fst ++ (x.1 52 s.1 :: (H ++ V).map (fun s => x.1 52 s.1))) := (p.map (fun s => x.1 52 s.1)).append_left _
        exact (List.perm_middle.nodup_iff).mp ((p2.nodup_iff).mp q10)
      obtain ⟨nw, nd⟩ := List.nodup_cons.mp q10'
      refine fin y f' ⟨_, z2, z1⟩ (Or.inl ⟨(e 0 29 rfl).trans h0, by rw [E 35 (fun _ => rfl)]; exact h5, h6.v0 e0, (h7.v0 e0).same ⟨rfl, rfl, rfl, rfl, rfl, rfl, rfl, rfl, rfl, rfl⟩, ?_, ?_, ?_, fun t ht => ?_, L', t', by rw [e 0 66 rfl]; exact q1, q2, z1, z2, z3, z4, z5, fun t ht => ?_, fun q hq => ?_, ?_, fun t ht h2t => ?_⟩)
      · unfold yNn at *; rw [e 0 32 rfl, e 0 33 rfl, e 0 60 rfl]; exact r1
      · rw [e 0 45 rfl, E 22 (fun _ => rfl)]; exact r2
      · rw [E 35 (fun _ => rfl)]; exact r3
      · have : ∀ t : wSl, y_sb (g_nl g) lm lv x t → y_sb (g_nl g) lm lv y t := fun t ht => by
          unfold y_sb at *
          rw [E 53 (fun _ => rfl), E 54 (fun _ => rfl), E 55 (fun _ => rfl), E 56 (fun _ => rfl), E 57 (fun _ => rfl)]; exact ht
        rcases mem t ht with rfl | q
        · exact this _ (r4 s ms)
        · exact this t (r4 t q)
      · rw [E 52 (fun _ => rfl)]
        rcases List.mem_append.mp ht with q | q
        · rcases List.mem_cons.mp q with rfl | q
          · exact ⟨(q8 s ms).1, z7, fun z => by exfalso; have z : s.2.2.1 ≤ 1 := z; omega⟩
          · have := q8 t (List.mem_append.mpr (Or.inl q))
            refine ⟨this.1, ?_, this.2.2⟩
            rw [z6 _ (fun z => nw (List.mem_append.mpr (Or.inr (List.mem_map.mpr ⟨t, List.mem_append.mpr (Or.inl q), z⟩))))]; exact this.2.1
        · have := q8 t (List.mem_append.mpr (Or.inr (List.mem_cons_of_mem _ q)))
          refine ⟨this.1, ?_, this.2.2⟩
          rw [z6 _ (fun z => nw (List.mem_append.mpr (Or.inr (List.mem_map.mpr ⟨t, List.mem_append.mpr (Or.inr q), z⟩))))]; exact this.2.1
      · obtain ⟨c1, c2⟩ := q9 q hq
        refine ⟨c1, ?_⟩
        rw [z6 _ (fun z => nw (List.mem_append.mpr (Or.inl (List.mem_map.mpr ⟨q, hq, z⟩))))]; exact c2
      · rw [E 52 (fun _ => rfl)]
        have p2 : (O.map Prod.fst ++ ((s.1, s.2.1, w_pc (g_it g).length s.2.2) :: H ++ V).map (fun s => x.1 52 s.1)).Perm (x.1 52 s.1 :: (O.map Prod.fst ++ (H ++ V).map (fun s => x.1 52 s.1))) := List.perm_middle
        exact (p2.nodup_iff).mpr q10'
      · have hne : t.1 ≠ s.1 := by have := s6.2.2.lt t ht; omega
        rw [e 58 t.1 (by show Nat.beq t.1 s.1 = false; rw [← Bool.not_eq_true, Nat.beq_eq]; exact hne)]
        exact q11 t (List.mem_cons_of_mem _ ht) h2t
    have own := (q8 s ms).2.1
    have pc_no : ¬ s.2.2.2.2.2.2.2.1 < (g_it g).length → c_ps (w_pc (g_it g).length s.2.2) = c_ps s.2.2 := fun q => by
      unfold c_ps w_pc
      show (if s.2.2.2.2.2.2.2.1 < (g_it g).length then _ else _) = _
      rw [if_neg q]
    have pc_yes : s.2.2.2.2.2.2.2.1 < (g_it g).length → c_ps (w_pc (g_it g).length s.2.2) = (s.2.2.2.2.2.2.2.1, (g_it g).length) :: c_ps s.2.2 := fun q => by
      unfold c_ps w_pc
      show (if s.2.2.2.2.2.2.2.1 < (g_it g).length then _ else _) = _
      rw [if_pos q]
    rw [a58, if_neg (show ¬ nI (w_at (p_w P) (g_it g) s.2.2.2.2.2.2.2.1) = -1 from nI_nm1 (by omega)), b28]
    have f58 : yfr (yc0 s.1) (p_pf P) x (mj_wI x 58 s.1 (-1)) := (yfr.rf _ _ x).w _ (by show Nat.beq s.1 s.1 = true; exact Nat.beq_refl _)
    by_cases q : s.2.2.2.2.2.2.2.1 < (g_it g).length
    · have lt := w_at_lt (p_w P) (g_it g) q (Nat.le_refl _)
      rw [len] at lt
      rw [if_neg (show ¬ nI (w_by_ (p_w P) w_z (g_it g)).length ≤ nI (w_at (p_w P) (g_it g) s.2.2.2.2.2.2.2.1) from nI_ge lt (by omega)), q3]
      by_cases q20 : L.length = 20000
      · rw [if_pos (show nI L.length = 20000 by rw [q20]; rfl)]
        have f29 : yfr (yc s.1) (p_pf P) x (mj_wI x 0 29 1) := (yfr.rf _ _ x).w _ rfl
        refine ⟨_, rfl, much _ f29 ⟨_, q4, q3⟩ rfl (h7.mu he) ((h6.fr (y := mj_wI x 0 29 1) rfl rfl rfl rfl).mono (by have := h7.2.1; omega)) (Or.inl (Or.inr (Or.inr (Or.inl ?_)))), f29, fun z => absurd z (by show ¬ (1 : Int32) = 0; decide)⟩
        show 20000 < p_rf P + (hp + (c_ps (w_pc (g_it g).length s.2.2)).length) + ((g_rg g).length + w_np (g_cx (w_shut g)))
        have hps2 : w_ph (w_shut g) = (g_rg g).length + w_np (g_cx (w_shut g)) := rfl
        rw [pc_yes q]
        simp only [List.length_cons]
        omega
      · rw [if_neg (show ¬ nI L.length = 20000 from fun z => q20 ((nI_eq (b := 20000) (by omega) (by omega)).mp z))]
        have k20 : ∀ r : mj_R, mj_g (nI L.length) 20000 r = r := fun r => mj_g_k (mj_in_nI (by omega) (by omega)) r
        rw [n2 hs2k, k20, n2 hs2k, k20, k20, n2 hs2k, nI_clamp (by omega), show nI L.length + (1 : Int32) = nI (L.length + 1) from nI_add _ 1]
        refine ⟨_, rfl, ex _ ((x.1 52 s.1, s.2.2.2.2.2.2.2.1, (g_it g).length) :: L) ?_ rfl rfl (by simp only [List.length_cons]; omega) (by rw [pc_yes q]; simp only [List.length_cons]; omega) ⟨⟨?_, ?_, ?_⟩, ?_⟩ (fun e he => ?_) (fun v hv => y_own_ne (fun z => hv z.symm)) (by rw [pc_yes q, y_own_eq, own]), ?_, fun _ => h0⟩
        · exact (((((yfr.rf _ _ x).w _ rfl).w _ rfl).w _ rfl).w _ rfl).w _ (by show Nat.beq s.1 s.1 = true; exact Nat.beq_refl _)
        · show upd (x.1 63) L.length (x.1 52 s.1) L.length = _
          rw [pk_us]
        · show upd (x.1 64) L.length _ L.length = _
          rw [pk_us]
        · show upd (x.1 65) L.length _ L.length = _
          rw [pk_us, len]
        · refine q6.mono (fun k e hk _ a => ?_)
          show upd (x.1 63) L.length _ k = _ ∧ upd (x.1 64) L.length _ k = _ ∧ upd (x.1 65) L.length _ k = _
          rw [pk_un (by omega), pk_un (by omega), pk_un (by omega)]; exact a
        · rcases List.mem_cons.mp he with rfl | he
          · exact ⟨(q8 s ms).1, afrom, Nat.le_refl _⟩
          · exact q7 e he
        · exact yc0_yc ((((((yfr.rf _ _ x).w _ rfl).w _ rfl).w _ rfl).w _ rfl).w _ (by show Nat.beq s.1 s.1 = true; exact Nat.beq_refl _))
    · have efl : s.2.2.2.2.2.2.2.1 = (g_it g).length := by omega
      rw [if_pos (show nI (w_by_ (p_w P) w_z (g_it g)).length ≤ nI (w_at (p_w P) (g_it g) s.2.2.2.2.2.2.2.1) by rw [efl, len]; exact Int32.le_refl _)]
      exact ⟨_, rfl, ex _ L f58 rfl q3 q4 (by rw [pc_no q]; omega) q6 q7 (fun _ _ => rfl) (by rw [pc_no q]; exact own), yc0_yc f58, fun _ => h0⟩
  · obtain ⟨n, n1, n2'⟩ := s9
    have m3' : c_over (pH P (hp + (c_ps (w_pc (g_it g).length s.2.2)).length)) (w_shut g) := m3.of rfl rfl rfl (by
      show p_rf P + hp + ((g_rg g).length + w_np (g_cx g)) ≤ p_rf P + (hp + (c_ps (w_pc (g_it g).length s.2.2)).length) + ((g_rg g).length + w_np (g_cx (w_shut g)))
      omega) rfl rfl rfl
    have h29 : x.1 0 29 = 1 := m1.1
    have done : ∀ y : mj_X, yfr (yc0 s.1) (p_pf P) x y → y.2 = x.2 → (∃ n, n ≤ 20000 ∧ y.1 0 65 = nI n) → ∃ z, (some (none, y) : mj_R) = some (none, z) ∧ Y2 nt N P (hp + (c_ps (w_pc (g_it g).length s.2.2)).length) ((s.1, s.2.1, w_pc (g_it g).length s.2.2) :: H) O K u sb C (some s.2.1) V lm lv ct z (w_shut g) ∧ yfr (yc s.1) (p_pf P) x z ∧ (z.1 0 29 = 0 → x.1 0 29 = 0) := by
      intro y f h2 h65
      have e0 := yV0.of f (yvoc s.1) h2
      exact ⟨y, rfl, much y (yc0_yc f) h65 ((f.1 0 29 rfl).trans h29) (m1.v0 e0) (m2.v0 e0) m3', yc0_yc f, fun z => by rw [f.1 0 29 rfl] at z; exact z⟩
    have f58 : yfr (yc0 s.1) (p_pf P) x (mj_wI x 58 s.1 (-1)) := (yfr.rf _ _ x).w _ (by show Nat.beq s.1 s.1 = true; exact Nat.beq_refl _)
    have k20 : ¬ n = 20000 → ∀ r : mj_R, mj_g (nI n) 20000 r = r := fun q r => mj_g_k (mj_in_nI (by omega) (by omega)) r
    split
    · exact done _ f58 rfl ⟨n, n1, n2'⟩
    · split
      · exact done _ f58 rfl ⟨n, n1, n2'⟩
      · rw [n2']
        by_cases q20 : n = 20000
        · rw [if_pos (show nI n = 20000 by rw [q20]; rfl)]
          have e1 : mj_wI x 0 29 1 = x := by
            refine Prod.ext (funext fun k => funext fun j => ?_) rfl
            rw [mj_wI_1]
            by_cases z1 : k = 0
            · by_cases z2 : j = 29
              · rw [if_pos z1, if_pos z2, z1, z2, h29]
              · rw [if_pos z1, if_neg z2, z1]
            · rw [if_neg z1]
          rw [e1]
          exact done x (yfr.rf _ _ _) rfl ⟨n, n1, n2'⟩
        · rw [if_neg (show ¬ nI n = 20000 from fun z => q20 ((nI_eq (b := 20000) (by omega) (by omega)).mp z)), n2 hs2k, k20 q20, n2 hs2k, k20 q20, k20 q20, n2 hs2k, nI_clamp (by omega), show nI n + (1 : Int32) = nI (n + 1) from nI_add _ 1]
          exact done _ ((((((yfr.rf _ _ x).w _ rfl).w _ rfl).w _ rfl).w _ rfl).w _ (by show Nat.beq s.1 s.1 = true; exact Nat.beq_refl _)) rfl ⟨n + 1, by omega, rfl⟩
end
