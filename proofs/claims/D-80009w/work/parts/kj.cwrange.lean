/-! CodeWriter: ranges; owners' pieces become ranges -/
def yr (rf k j : Nat) : Bool := match k with
  | 0 => [29, 45].elem j
  | 22 => Nat.ble (4 * rf) j
  | _ => false
def yr0 (rf k j : Nat) : Bool := match k with
  | 0 => [45].elem j
  | 22 => Nat.ble (4 * rf) j
  | _ => false
theorem yvor (rf : Nat) : yvo (yr0 rf) := yvo_of (elem_12 (Z := yr0 rf 0) rfl rfl rfl rfl rfl rfl rfl rfl rfl rfl rfl rfl) (fun _ => rfl) (fun _ => rfl) (fun _ => rfl) (fun _ => rfl) (fun _ => rfl) (fun _ => rfl) (fun _ => rfl) (fun _ => rfl) (fun _ => rfl)
theorem yr0_yr {rf pf : Nat} {x y : mj_X} (f : yfr (yr0 rf) pf x y) : yfr (yr rf) pf x y := f.mono (fun k j h => by
  unfold yr at h
  unfold yr0
  split
  · simp at h ⊢; omega
  · exact h
  · rfl)
theorem yr_w {P : yP} {K : Nat} {x y : mj_X} (f : yfr (yr (p_rf P)) (p_pf P) x y) : yfr (yw2 P K) (p_pf P) x y := f.mono (fun k j h => by
  obtain ⟨h1, h2⟩ := Bool.or_eq_false_iff.mp h
  unfold yr
  split
  · unfold yw at h1
    simp at h1 h2 ⊢; omega
  · exact h2
  · rfl)
theorem w_reg_ap2 (e : Nat) (k : Int32) : ∀ (ps : List (Nat × Nat)) (r : List (Nat × Nat × Nat × Int32)), ∃ q, w_reg e k ps r = q ++ r ∧ q.length = ps.length := by
  intro ps
  induction ps with
  | nil => intro r; exact ⟨[], rfl, rfl⟩
  | cons p ps ih =>
    intro r
    obtain ⟨q, e1, e2⟩ := ih r
    exact ⟨(p.1, p.2, e, k) :: q, by show (p.1, p.2, e, k) :: w_reg e k ps r = _; rw [e1]; rfl, by simp only [List.length_cons]; omega⟩
theorem w_reg_add (e : Nat) (k : Int32) : ∀ (A B : List (Nat × Nat)) (r : List (Nat × Nat × Nat × Int32)), w_reg e k (A ++ B) r = w_reg e k A (w_reg e k B r) := by
  intro A
  induction A with
  | nil => intro B r; rfl
  | cons p A ih => intro B r; show (p.1, p.2, e, k) :: w_reg e k (A ++ B) r = (p.1, p.2, e, k) :: w_reg e k A (w_reg e k B r); rw [ih]
theorem wM_rgs {g : wG} {R : List (Nat × Nat × Nat × Int32)} (h : ∃ q, R = q ++ g_rg g) : wM g (s_rg R g) := ⟨fun q => q, ⟨[], rfl⟩, fun q => q, Nat.le_refl _, h, wK.rf _, Nat.le_refl _, Nat.le_refl _⟩
section
variable {nt : sp_NT} {N : Nat} {P : yP} {hp : Nat} {H V : List wSl} {O : List (Int32 × List (Nat × Nat))} {K u sb : Nat} {C : Nat → Prop} {o : Option Int32} {lm lm' : Nat → Nat} {lv lv' ct ct' : Nat → Bool} {x y : mj_X} {g G : wG}
theorem e_rangeX {d n : Nat} (hd : 1 ≤ d) (a b e k : Int32) (hn : n < 20000) (h : x.1 0 45 = nI n) : kX0 d 91 [.ref 0, .int a, .int b, .int e, .int k] x = some (none, mj_wI (mj_wI (mj_wI (mj_wI (mj_wI x 22 (4 * n) a) 22 (4 * n + 1) b) 22 (4 * n + 2) e) 22 (4 * n + 3) k) 0 45 (nI (n + 1))) := by
  obtain ⟨d, rfl⟩ : ∃ e, d = e + 1 := ⟨d - 1, by omega⟩
  have e1 : ∀ i : Nat, nI (4 * n) + nI i = nI (4 * n + i) := fun i => nI_add _ _
  rw [eX0_range, h, if_neg (show ¬ nI n = 20000 from fun z => by have := (nI_eq (b := 20000) (by omega) (by omega)).mp z; omega), show (4 : Int32) * nI n = nI (4 * n) from nI_mul 4 _,
    show nI (4 * n) + (1 : Int32) = nI (4 * n + 1) from e1 1, show nI (4 * n) + (2 : Int32) = nI (4 * n + 2) from e1 2, show nI (4 * n) + (3 : Int32) = nI (4 * n + 3) from e1 3,
    mj_g_k (mj_in_nI (by omega) (by omega)), mj_g_k (mj_in_nI (by omega) (by omega)), mj_g_k (mj_in_nI (by omega) (by omega)), mj_g_k (mj_in_nI (by omega) (by omega)), nI_clamp (by omega), nI_clamp (by omega), nI_clamp (by omega), nI_clamp (by omega), show nI n + (1 : Int32) = nI (n + 1) from nI_add n 1]
theorem e_rangeF {d : Nat} (hd : 1 ≤ d) (a b e k : Int32) (h : x.1 0 45 = 20000) : kX0 d 91 [.ref 0, .int a, .int b, .int e, .int k] x = some (none, mj_wI x 0 29 1) := by
  obtain ⟨d, rfl⟩ : ∃ e, d = e + 1 := ⟨d - 1, by omega⟩
  rw [eX0_range, if_pos h]
theorem Y2.n45 (h : Y2 nt N P hp H O K u sb C o V lm lv ct x g) : ∃ n, p_rf P ≤ n ∧ n ≤ 20000 ∧ x.1 0 45 = nI n := h.2.1.2.2.2.2.2.2.2.2.2.1
/-- writes to the ranges -/
theorem Y2.ofyr {hp2 : Nat} (h : Y2 nt N P hp H O K u sb C o V lm lv ct x g) (f : yfr (yr0 (p_rf P)) (p_pf P) x y) (h2 : y.2 = x.2) (h45 : ∃ n, p_rf P ≤ n ∧ n ≤ 20000 ∧ y.1 0 45 = nI n) {R : List (Nat × Nat × Nat × Int32)} (hR : (g_rg g).length + hp ≤ R.length + hp2)
    (hx : x.1 0 29 = 0 → y_rg (p_w P) (p_rf P) (g_it g) (y.1 0 45) (y.1 22) R) : Y2 nt N P hp2 H O K u sb C o V lm lv ct y (s_rg R g) := by
  have e0 := yV0.of f (yvor (p_rf P)) h2
  have e := f.1
  have E : ∀ a, (∀ j, yr0 (p_rf P) a j = false) → y.1 a = x.1 a := fun a ha => funext fun j => e a j (ha j)
  obtain ⟨he, ⟨s1, s2, s3, s4, s5, s6, s7, s8, s9, s10, s11, s12, s13⟩, hC, hX⟩ := h
  refine ⟨he.fr2 (yr_w (K := K) (yr0_yr f)), ⟨s1, by rw [e 0 58 rfl]; exact s2, s3, s4, by rw [e 0 61 rfl]; exact s5, by rw [e 0 59 rfl]; exact s6, s7, by rw [E 50 (fun _ => rfl), E 51 (fun _ => rfl)]; exact s8, by rw [e 0 65 rfl]; exact s9, h45, by rw [E 21 (fun _ => rfl)]; exact s11, by rw [e 0 66 rfl, e 0 60 rfl]; exact s12, s13⟩, hC.eq (E 35 (fun _ => rfl)) (fun _ _ => ⟨rfl, rfl, rfl⟩) (Nat.le_refl _), ?_⟩
  rw [e 0 29 rfl]
  rcases hX with ⟨h0, h5, h6, h7, r1, r2, r3, r4, L, t, q1, q2, q3, q4, q5, r5⟩ | ⟨h0, m1, m2, m3⟩
  · refine Or.inl ⟨h0, by rw [E 35 (fun _ => rfl)]; exact h5, h6.v0 e0, (h7.v0 e0).same ⟨rfl, rfl, rfl, rfl, rfl, rfl, rfl, rfl, rfl, rfl⟩, ?_, hx h0, ?_, ?_, L, t, by rw [e 0 66 rfl]; exact q1, q2, by rw [e 0 65 rfl]; exact q3, q4, ?_, ?_⟩
    · unfold yNn at *; rw [e 0 32 rfl, e 0 33 rfl, e 0 60 rfl]; exact r1
    · rw [E 35 (fun _ => rfl)]; exact r3
    · unfold y_sb at *
      rw [E 53 (fun _ => rfl), E 54 (fun _ => rfl), E 55 (fun _ => rfl), E 56 (fun _ => rfl), E 57 (fun _ => rfl)]; exact r4
    · show L.length ≤ (R.length + w_np (g_cx g)) + hp2
      have q5 : L.length ≤ ((g_rg g).length + w_np (g_cx g)) + hp := q5
      omega
    · rw [E 63 (fun _ => rfl), E 64 (fun _ => rfl), E 65 (fun _ => rfl), E 52 (fun _ => rfl), E 58 (fun _ => rfl)]; exact r5
  · refine Or.inr ⟨h0, m1.v0 e0, m2.v0 e0, m3.of rfl rfl rfl ?_ rfl rfl rfl⟩
    show p_rf P + hp + ((g_rg g).length + w_np (g_cx g)) ≤ p_rf P + hp2 + (R.length + w_np (g_cx g))
    omega
/-- one range -/
theorem Y2.rng {hp2 : Nat} {d a b e : Nat} {k va vb ve : Int32} (hd : 1 ≤ d) (hh : hp ≤ hp2 + 1) (h : Y2 nt N P hp H O K u sb C o V lm lv ct x g) (hx : x.1 0 29 = 0 → (va = nI (w_at (p_w P) (g_it g) a) ∧ vb = nI (w_at (p_w P) (g_it g) b) ∧ ve = nI (w_at (p_w P) (g_it g) e)) ∧ a ≤ (g_it g).length ∧ b ≤ (g_it g).length ∧ e ≤ (g_it g).length) :
    ∃ y, kX0 d 91 [.ref 0, .int va, .int vb, .int ve, .int k] x = some (none, y) ∧ Y2 nt N P hp2 H O K u sb C o V lm lv ct y (s_rg ((a, b, e, k) :: g_rg g) g) ∧ yfr (yr (p_rf P)) (p_pf P) x y ∧ y.2 = x.2 ∧ (y.1 0 29 = 0 → x.1 0 29 = 0) := by
  obtain ⟨n, n1, n2', h45⟩ := h.n45
  by_cases q : n = 20000
  · rw [e_rangeF hd _ _ _ _ (by rw [h45, q]; rfl)]
    have f29 : yfr (yr (p_rf P)) (p_pf P) x (mj_wI x 0 29 1) := (yfr.rf _ _ x).w _ rfl
    refine ⟨_, rfl, ?_, f29, rfl, fun z => absurd z (by show ¬ (1 : Int32) = 0; decide)⟩
    obtain ⟨he, ⟨s1, s2, s3, s4, s5, s6, s7, s8, s9, s10, s11, s12, s13⟩, hC, hX⟩ := h
    refine ⟨he.fr2 (yr_w (K := K) f29), ⟨s1, s2, s3, s4, s5, s6, s7, s8, s9, s10, s11, s12, s13⟩, hC, Or.inr ⟨by show ¬ (1 : Int32) = 0; decide, ?_⟩⟩
    rcases hX with ⟨h0, h5, h6, h7, r1, r2, -⟩ | ⟨h0, m1, m2, m3⟩
    · refine ⟨h7.mu he, (h6.fr (y := mj_wI x 0 29 1) rfl rfl rfl rfl).mono (by have := h7.2.1; omega), Or.inl (Or.inr (Or.inr (Or.inl ?_)))⟩
      have : n = p_rf P + (g_rg g).length := (nI_eq (by omega) (by have := r2.2.1; omega)).mp (h45.symm.trans r2.1)
      show 20000 < p_rf P + hp2 + (((a, b, e, k) :: g_rg g).length + w_np (g_cx g))
      simp only [List.length_cons]
      omega
    · refine ⟨⟨rfl, m1.2⟩, m2.fr rfl rfl rfl rfl, m3.of rfl rfl rfl ?_ rfl rfl rfl⟩
      show p_rf P + hp + ((g_rg g).length + w_np (g_cx g)) ≤ p_rf P + hp2 + (((a, b, e, k) :: g_rg g).length + w_np (g_cx g))
      simp only [List.length_cons]
      omega
  · rw [e_rangeX hd _ _ _ _ (by omega) h45]
    have f : yfr (yr0 (p_rf P)) (p_pf P) x (mj_wI (mj_wI (mj_wI (mj_wI (mj_wI x 22 (4 * n) va) 22 (4 * n + 1) vb) 22 (4 * n + 2) ve) 22 (4 * n + 3) k) 0 45 (nI (n + 1))) :=
      (((((yfr.rf _ _ x).w _ (by show Nat.ble (4 * p_rf P) _ = true; exact Nat.ble_eq_true_of_le (by omega))).w _ (by show Nat.ble (4 * p_rf P) _ = true; exact Nat.ble_eq_true_of_le (by omega))).w _ (by show Nat.ble (4 * p_rf P) _ = true; exact Nat.ble_eq_true_of_le (by omega))).w _ (by show Nat.ble (4 * p_rf P) _ = true; exact Nat.ble_eq_true_of_le (by omega))).w _ rfl
    refine ⟨_, rfl, h.ofyr f rfl ⟨n + 1, by omega, by omega, rfl⟩ (by simp only [List.length_cons]; omega) (fun h0 => ?_), yr0_yr f, rfl, fun z => z⟩
    obtain ⟨-, -, -, -, r2, -⟩ := h.ex h0
    obtain ⟨⟨x1, x2, x3⟩, x4, x5, x6⟩ := hx h0
    have hn : n = p_rf P + (g_rg g).length := (nI_eq (by omega) (by have := r2.2.1; omega)).mp (h45.symm.trans r2.1)
    subst hn
    refine ⟨?_, by simp only [List.length_cons]; omega, fun q hq => ?_, ⟨⟨?_, ?_, ?_, ?_⟩, ?_⟩⟩
    · show nI (p_rf P + (g_rg g).length + 1) = nI (p_rf P + ((g_rg g).length + 1)); rw [Nat.add_assoc]
    · rcases List.mem_cons.mp hq with rfl | hq
      · exact ⟨x4, x5, x6⟩
      · exact r2.2.2.1 q hq
    · show upd (upd (upd (upd (x.1 22) _ _) _ _) _ _) _ _ _ = _
      rw [pk_un (by omega), pk_un (by omega), pk_un (by omega), pk_us, x1]
    · show upd (upd (upd (upd (x.1 22) _ _) _ _) _ _) _ _ _ = _
      rw [pk_un (by omega), pk_un (by omega), pk_us, x2]
    · show upd (upd (upd (upd (x.1 22) _ _) _ _) _ _) _ _ _ = _
      rw [pk_un (by omega), pk_us, x3]
    · show upd (upd (upd (upd (x.1 22) _ _) _ _) _ _) _ _ _ = _
      rw [pk_us]
    · refine r2.2.2.2.mono (fun j q hj _ a => ?_)
      show upd (upd (upd (upd (x.1 22) _ _) _ _) _ _) _ _ _ = _ ∧ upd (upd (upd (upd (x.1 22) _ _) _ _) _ _) _ _ _ = _ ∧ upd (upd (upd (upd (x.1 22) _ _) _ _) _ _) _ _ _ = _ ∧ upd (upd (upd (upd (x.1 22) _ _) _ _) _ _) _ _ _ = _
      rw [pk_un (by omega), pk_un (by omega), pk_un (by omega), pk_un (by omega), pk_un (by omega), pk_un (by omega), pk_un (by omega), pk_un (by omega), pk_un (by omega), pk_un (by omega), pk_un (by omega), pk_un (by omega), pk_un (by omega), pk_un (by omega), pk_un (by omega), pk_un (by omega)]
      exact a
/-- all pieces of an owner become ranges -/
theorem Y2.reg {d m0 : Nat} {v k ve : Int32} {ps : List (Nat × Nat)} (hd : 2 ≤ d) (hm0 : m0 ≤ ps.length) (h : Y2 nt N P (hp + m0) H ((v, ps) :: O) K u sb C o V lm lv ct x g) (hve : x.1 0 29 = 0 → ve = nI (w_at (p_w P) (g_it g) (g_it g).length)) :
    ∃ V' lm' lv' ct' y, kX0 d 90 [.ref 0, .int v, .int ve, .int k] x = some (none, y) ∧ Y2 nt N P hp H ((v, ps) :: O) K u sb C o V' lm' lv' ct' y (s_rg (w_reg (g_it g).length k ps (g_rg g)) g) ∧ z_skl V' = z_skl V ∧ (∀ l, l < g_nl g → lm' l = lm l ∧ lv' l = lv l ∧ ct' l = ct l) ∧ yfr (yr (p_rf P)) (p_pf P) x y ∧ y.2 = x.2 ∧ (y.1 0 29 = 0 → x.1 0 29 = 0) := by
  obtain ⟨d, rfl⟩ : ∃ e, d = e + 1 := ⟨d - 1, by omega⟩
  rw [eX0_register]
  -- when it is much: to the end
  have mloop : ∀ (hp : Nat) (n j i : Nat) (z : mj_X) (G : wG), n ≤ 20000 → i + j = n → Y2 nt N P hp H ((v, ps) :: O) K u sb C o V lm lv ct z G → z.1 0 65 = nI n → yfr (yr (p_rf P)) (p_pf P) x z → z.2 = x.2 → ¬ z.1 0 29 = 0 → ∃ y, rX0_register d (3, [some (.ref 0), some (.int v), some (.int ve), some (.int k), some (.int (nI i))], [], z) = some (none, y) ∧ Y2 nt N P hp H ((v, ps) :: O) K u sb C o V lm lv ct y G ∧ yfr (yr (p_rf P)) (p_pf P) x y ∧ y.2 = x.2 ∧ ¬ y.1 0 29 = 0 := by
    intro hp n j
    induction j with
    | zero =>
      intro i z G hn hi hz h65 f z2 h29
      rw [bX0_register_3, h65, if_pos (nI_le (by omega) (by omega))]
      exact ⟨z, rfl, hz, f, z2, h29⟩
    | succ j ih =>
      intro i z G hn hi hz h65 f z2 h29
      rw [bX0_register_3, h65, if_neg (nI_ge (by omega) (by omega)), n20 (by omega), nI_clamp (by omega)]
      split
      · obtain ⟨y1, e1, q1, f1, y2, t1⟩ := Y2.rng (hp2 := hp) (d := d) (a := 0) (b := 0) (e := 0) (k := k) (va := z.1 64 i) (vb := z.1 65 i) (ve := ve) (by omega) (Nat.le_succ _) hz (fun w => absurd w h29)
        have h29' : ¬ y1.1 0 29 = 0 := fun w => h29 (t1 w)
        -- S may stay where it was
        have q1' : Y2 nt N P hp H ((v, ps) :: O) K u sb C o V lm lv ct y1 G := by
          obtain ⟨he, hS, hC, hX⟩ := q1
          obtain ⟨-, -, m3⟩ := hz.mc h29
          rcases hX with ⟨w, -⟩ | ⟨-, m1, m2, -⟩
          · exact absurd w h29'
          · exact ⟨he, hS, hC, Or.inr ⟨h29', m1, m2, m3⟩⟩
        rw [n20 (by omega), n20 (by omega), e1, mj_rV_k, show nI i + (1 : Int32) = nI (i + 1) from nI_add i 1]
        exact ih (i + 1) y1 G hn (by omega) q1' (by rw [f1.1 0 65 rfl]; exact h65) (f.tr f1) (y2.trans z2) h29'
      · rw [show nI i + (1 : Int32) = nI (i + 1) from nI_add i 1]
        exact ih (i + 1) z G hn (by omega) hz h65 f z2 h29
  have mR : ∀ A B : List (Nat × Nat), wM (s_rg (w_reg (g_it g).length k B (g_rg g)) g) (s_rg (w_reg (g_it g).length k (A ++ B) (g_rg g)) g) := fun A B => by
    obtain ⟨q, e1, -⟩ := w_reg_ap2 (g_it g).length k A (w_reg (g_it g).length k B (g_rg g))
    exact wM_rgs (g := s_rg (w_reg (g_it g).length k B (g_rg g)) g) (R := w_reg (g_it g).length k (A ++ B) (g_rg g)) ⟨q, by rw [w_reg_add]; exact e1⟩
  -- fewer are put aside than before: each has its range by then
  have low : ∀ (A B : List (Nat × Nat)) (m1 : Nat) {V' : List wSl} {lm2 : Nat → Nat} {lv2 ct2 : Nat → Bool} {z : mj_X}, ¬ z.1 0 29 = 0 → Y2 nt N P (hp + m1) H ((v, ps) :: O) K u sb C o V' lm2 lv2 ct2 z (s_rg (w_reg (g_it g).length k (A ++ B) (g_rg g)) g) → Y2 nt N P (hp + m1) H ((v, ps) :: O) K u sb C o V lm lv ct z (s_rg (w_reg (g_it g).length k B (g_rg g)) g) → m1 + B.length ≤ (A ++ B).length →
      Y2 nt N P hp H ((v, ps) :: O) K u sb C o V' lm2 lv2 ct2 z (s_rg (w_reg (g_it g).length k (A ++ B) (g_rg g)) g) := by
    intro A B m1 V' lm2 lv2 ct2 z h29 a b hl
    obtain ⟨he, hS, hC, hX⟩ := a
    obtain ⟨-, -, m3⟩ := b.mc h29
    obtain ⟨qa, ea, la⟩ := w_reg_ap2 (g_it g).length k (A ++ B) (g_rg g)
    obtain ⟨qb, eb, lb⟩ := w_reg_ap2 (g_it g).length k B (g_rg g)
    rcases hX with ⟨w, -⟩ | ⟨-, m1', m2, -⟩
    · exact absurd w h29
    · refine ⟨he, hS, hC, Or.inr ⟨h29, m1', m2, m3.of rfl rfl rfl ?_ rfl rfl rfl⟩⟩
      show p_rf P + (hp + m1) + ((w_reg (g_it g).length k B (g_rg g)).length + w_np (g_cx g)) ≤ p_rf P + hp + ((w_reg (g_it g).length k (A ++ B) (g_rg g)).length + w_np (g_cx g))
      rw [ea, eb, List.length_append, List.length_append, la, lb]
      omega
  by_cases h0 : x.1 0 29 = 0
  · obtain ⟨-, -, -, -, -, -, -, L, t, q1, q2, q3, q4, q5, q6, q7, q8, q9, q10, q11⟩ := h.ex h0
    have hps : ps = y_own v L := (q9 (v, ps) (by simp)).2
    have loop : ∀ (m : Nat) (A B : List (Int32 × Nat × Nat)) (z : mj_X), A.length = m → A ++ B = L → Y2 nt N P (hp + (m0 - (y_own v B).length)) H ((v, ps) :: O) K u sb C o V lm lv ct z (s_rg (w_reg (g_it g).length k (y_own v B) (g_rg g)) g) → yfr (yr (p_rf P)) (p_pf P) x z → z.2 = x.2 →
        ∃ V' lm' lv' ct' y, rX0_register d (3, [some (.ref 0), some (.int v), some (.int ve), some (.int k), some (.int (nI B.length))], [], z) = some (none, y) ∧ Y2 nt N P hp H ((v, ps) :: O) K u sb C o V' lm' lv' ct' y (s_rg (w_reg (g_it g).length k ps (g_rg g)) g) ∧ z_skl V' = z_skl V ∧ (∀ l, l < g_nl g → lm' l = lm l ∧ lv' l = lv l ∧ ct' l = ct l) ∧ yfr (yr (p_rf P)) (p_pf P) x y ∧ y.2 = x.2 := by
      intro m
      induction m with
      | zero =>
        intro A B z hA hL hz f z2
        have hA : A = [] := List.length_eq_zero_iff.mp hA
        subst hA
        have hL : B = L := hL
        rw [bX0_register_3, f.1 0 65 rfl, q3, if_pos (by rw [hL]; exact Int32.le_refl _)]
        rw [hL, ← hps, show m0 - ps.length = 0 by omega] at hz
        exact ⟨V, lm, lv, ct, z, rfl, hz, rfl, fun _ _ => ⟨rfl, rfl, rfl⟩, f, z2⟩
      | succ m ih =>
        intro A B z hA hL hz f z2
        obtain ⟨A', e, rfl, hA'⟩ := concat_of hA
        have hL' : A' ++ e :: B = L := by rw [← hL, List.append_assoc]; rfl
        have hlen : A'.length + (B.length + 1) = L.length := by rw [← hL']; simp
        have he := (z_l1_app (A := A') (B := e :: B) (by rw [hL']; exact q6)).1
        have hm7 := q7 e (by rw [← hL']; simp)
        by_cases z0 : z.1 0 29 = 0
        · rw [bX0_register_3, f.1 0 65 rfl, q3, if_neg (nI_ge (by omega) (by omega)), n20 (by omega), nI_clamp (by omega), f.1 63 _ rfl, he.1]
          by_cases q : e.1 = v
          · rw [if_pos q, n20 (by omega), n20 (by omega), f.1 64 _ rfl, f.1 65 _ rfl, he.2.1, he.2.2]
            obtain ⟨y1, e1, p1, f1, y2, t1⟩ := Y2.rng (hp2 := hp + (m0 - ((y_own v B).length + 1))) (d := d) (a := e.2.1) (b := e.2.2) (e := (g_it g).length) (k := k) (va := nI (w_at (p_w P) (g_it g) e.2.1)) (vb := nI (w_at (p_w P) (g_it g) e.2.2)) (ve := ve) (by omega) (by omega) hz (fun _ => ⟨⟨rfl, rfl, hve h0⟩, hm7.2.1, hm7.2.2, Nat.le_refl _⟩)
            rw [e1, mj_rV_k, show nI B.length + (1 : Int32) = nI (e :: B).length from nI_add _ 1]
            refine ih A' (e :: B) y1 hA' hL' ?_ (f.tr f1) (y2.trans z2)
            obtain ⟨e1', e2'⟩ := e
            have q : e1' = v := q
            subst q
            rw [y_own_eq]; exact p1
          · rw [if_neg q, show nI B.length + (1 : Int32) = nI (e :: B).length from nI_add _ 1]
            refine ih A' (e :: B) z hA' hL' ?_ f z2
            obtain ⟨e1', e2'⟩ := e
            rw [y_own_ne q]; exact hz
        · obtain ⟨y, e1, p1, f1, y2, y29⟩ := mloop (hp + (m0 - (y_own v B).length)) L.length (L.length - B.length) B.length z _ q4 (by omega) hz (by rw [f.1 0 65 rfl]; exact q3) f z2 z0
          have ew : s_rg (w_reg (g_it g).length k ps (g_rg g)) g = s_rg (w_reg (g_it g).length k (y_own v (A' ++ [e]) ++ y_own v B) (g_rg g)) g := by rw [← y_own_app, hL, ← hps]
          obtain ⟨V', lm', lv', ct', p2, p3, p4⟩ := p1.skip y29 (mR (y_own v (A' ++ [e])) (y_own v B))
          have p2 := low (y_own v (A' ++ [e])) (y_own v B) (m0 - (y_own v B).length) y29 p2 p1 (by
            have hle : (y_own v B).length ≤ ps.length := by rw [hps, ← hL, y_own_app, List.length_append]; omega
            rw [← y_own_app, hL, ← hps]; omega)
          rw [← ew] at p2
          exact ⟨V', lm', lv', ct', y, e1, p2, p3, p4, f1, y2⟩
    obtain ⟨V', lm', lv', ct', y, e1, p1, p2, p3, f1, y2⟩ := loop L.length L [] x rfl (List.append_nil _) (by rw [show m0 - (y_own v ([] : List (Int32 × Nat × Nat))).length = m0 from rfl]; exact h) (yfr.rf _ _ _) rfl
    exact ⟨V', lm', lv', ct', y, e1, p1, p2, p3, f1, y2, fun _ => h0⟩
  · obtain ⟨n, hn, h65⟩ := h.n65
    obtain ⟨y, e1, p1, f1, y2, y29⟩ := mloop (hp + m0) n n 0 x g hn (by omega) h h65 (yfr.rf _ _ _) rfl h0
    obtain ⟨V', lm', lv', ct', p2, p3, p4⟩ := p1.skip y29 (mR ps [])
    have p2 := low ps [] m0 y29 p2 p1 (by rw [List.append_nil]; show m0 + 0 ≤ _; omega)
    rw [List.append_nil] at p2
    exact ⟨V', lm', lv', ct', y, e1, p2, p3, p4, f1, y2, fun w => absurd w y29⟩
end
