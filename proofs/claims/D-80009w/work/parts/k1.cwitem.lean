/-! CodeWriter: items -/
section
variable {nt : sp_NT} {N : Nat} {P : yP} {X : List (Nat × Bool)} {b : Nat} {lm lm' : Nat → Nat} {lv lv' : Nat → Bool} {x y : mj_X} {g h G H : wG}
/-- within an item: B bytes, F jumps; the line is told -/
def yI (P : yP) (X : List (Nat × Bool)) (lm : Nat → Nat) (lv : Nat → Bool) (B : List Int32) (F : List (Nat × Nat × Nat × Bool)) (x : mj_X) (g : wG) : Prop := g_ov g = false ∧ g_al g = true ∧ g_us g ≤ 45000 ∧ eB (p_w P) (p_cf P) B x ∧ yF (g_nl g) lm x F ∧ yV (p_w P) X lm lv (g_it g) x g ∧ yPo (p_pf P) x (g_po g)
  ∧ (x.1 0 46 = nI (p_lf P + (w_told (g_it g).length (g_pn g) (g_ln g)).length) ∧ x.1 0 47 = -1 ∧ p_lf P + (w_told (g_it g).length (g_pn g) (g_ln g)).length ≤ 20000 ∧ (∀ e, e ∈ w_told (g_it g).length (g_pn g) (g_ln g) → e.1 ≤ (g_it g).length)
    ∧ z_l1 (fun k e => x.1 24 (2 * (p_lf P + k)) = nI (w_at (p_w P) (g_it g) e.1) ∧ x.1 24 (2 * (p_lf P + k) + 1) = e.2) (w_told (g_it g).length (g_pn g) (g_ln g)) ∧ ∃ t, x.1 0 48 = nI t ∧ t ≤ p_tb P + (g_it g).length + 1)
theorem yb_yw {pf lf : Nat} {x y : mj_X} (f : yfr yb 0 x y) (e2 : y.2 = x.2) : yfr (yw pf lf) pf x y := ⟨fun k j hz => f.1 k j (by
  unfold yw at hz
  unfold yb
  split
  · simp at hz ⊢; omega
  · simp at hz
  · rfl), fun k j _ => by rw [e2]⟩
theorem yI.em {B bs : List Int32} {F : List (Nat × Nat × Nat × Bool)} (a : yI P X lm lv B F x g) (m : EM (p_w P) (p_cf P) x B bs y) : yI P X lm lv (B ++ bs) F y g ∨ (y.1 0 29 = 1 ∧ (65535 < (B ++ bs).length ∨ 90000 < p_cf P + (B ++ bs).length) ∧ ∃ n, n ≤ 65535 ∧ y.1 0 28 = nI n) := by
  obtain ⟨f, e2, m⟩ := m
  rcases m with m | m
  · left
    obtain ⟨a1, a2, a3, a4, a5, a6, a7, a8⟩ := a
    have e := f.1
    have E : ∀ k, k ≠ 0 → k ≠ 28 → y.1 k = x.1 k := fun k h1 h2 => funext fun j => e k j (by unfold yb; split; exact absurd rfl h1; exact absurd rfl h2; rfl)
    refine ⟨a1, a2, a3, m, ?_, ?_, ?_, ?_⟩
    · unfold yF at *; rw [e 0 42 rfl, E 40 (by decide) (by decide), E 41 (by decide) (by decide), E 42 (by decide) (by decide)]; exact a5
    · unfold yV at *; rw [E 36 (by decide) (by decide), E 37 (by decide) (by decide)]; exact a6
    · obtain ⟨p1, p2, p3, p4⟩ := a7
      refine ⟨by rw [e 0 43 rfl]; exact p1, by rw [e 0 44 rfl]; exact p2, p3, ?_⟩
      have key : ∀ l : List (Nat × Int64), y_po (p_pf P) x l → y_po (p_pf P) y l := by
        intro l
        induction l with
        | nil => intro _; trivial
        | cons a r ih => intro h; refine ⟨?_, ih h.2⟩; rw [E 18 (by decide) (by decide), E 19 (by decide) (by decide), e2]; exact h.1
      exact key _ p4
    · rw [e 0 46 rfl, e 0 47 rfl, e 0 48 rfl, E 24 (by decide) (by decide)]; exact a8
  · exact Or.inr m
/-- an item is whole -/
theorem yI.fin {i : wI} {F : wF} (hq : w_q g = false) (a : yI P X lm lv (w_by_ (p_w P) w_z ((i, (g_L g, g_st g)) :: g_it g)) (w_fxs (p_w P) w_z ((i, (g_L g, g_st g)) :: g_it g)) y g) : y1 P X lm lv y (w_es i F g) := by
  obtain ⟨k1, k2, k3, k4, k5, k6, k7, k8, k9, k10, k11, k12, k13⟩ := w_es_f (i := i) (F := F) hq
  have knl : g_nl (w_es i F g) = g_nl g := congrArg Prod.fst k11
  have klat : g_lat (w_es i F g) = g_lat g := congrArg (fun z => z.2.1) k11
  have kgo : g_goes (w_es i F g) = g_goes g := congrArg (fun z => z.2.2.1) k11
  have kus : g_us (w_es i F g) = g_us g := congrArg (fun z => z.2.2.2.2.1) k11
  have kpo : g_po (w_es i F g) = g_po g := k9
  obtain ⟨a1, a2, a3, ⟨b1, b2, b3, b4, b5, b6, b7⟩, a5, ⟨v1, v2, v3, v4⟩, a7, ⟨n1, n2, n3, n4, n5, t, n6, n7⟩⟩ := a
  refine ⟨by rw [k3]; exact a1, by rw [kus]; exact a3, by rw [k2, a2]; exact b2, b3, ?_, ?_, ?_, ?_, ?_⟩
  · rw [k1]; exact ⟨b4, b5, b6, b7⟩
  · rw [k1, knl]; exact a5
  · rw [k1]
    refine ⟨fun l hl hv => ?_, fun l hl hv => ?_, fun l j hl hj => ?_, v4⟩
    · rw [knl] at hl
      have := v1 l hl hv
      rw [klat, kgo]
      refine ⟨?_, this.2⟩
      rw [this.1]
      cases hh : g_lat g l with
      | none => rfl
      | some k => show nI _ = nI _; rw [w_at_cons _ _ _ (v3 l k hl hh)]
    · rw [knl] at hl; rw [kgo] at hv; exact v2 l hl hv
    · rw [knl] at hl; rw [klat] at hj
      have := v3 l j hl hj
      simp only [List.length_cons]; omega
  · rw [kpo]; exact a7
  · rw [k1, k7, k8]
    refine ⟨n1, n2, n3, fun e he => ?_, n5.mono (fun k e _ he hh => ?_), t, n6, ?_⟩
    · have := n4 e he; simp only [List.length_cons]; omega
    · rw [w_at_cons _ _ _ (n4 e he)]; exact hh
    · simp only [List.length_cons]; omega
/-- the line is told -/
theorem c_line {d : Nat} {cc : Int32} (a : Y1 nt N P X b lm lv x g) (hl : ¬ yq x) : ∃ y, ((kX0 (d + 1) 37 [.ref 0, .int cc] x = some (none, y) ∧ y.1 0 29 = 1 ∧ 20000 < p_lf P + (w_told (g_it g).length (g_pn g) (g_ln g)).length) ∨ (kX0 (d + 1) 37 [.ref 0, .int cc] x = rX0_code d (141, [some (.ref 0), some (.int cc)], [], y) ∧ yI P X lm lv (w_by_ (p_w P) w_z (g_it g)) (w_fxs (p_w P) w_z (g_it g)) y g))
    ∧ yfr (yw (p_pf P) (p_lf P)) (p_pf P) x y ∧ (y.1 0 30 = x.1 0 30 ∧ y.1 0 31 = x.1 0 31 ∧ y.1 0 28 = x.1 0 28 ∧ y.1 0 43 = x.1 0 43 ∧ y.1 0 37 = x.1 0 37 ∧ y.1 0 38 = x.1 0 38 ∧ y.1 36 = x.1 36 ∧ y.1 37 = x.1 37) ∧ x.1 0 48 ≤ y.1 0 48 ∧ (¬ x.1 0 47 = -1 → y.1 0 29 = 0 → x.1 0 48 < y.1 0 48) ∧ ∃ t, y.1 0 48 = nI t ∧ t ≤ p_tb P + (g_it g).length + 1 := by
  obtain ⟨h29, h30, hq⟩ := a.live hl
  obtain ⟨hal, hov⟩ := (w_q_iff g).mp hq
  obtain ⟨hL, o1, o2, o3, o4, ⟨b1, b2, b3, b4⟩, o6, o7, o8_, ⟨n1, n2, n3, n4, n5, t, n6, n7⟩⟩ := a.ex h29
  obtain ⟨-, ⟨e1, e2, -, -⟩, -, -, e5, -, -, e8, e9, -⟩ := a.1
  have hits : (g_it g).length ≤ 65535 := by
    have : ∀ l : List (wI × wF), l.length ≤ (w_by_ (p_w P) w_z l).length := by
      intro l
      induction l with
      | nil => exact Nat.zero_le _
      | cons i r ih =>
        show r.length + 1 ≤ (w_by_ (p_w P) w_z r ++ w_enc (p_w P) w_z (w_by_ (p_w P) w_z r).length i.1).length
        rw [List.length_append]
        have := w_enc_pos (p_w P) w_z (w_by_ (p_w P) w_z r).length i.1
        omega
    have := this (g_it g); omega
  rw [eX0_code, if_neg (by rw [h30]; decide), if_pos h29]
  by_cases hp : g_pn g = -1
  · rw [if_pos (by rw [n2]; exact hp)]
    have ht : w_told (g_it g).length (g_pn g) (g_ln g) = g_ln g := by unfold w_told; rw [if_pos hp]
    refine ⟨x, Or.inr ⟨rfl, hov, hal, o2, ⟨h29, h30, o4, b1, b2, b3, b4⟩, o6, o7, o8_, ?_⟩, yfr.rf _ _ _, ⟨rfl, rfl, rfl, rfl, rfl, rfl, rfl, rfl⟩, Int32.le_refl _, fun z => absurd (n2.trans hp) z, t, n6, by omega⟩
    rw [ht]
    exact ⟨n1, n2.trans hp, n3, n4, n5, t, n6, by omega⟩
  · rw [if_neg (by rw [n2]; exact hp), e1, nI_clamp (by omega), mj_g_k (mj_in_nI (by omega) (by omega)), e5]
    -- from the place on where the new line is written, behind the lines l0
    have at68 : ∀ (l0 : List (Nat × Int32)) (y : mj_X), w_told (g_it g).length (g_pn g) (g_ln g) = ((g_it g).length, g_pn g) :: l0 → (y = x ∨ y = mj_wI x 0 46 (nI (p_lf P + l0.length))) → y.1 0 46 = nI (p_lf P + l0.length) → p_lf P + l0.length ≤ 20000 → (∀ e, e ∈ l0 → e ∈ g_ln g) → z_l1 (fun k e => x.1 24 (2 * (p_lf P + k)) = nI (w_at (p_w P) (g_it g) e.1) ∧ x.1 24 (2 * (p_lf P + k) + 1) = e.2) l0 →
        ∃ z, ((rX0_code d (68, [some (.ref 0), some (.int cc)], [], y) = some (none, z) ∧ z.1 0 29 = 1 ∧ 20000 < p_lf P + (w_told (g_it g).length (g_pn g) (g_ln g)).length) ∨ (rX0_code d (68, [some (.ref 0), some (.int cc)], [], y) = rX0_code d (141, [some (.ref 0), some (.int cc)], [], z) ∧ yI P X lm lv (w_by_ (p_w P) w_z (g_it g)) (w_fxs (p_w P) w_z (g_it g)) z g))
    ∧ yfr (yw (p_pf P) (p_lf P)) (p_pf P) x z ∧ (z.1 0 30 = x.1 0 30 ∧ z.1 0 31 = x.1 0 31 ∧ z.1 0 28 = x.1 0 28 ∧ z.1 0 43 = x.1 0 43 ∧ z.1 0 37 = x.1 0 37 ∧ z.1 0 38 = x.1 0 38 ∧ z.1 36 = x.1 36 ∧ z.1 37 = x.1 37) ∧ x.1 0 48 ≤ z.1 0 48 ∧ (¬ x.1 0 47 = -1 → z.1 0 29 = 0 → x.1 0 48 < z.1 0 48) ∧ ∃ t, z.1 0 48 = nI t ∧ t ≤ p_tb P + (g_it g).length + 1 := by
      intro l0 y ht hy h46 hb hin hz
      have fy : yfr (yw (p_pf P) (p_lf P)) (p_pf P) x y := by
        rcases hy with rfl | rfl
        · exact yfr.rf _ _ _
        · exact (yfr.rf _ _ _).w _ rfl
      have ey : ∀ j, j ≠ 46 → y.1 0 j = x.1 0 j := by
        intro j hj
        rcases hy with rfl | rfl
        · rfl
        · rw [mj_wI_1, if_pos rfl, if_neg hj]
      have ey2 : ∀ k, k ≠ 0 → y.1 k = x.1 k := by
        intro k hk
        rcases hy with rfl | rfl
        · rfl
        · funext j; rw [mj_wI_1, if_neg hk]
      have ey3 : y.2 = x.2 := by
        rcases hy with rfl | rfl
        · rfl
        · rfl
      rw [bX0_code_68, h46]
      by_cases q : p_lf P + l0.length = 20000
      · rw [if_pos (show nI (p_lf P + l0.length) = 20000 by rw [q]; rfl)]
        refine ⟨_, Or.inl ⟨rfl, rfl, by rw [ht]; simp only [List.length_cons]; omega⟩, fy.w _ rfl, ⟨ey 30 (by decide), ey 31 (by decide), ey 28 (by decide), ey 43 (by decide), ey 37 (by decide), ey 38 (by decide), ey2 36 (by decide), ey2 37 (by decide)⟩, ?_, fun _ z => absurd z (by show ¬ (1 : Int32) = 0; decide), t, (ey 48 (by decide)).trans n6, by omega⟩
        show x.1 0 48 ≤ y.1 0 48
        rw [ey 48 (by decide)]; exact Int32.le_refl _
      · rw [if_neg (show ¬ nI (p_lf P + l0.length) = 20000 from fun z => q ((nI_eq (b := 20000) (by omega) (by omega)).mp z)), show (2 : Int32) * nI (p_lf P + l0.length) = nI (2 * (p_lf P + l0.length)) from nI_mul 2 _, nI_1, mj_g_k (mj_in_nI (by omega) (by omega)), mj_g_k (mj_in_nI (by omega) (by omega)), nI_clamp (by omega), nI_clamp (by omega), nI_1, ey 28 (by decide), ey 47 (by decide), ey 48 (by decide), n6, nI_1]
        refine ⟨_, Or.inr ⟨rfl, ?_⟩, ((((fy.w _ (by show Nat.ble (2 * p_lf P) _ = true; exact Nat.ble_eq_true_of_le (by omega))).w _ (by show Nat.ble (2 * p_lf P) _ = true; exact Nat.ble_eq_true_of_le (by omega))).w _ rfl).w _ rfl).w _ rfl, ⟨ey 30 (by decide), ey 31 (by decide), ey 28 (by decide), ey 43 (by decide), ey 37 (by decide), ey 38 (by decide), ey2 36 (by decide), ey2 37 (by decide)⟩, ?_, fun _ _ => ?_, t + 1, rfl, by omega⟩
        · refine ⟨hov, hal, o2, ⟨(ey 29 (by decide)).trans h29, (ey 30 (by decide)).trans h30, (ey 31 (by decide)).trans o4, (ey 28 (by decide)).trans b1, b2, b3, ?_⟩, ?_, ?_, ?_, ?_⟩
          · show z_ar (y.1 28) 0 _; rw [ey2 28 (by decide)]; exact b4
          · unfold yF at *
            show y.1 0 42 = _ ∧ _ ∧ _ ∧ z_l1 (fun k q => y.1 40 k = _ ∧ y.1 41 k = _ ∧ y.1 42 k = _) _
            rw [ey 42 (by decide), ey2 40 (by decide), ey2 41 (by decide), ey2 42 (by decide)]; exact o6
          · unfold yV at *
            show (∀ l, l < g_nl g → lv l = true → y.1 36 (lm l) = _ ∧ y.1 37 (lm l) = _) ∧ _ ∧ _ ∧ ∀ p, p ∈ X → p.2 = true → y.1 36 p.1 = -1
            rw [ey2 36 (by decide), ey2 37 (by decide)]; exact o7
          · obtain ⟨p1, p2, p3, p4⟩ := o8_
            refine ⟨(ey 43 (by decide)).trans p1, (ey 44 (by decide)).trans p2, p3, ?_⟩
            have key : ∀ l : List (Nat × Int64), y_po (p_pf P) x l → ∀ z : mj_X, z.1 18 = x.1 18 → z.1 19 = x.1 19 → z.2 = x.2 → y_po (p_pf P) z l := by
              intro l
              induction l with
              | nil => intro _ _ _ _ _; trivial
              | cons a r ih => intro h z z1 z2 z3; refine ⟨?_, ih h.2 z z1 z2 z3⟩; rw [z1, z2, z3]; exact h.1
            exact key _ p4 _ (ey2 18 (by decide)) (ey2 19 (by decide)) ey3
          · rw [ht]
            refine ⟨rfl, rfl, by simp only [List.length_cons]; omega, fun e he => ?_, ⟨⟨?_, ?_⟩, ?_⟩, t + 1, rfl, by omega⟩
            · rcases List.mem_cons.mp he with rfl | he
              · exact Nat.le_refl _
              · exact n4 e (hin e he)
            · show upd (upd (y.1 24) (2 * (p_lf P + l0.length)) (x.1 0 28)) (2 * (p_lf P + l0.length) + 1) (x.1 0 47) (2 * (p_lf P + l0.length)) = _
              rw [pk_un (by omega), pk_us, b1, w_at_len]
            · show upd (upd (y.1 24) (2 * (p_lf P + l0.length)) (x.1 0 28)) (2 * (p_lf P + l0.length) + 1) (x.1 0 47) (2 * (p_lf P + l0.length) + 1) = _
              rw [pk_us, n2]
            · refine hz.mono (fun k e hk _ hh => ?_)
              show upd (upd (y.1 24) (2 * (p_lf P + l0.length)) (x.1 0 28)) (2 * (p_lf P + l0.length) + 1) (x.1 0 47) (2 * (p_lf P + k)) = _ ∧ upd (upd (y.1 24) (2 * (p_lf P + l0.length)) (x.1 0 28)) (2 * (p_lf P + l0.length) + 1) (x.1 0 47) (2 * (p_lf P + k) + 1) = _
              rw [pk_un (by omega), pk_un (by omega), pk_un (by omega), pk_un (by omega), ey2 24 (by decide)]; exact hh
        · show nI t ≤ nI (t + 1)
          exact nI_le (by omega) (by omega)
        · show nI t < nI (t + 1)
          exact nI_lt (by omega) (by omega)
    have told : w_told (g_it g).length (g_pn g) (g_ln g) = (match g_ln g with | [] => [((g_it g).length, g_pn g)] | e :: r => if e.1 = (g_it g).length then ((g_it g).length, g_pn g) :: r else ((g_it g).length, g_pn g) :: e :: r) := by
      unfold w_told; rw [if_neg hp]
      generalize g_ln g = l
      cases l <;> rfl
    cases hln : g_ln g with
    | nil =>
      rw [hln] at told n1 at68
      rw [if_pos (by rw [n1]; exact Int32.le_refl _)]
      exact at68 [] x told (Or.inl rfl) n1 (by simp only [List.length_nil]; omega) (fun e he => by cases he) trivial
    | cons e r =>
      rw [hln] at told n1 n3 n4 n5 at68
      simp only [List.length_cons] at n1 n3
      have n1' : x.1 0 46 = nI (p_lf P + r.length + 1) := n1
      rw [if_neg (by rw [n1']; exact nI_ge (by omega) (by omega)), n1']
      rw [show (2 : Int32) * nI (p_lf P + r.length + 1) - 2 = nI (2 * (p_lf P + r.length)) by
        rw [show (2 : Int32) * nI (p_lf P + r.length + 1) = nI (2 * (p_lf P + r.length + 1)) from nI_mul 2 _, show 2 * (p_lf P + r.length + 1) = 2 * (p_lf P + r.length) + 2 by omega, ← nI_add]
        exact Int32.add_sub_cancel _ _]
      rw [nI_clamp (by omega), mj_g_k (mj_in_nI (by omega) (by omega)), n5.1.1, b1]
      rw [b1] at at68
      by_cases q : e.1 = (g_it g).length
      · rw [if_pos (by rw [q, w_at_len])]
        rw [show nI (p_lf P + r.length + 1) - 1 = nI (p_lf P + r.length) from nI_pred _]
        exact at68 r _ (by rw [told]; simp only [if_pos q]) (Or.inr rfl) rfl (by omega) (fun a ha => List.mem_cons_of_mem _ ha) n5.2
      · rw [if_neg (fun he => q (by
          have h0 := n4 e (by simp)
          have hlt := w_at_lt (p_w P) (g_it g) (j := e.1) (k := (g_it g).length) (by omega) (Nat.le_refl _)
          rw [w_at_len] at hlt
          have := (nI_eq (by omega) (by omega)).mp he
          omega))]
        exact at68 (e :: r) x (by rw [told]; simp only [if_neg q]) (Or.inl rfl) n1 (by simp only [List.length_cons]; omega) (fun a ha => ha) n5
theorem yL.fr {nl u : Nat} (a : yL X nl lm lv x u) (h1 : y.1 0 37 = x.1 0 37) (h2 : y.1 0 38 = x.1 0 38) (h3 : y.1 36 = x.1 36) (h4 : y.1 37 = x.1 37) : yL X nl lm lv y u := by
  unfold yL at *; rw [h1, h2, h3, h4]; exact a
/-- an item that is no jump -/
def w_in1 (w : Bool) (i : wI) (cc : Int32) (bs : List Int32) : Prop := (∀ p, w_enc w w_z p i = o8 cc :: bs) ∧ ∀ p r, w_fx w p i r = r
theorem c_it {d : Nat} (hd : 2 ≤ d) {i : wI} {F : wF} {cc : Int32} {bs : List Int32} {k : mj_X → mj_R} (a : Y1 nt N P X b lm lv x g) (hi : w_in1 (p_w P) i cc bs) (hk : EK (p_w P) (p_M P) (p_cf P) bs k) :
    ∃ x', mj_rV (kX0 d 37 [.ref 0, .int cc] x) k = some (none, x') ∧ Y1 nt N P X b lm lv x' (w_es i F g) ∧ yfr (yw (p_pf P) (p_lf P)) (p_pf P) x x' ∧ (x'.1 0 29 = 0 → x.1 0 29 = 0 ∧ yT x g x' (w_es i F g)) := by
  obtain ⟨d, rfl⟩ : ∃ c, d = c + 1 := ⟨d - 1, by omega⟩
  by_cases hl : yq x
  · have e1 : kX0 (d + 1) 37 [.ref 0, .int cc] x = some (none, x) := by
      have e2 : rX0_code d (141, [some (.ref 0), some (.int cc)], [], x) = some (none, x) := by
        rw [bX0_code_141, e38 (d := d) (by omega) cc x hl, mj_rV_k]
      rw [eX0_code]
      rcases hl with h | h
      · rw [if_pos h]; exact e2
      · rw [if_neg h]; split <;> exact e2
    rw [e1, mj_rV_k, hk.1 x hl]
    by_cases h0 : x.1 0 29 = 0
    · obtain ⟨-, -, hq⟩ := a.dead hl h0
      rw [w_es_q hq]
      exact ⟨x, rfl, a, yfr.rf _ _ _, fun z => ⟨z, yT.rf rfl rfl rfl⟩⟩
    · obtain ⟨m1, m2, m3⟩ := a.mc h0
      refine ⟨x, rfl, ⟨?_, a.2.1, a.2.2.1, Or.inr ⟨m1, ?_, m3.mono ((wM.rf g).es i F)⟩⟩, yfr.rf _ _ _, fun z => absurd z h0⟩
      · have : g_pl (w_es i F g) = g_pl g := by unfold w_es; cases w_q g <;> rfl
        rw [this]; exact a.1
      · have : g_nl (w_es i F g) = g_nl g := by unfold w_es; cases w_q g <;> rfl
        rw [this]; exact m2
  · obtain ⟨h29, h30, hq⟩ := a.live hl
    obtain ⟨k1, k2, k3, k4, k5, k6, k7, k8, k9, k10, k11, k12, k13⟩ := w_es_f (i := i) (F := F) hq
    have knl : g_nl (w_es i F g) = g_nl g := congrArg Prod.fst k11
    have kus : g_us (w_es i F g) = g_us g := congrArg (fun z => z.2.2.2.2.1) k11
    obtain ⟨hL, o1, o2, o3, o4, ⟨b1, b2, b3, b4⟩, o6, o7, o8_, o9⟩ := a.ex h29
    have hpo := o8_.1
    have hpl := o8_.2.2.1
    have e6 := a.1.2.2.2.2.2.1
    have hby : w_by_ (p_w P) w_z ((i, (g_L g, g_st g)) :: g_it g) = w_by_ (p_w P) w_z (g_it g) ++ ([o8 cc] ++ bs) := by
      show w_by_ (p_w P) w_z (g_it g) ++ w_enc (p_w P) w_z _ i = _
      rw [hi.1]; rfl
    have hfx : w_fxs (p_w P) w_z ((i, (g_L g, g_st g)) :: g_it g) = w_fxs (p_w P) w_z (g_it g) := hi.2 _ _
    obtain ⟨y, hy, fy, ⟨y30, y31, y28, y43, y37, y38, yy36, yy37⟩, t1, t2, t, t3, t4⟩ := c_line (d := d) (cc := cc) a hl
    have its65 : (g_it g).length ≤ 65535 := by
      have : ∀ l : List (wI × wF), l.length ≤ (w_by_ (p_w P) w_z l).length := by
        intro l
        induction l with
        | nil => exact Nat.zero_le _
        | cons i r ih =>
          show r.length + 1 ≤ (w_by_ (p_w P) w_z r ++ w_enc (p_w P) w_z (w_by_ (p_w P) w_z r).length i.1).length
          rw [List.length_append]
          have := w_enc_pos (p_w P) w_z (w_by_ (p_w P) w_z r).length i.1
          omega
      have := this (g_it g); omega
    -- it becomes much
    have much : ∀ z : mj_X, yfr (yw (p_pf P) (p_lf P)) (p_pf P) x z → z.1 0 29 = 1 → z.1 0 30 = x.1 0 30 → z.1 0 31 = x.1 0 31 → z.1 0 43 = x.1 0 43 → z.1 0 37 = x.1 0 37 → z.1 0 38 = x.1 0 38 → z.1 36 = x.1 36 → z.1 37 = x.1 37 → (∃ n, n ≤ 65535 ∧ z.1 0 28 = nI n) → z.1 0 48 = y.1 0 48 → c_over P (w_es i F g) → Y1 nt N P X b lm lv z (w_es i F g) := by
      intro z fz z29 z30 z31 z43 z37 z38 z36 zz37 z28 z48 ho
      refine ⟨by rw [k13]; exact a.1.fr fz, a.2.1, a.2.2.1, Or.inr ⟨⟨z29, ⟨true, z30.trans h30⟩, z31.trans o4, ⟨_, Nat.le_add_right _ _, by omega, z43.trans hpo⟩, z28, t, z48.trans t3, by omega⟩, ?_, ho⟩⟩
      rw [knl]
      exact (hL.fr z37 z38 z36 zz37).mono (by have := a.2.1; omega)
    rcases hy with ⟨r1, r2, r3⟩ | ⟨r1, r2⟩
    · rw [r1, mj_rV_k, hk.1 y (Or.inr (by rw [r2]; decide))]
      refine ⟨y, rfl, much y fy r2 y30 y31 y43 y37 y38 yy36 yy37 ⟨_, b2, y28.trans b1⟩ rfl ?_, fy, fun z => absurd z (by rw [r2]; decide)⟩
      left; right; right; right
      rw [k7]; exact r3
    · rw [r1, bX0_code_141]
      have EKc := (((EK.emit (w := p_w P) (M := p_M P) (cf := p_cf P) (d := d) (by omega) cc).seq (EK.id_ _ _ _)).seq hk)
      have hE : eE (p_M P) (p_cf P) y := (a.1.fr fy).2.1
      obtain ⟨z, z1, zm⟩ := EKc.2 y _ hE r2.2.2.2.1
      rw [show mj_rV (mj_rV (kX0 d 38 [.ref 0, .int cc] y) fun x1 => some (none, x1)) k = some (none, z) from z1]
      have fz := fy.tr (yb_yw (pf := p_pf P) (lf := p_lf P) zm.1 zm.2.1)
      have ez := zm.1.1
      refine ⟨z, rfl, ?_, fz, fun h0 => ⟨h29, Or.inr ⟨by rw [k1]; simp only [List.length_cons]; omega, by rw [ez 0 48 rfl]; exact t1, fun q => by rw [ez 0 48 rfl]; exact t2 q r2.2.2.2.1.1⟩⟩⟩
      rcases r2.em zm with m | ⟨m1, m2, m3⟩
      · rw [List.append_nil] at m
        rw [← hby, ← hfx] at m
        have hz29 : z.1 0 29 = 0 := m.2.2.2.1.1
        refine ⟨by rw [k13]; exact a.1.fr fz, a.2.1, a.2.2.1, Or.inl ⟨hz29, ?_, m.fin hq⟩⟩
        rw [knl, kus]
        exact hL.fr ((ez 0 37 rfl).trans y37) ((ez 0 38 rfl).trans y38) ((funext fun j => ez 36 j rfl : z.1 36 = y.1 36).trans yy36) ((funext fun j => ez 37 j rfl : z.1 37 = y.1 37).trans yy37)
      · rw [List.append_nil, ← hby] at m2
        refine much z fz m1 ((ez 0 30 rfl).trans y30) ((ez 0 31 rfl).trans y31) ((ez 0 43 rfl).trans y43) ((ez 0 37 rfl).trans y37) ((ez 0 38 rfl).trans y38) ((funext fun j => ez 36 j rfl : z.1 36 = y.1 36).trans yy36) ((funext fun j => ez 37 j rfl : z.1 37 = y.1 37).trans yy37) m3 (ez 0 48 rfl) ?_
        rcases m2 with m2 | m2
        · left; right; left; rw [k1]; exact m2
        · right; rw [k1]; exact m2
end
