/-! CodeWriter: pieces become ranges, and are forgotten -/
theorem y_own_app {v : Int32} {A B : List (Int32 × Nat × Nat)} : y_own v (A ++ B) = y_own v A ++ y_own v B := by
  unfold y_own; rw [List.filter_append, List.map_append]
theorem concat_of {α : Type} {A : List α} {n : Nat} (h : A.length = n + 1) : ∃ A' e, A = A' ++ [e] ∧ A'.length = n := by
  rcases List.eq_nil_or_concat A with rfl | ⟨A', e, rfl⟩
  · simp at h
  · exact ⟨A', e, by rw [List.concat_eq_append], by simpa using h⟩
theorem z_l1_app {α : Type} {f : Nat → α → Prop} : ∀ {A B : List α}, z_l1 f (A ++ B) → z_l1 f B := by
  intro A
  induction A with
  | nil => intro B h; exact h
  | cons a r ih => intro B h; exact ih h.2
section
variable {nt : sp_NT} {N : Nat} {P : yP} {hp : Nat} {H V : List wSl} {O : List (Int32 × List (Nat × Nat))} {K u sb : Nat} {C : Nat → Prop} {o : Option Int32} {lm lm' : Nat → Nat} {lv lv' ct ct' : Nat → Bool} {x y : mj_X} {g G : wG}
theorem n20 {a : Nat} (ha : a < 20000) (r : mj_R) : mj_g (nI a) 20000 r = r := mj_g_k (mj_in_nI ha (by omega)) r
/-- are there pieces: a loop -/
theorem e_has {d n : Nat} (v : Int32) (hn : n ≤ 20000) (h : x.1 0 65 = nI n) : ∀ j i, i + j = n → ∃ r : Bool, rX0_hasPieces d (2, [some (.ref 0), some (.int v), some (.int (nI i))], [], x) = some (some (.int (sp_b r)), x) ∧ (r = true ↔ ∃ k, i ≤ k ∧ k < n ∧ x.1 63 k = v) := by
  intro j
  induction j with
  | zero =>
    intro i hi
    refine ⟨false, ?_, ⟨fun z => (by cases z), fun ⟨k, k1, k2, _⟩ => (by omega)⟩⟩
    rw [bX0_hasPieces_2, h, if_pos (nI_le (by omega) (by omega))]; rfl
  | succ j ih =>
    intro i hi
    rw [bX0_hasPieces_2, h, if_neg (nI_ge (by omega) (by omega)), n20 (by omega), nI_clamp (by omega)]
    by_cases q : x.1 63 i = v
    · rw [if_pos q]
      exact ⟨true, rfl, ⟨fun _ => ⟨i, Nat.le_refl _, by omega, q⟩, fun _ => rfl⟩⟩
    · rw [if_neg q, show nI i + (1 : Int32) = nI (i + 1) from nI_add i 1]
      obtain ⟨r, e, hr⟩ := ih (i + 1) (by omega)
      refine ⟨r, e, hr.trans ⟨fun ⟨k, k1, k2, k3⟩ => ⟨k, by omega, k2, k3⟩, fun ⟨k, k1, k2, k3⟩ => ⟨k, ?_, k2, k3⟩⟩⟩
      rcases Nat.eq_or_lt_of_le k1 with z | z
      · exact absurd (z ▸ k3) q
      · omega
theorem own_iff {v : Int32} {f : Nat → Int32 × Nat × Nat → Prop} (hf : ∀ k e, f k e → x.1 63 k = e.1) : ∀ {L : List (Int32 × Nat × Nat)}, z_l1 f L → ((∃ k, 0 ≤ k ∧ k < L.length ∧ x.1 63 k = v) ↔ y_own v L ≠ []) := by
  intro L
  induction L with
  | nil => intro _; exact ⟨fun ⟨k, _, k2, _⟩ => by simp at k2, fun z => absurd rfl z⟩
  | cons e r ih =>
    intro h
    have ih := ih h.2
    have he := hf _ _ h.1
    by_cases q : e.1 = v
    · obtain ⟨e1, e2⟩ := e
      have q : e1 = v := q
      subst q
      rw [y_own_eq]
      exact ⟨fun _ => by simp, fun _ => ⟨r.length, Nat.zero_le _, by simp, he⟩⟩
    · obtain ⟨e1, e2⟩ := e
      rw [y_own_ne q, ← ih]
      constructor
      · rintro ⟨k, k1, k2, k3⟩
        refine ⟨k, k1, ?_, k3⟩
        have : k ≠ r.length := fun z => q (by rw [z, he] at k3; exact k3)
        simp only [List.length_cons] at k2; omega
      · rintro ⟨k, k1, k2, k3⟩
        exact ⟨k, k1, by simp only [List.length_cons]; omega, k3⟩
theorem Y2.n65 (h : Y2 nt N P hp H O K u sb C o V lm lv ct x g) : ∃ n, n ≤ 20000 ∧ x.1 0 65 = nI n := h.2.1.2.2.2.2.2.2.2.2.1
theorem Y2.has {d : Nat} {v : Int32} {ps : List (Nat × Nat)} (hd : 1 ≤ d) (h : Y2 nt N P hp H ((v, ps) :: O) K u sb C o V lm lv ct x g) : ∃ r : Bool, kX0 d 88 [.ref 0, .int v] x = some (some (.int (sp_b r)), x) ∧ (x.1 0 29 = 0 → r = !ps.isEmpty) := by
  obtain ⟨d, rfl⟩ : ∃ e, d = e + 1 := ⟨d - 1, by omega⟩
  obtain ⟨n, hn, h65⟩ := h.n65
  obtain ⟨r, e, hr⟩ := e_has (d := d) v hn h65 n 0 (by omega)
  rw [eX0_hasPieces]
  refine ⟨r, e, fun h0 => ?_⟩
  obtain ⟨-, -, -, -, -, -, -, L, t, q1, q2, q3, q4, q5, q6, q7, q8, q9, -⟩ := h.ex h0
  have hnL : n = L.length := (nI_eq (by omega) (by omega)).mp (h65.symm.trans q3)
  subst hnL
  have := hr.trans (own_iff (fun k e h => h.1) q6)
  have hps : ps = y_own v L := (q9 (v, ps) (by simp)).2
  rw [← hps] at this
  cases ps with
  | nil =>
    cases r with
    | false => rfl
    | true => exact absurd rfl (this.mp rfl)
  | cons p q =>
    cases r with
    | false => exact absurd (this.mpr (by simp)) (by decide)
    | true => rfl
/-- what is written when pieces are forgotten -/
def yg (k j : Nat) : Bool := match k with
  | 0 => [65].elem j
  | 63 => true
  | 64 => true
  | 65 => true
  | _ => false
theorem yvog : yvo yg := yvo_of (elem_12 (Z := yg 0) rfl rfl rfl rfl rfl rfl rfl rfl rfl rfl rfl rfl) (fun _ => rfl) (fun _ => rfl) (fun _ => rfl) (fun _ => rfl) (fun _ => rfl) (fun _ => rfl) (fun _ => rfl) (fun _ => rfl) (fun _ => rfl)
theorem yg_w {P : yP} {K : Nat} {x y : mj_X} (f : yfr yg (p_pf P) x y) : yfr (yw2 P K) (p_pf P) x y := f.mono (fun k j h => by
  obtain ⟨h1, h2⟩ := Bool.or_eq_false_iff.mp h
  unfold yg
  split
  · simp at h2 ⊢; omega
  · exfalso; simp at h2
  · exfalso; simp at h2
  · exfalso; simp at h2
  · rfl)
/-- the loop: A is still to come, B was read, of which W is kept -/
theorem e_forget {d pf : Nat} (v : Int32) {f : Nat → Int32 × Nat × Nat → Prop} {n : Nat} (hn : n ≤ 20000) {F1 F2 : Nat × Nat → Int32} (hf : ∀ (k : Nat) (e : Int32 × Nat × Nat), f k e ↔ (x.1 63 k = e.1 ∧ x.1 64 k = F1 e.2 ∧ x.1 65 k = F2 e.2)) : ∀ (m : Nat) (A B : List (Int32 × Nat × Nat)) (z : mj_X), A.length = m → m + B.length = n → z_l1 f (A ++ B) → yfr yg pf x z → z.2 = x.2 → z.1 0 65 = nI n → (∀ k, B.length ≤ k → z.1 63 k = x.1 63 k ∧ z.1 64 k = x.1 64 k ∧ z.1 65 k = x.1 65 k) → z_l1 (fun k e => z.1 63 k = e.1 ∧ z.1 64 k = F1 e.2 ∧ z.1 65 k = F2 e.2) (B.filter (fun e => !decide (e.1 = v))) →
    ∃ y, rX0_forget d (4, [some (.ref 0), some (.int v), some (.int (nI (B.filter (fun e => !decide (e.1 = v))).length)), some (.int (nI B.length))], [], z) = some (none, y) ∧ yfr yg pf x y ∧ y.2 = x.2 ∧ y.1 0 65 = nI ((A ++ B).filter (fun e => !decide (e.1 = v))).length ∧ z_l1 (fun k e => y.1 63 k = e.1 ∧ y.1 64 k = F1 e.2 ∧ y.1 65 k = F2 e.2) ((A ++ B).filter (fun e => !decide (e.1 = v))) := by
  intro m
  induction m with
  | zero =>
    intro A B z hA hm hL fz z2 z65 hk hW
    have hA : A = [] := List.length_eq_zero_iff.mp hA
    subst hA
    have hB : B.length = n := by omega
    rw [bX0_forget_4, z65, if_pos (by rw [hB]; exact Int32.le_refl _)]
    exact ⟨_, rfl, fz.w _ rfl, z2, rfl, hW⟩
  | succ m ih =>
    intro A B z hA hm hL fz z2 z65 hk hW
    obtain ⟨A', e, rfl, hA'⟩ := concat_of hA
    have hL2 : z_l1 f (e :: B) := z_l1_app (A := A') (by rw [List.append_assoc] at hL; exact hL)
    have he := (hf _ _).mp hL2.1
    have hwB : (B.filter (fun e => !decide (e.1 = v))).length ≤ B.length := List.length_filter_le _ _
    rw [bX0_forget_4, z65, if_neg (nI_ge (by omega) (by omega)), n20 (by omega), nI_clamp (by omega), (hk _ (Nat.le_refl _)).1, he.1]
    have ea : A' ++ [e] ++ B = A' ++ e :: B := by rw [List.append_assoc]; rfl
    rw [ea] at hL ⊢
    by_cases q : e.1 = v
    · rw [if_pos q, show nI B.length + (1 : Int32) = nI (e :: B).length from nI_add _ 1]
      have eB : (e :: B).filter (fun e => !decide (e.1 = v)) = B.filter (fun e => !decide (e.1 = v)) := by rw [List.filter_cons, if_neg (by simp [q])]
      have := ih A' (e :: B) z hA' (by simp only [List.length_cons]; omega) hL fz z2 z65 (fun k hk' => hk k (by simp only [List.length_cons] at hk'; omega)) (by rw [eB]; exact hW)
      rw [eB] at this; exact this
    · have eB : (e :: B).filter (fun e => !decide (e.1 = v)) = e :: B.filter (fun e => !decide (e.1 = v)) := by rw [List.filter_cons, if_pos (by simp [q])]
      have kw : ∀ r : mj_R, mj_g (nI (B.filter (fun e => !decide (e.1 = v))).length) 20000 r = r := fun r => n20 (by omega) r
      rw [if_neg q, n20 (by omega), kw, n20 (by omega), kw, n20 (by omega), kw, nI_clamp (show (B.filter (fun e => !decide (e.1 = v))).length < 2147483648 by omega), (hk _ (Nat.le_refl _)).2.1, (hk _ (Nat.le_refl _)).2.2, he.2.1, he.2.2]
      rw [show nI B.length + (1 : Int32) = nI (e :: B).length from nI_add _ 1, show nI (B.filter (fun e => !decide (e.1 = v))).length + (1 : Int32) = nI (e :: B.filter (fun e => !decide (e.1 = v))).length from nI_add _ 1]
      have := ih A' (e :: B) (mj_wI (mj_wI (mj_wI z 63 (B.filter (fun e => !decide (e.1 = v))).length e.1) 64 (B.filter (fun e => !decide (e.1 = v))).length (F1 e.2)) 65 (B.filter (fun e => !decide (e.1 = v))).length (F2 e.2)) hA' (by simp only [List.length_cons]; omega) hL (((fz.w _ rfl).w _ rfl).w _ rfl) z2 z65 (fun k hk' => ?_) ?_
      · rw [eB] at this; exact this
      · simp only [List.length_cons] at hk'
        show upd (z.1 63) _ _ k = _ ∧ upd (z.1 64) _ _ k = _ ∧ upd (z.1 65) _ _ k = _
        rw [pk_un (by omega), pk_un (by omega), pk_un (by omega)]
        exact hk k (by omega)
      · rw [eB]
        refine ⟨⟨?_, ?_, ?_⟩, hW.mono (fun k e' hk' _ a => ?_)⟩
        · show upd (z.1 63) _ _ _ = _; rw [pk_us]
        · show upd (z.1 64) _ _ _ = _; rw [pk_us]
        · show upd (z.1 65) _ _ _ = _; rw [pk_us]
        · show upd (z.1 63) _ _ k = _ ∧ upd (z.1 64) _ _ k = _ ∧ upd (z.1 65) _ _ k = _
          rw [pk_un (by omega), pk_un (by omega), pk_un (by omega)]; exact a
theorem y_own_f {v w : Int32} (h : w ≠ v) (L : List (Int32 × Nat × Nat)) : y_own w (L.filter (fun e => !decide (e.1 = v))) = y_own w L := by
  induction L with
  | nil => rfl
  | cons e r ih =>
    obtain ⟨e1, e2⟩ := e
    by_cases q : e1 = v
    · rw [List.filter_cons, if_neg (by simp [q]), ih, y_own_ne (by rw [q]; exact fun z => h z.symm)]
    · rw [List.filter_cons, if_pos (by simp [q])]
      by_cases q2 : e1 = w
      · rw [q2, y_own_eq, y_own_eq, ih]
      · rw [y_own_ne q2, y_own_ne q2, ih]
theorem own_len (v : Int32) (L : List (Int32 × Nat × Nat)) : (L.filter (fun e => !decide (e.1 = v))).length + (y_own v L).length = L.length := by
  induction L with
  | nil => rfl
  | cons e r ih =>
    obtain ⟨e1, e2⟩ := e
    by_cases q : e1 = v
    · subst q
      rw [List.filter_cons, if_neg (by simp), y_own_eq]
      simp only [List.length_cons]; omega
    · rw [List.filter_cons, if_pos (by simp [q]), y_own_ne q]
      simp only [List.length_cons]; omega
/-- an owner's pieces are forgotten -/
theorem Y2.forget {d : Nat} {v : Int32} {ps : List (Nat × Nat)} (hd : 1 ≤ d) (h : Y2 nt N P hp H ((v, ps) :: O) K u sb C o V lm lv ct x g) : ∃ y, kX0 d 92 [.ref 0, .int v] x = some (none, y) ∧ Y2 nt N P hp H O K u sb C o V lm lv ct y g ∧ yfr yg (p_pf P) x y ∧ y.2 = x.2 := by
  obtain ⟨d, rfl⟩ : ∃ e, d = e + 1 := ⟨d - 1, by omega⟩
  rw [eX0_forget]
  have fin : ∀ y : mj_X, yfr yg (p_pf P) x y → y.2 = x.2 → (∃ n, n ≤ 20000 ∧ y.1 0 65 = nI n) → (x.1 0 29 = 0 → yPc (p_w P) hp H V O y g) → Y2 nt N P hp H O K u sb C o V lm lv ct y g := by
    intro y f h2 h65 hpc
    have e0 := yV0.of f yvog h2
    have e := f.1
    have E : ∀ a, (∀ j, yg a j = false) → y.1 a = x.1 a := fun a ha => funext fun j => e a j (ha j)
    obtain ⟨he, ⟨s1, s2, s3, s4, s5, s6, s7, s8, s9, s10, s11, s12, s13⟩, hC, hX⟩ := h
    refine ⟨he.fr2 (yg_w (K := K) f), ⟨s1, by rw [e 0 58 rfl]; exact s2, s3, s4, by rw [e 0 61 rfl]; exact s5, by rw [e 0 59 rfl]; exact s6, s7, by rw [E 50 (fun _ => rfl), E 51 (fun _ => rfl)]; exact s8, h65, by rw [e 0 45 rfl]; exact s10, by rw [E 21 (fun _ => rfl)]; exact s11, by rw [e 0 66 rfl, e 0 60 rfl]; exact s12, s13⟩, hC.eq (E 35 (fun _ => rfl)) (fun _ _ => ⟨rfl, rfl, rfl⟩) (Nat.le_refl _), ?_⟩
    rw [e 0 29 rfl]
    rcases hX with ⟨h0, h5, h6, h7, r1, r2, r3, r4, -⟩ | ⟨h0, m1, m2, m3⟩
    · refine Or.inl ⟨h0, by rw [E 35 (fun _ => rfl)]; exact h5, h6.v0 e0, h7.v0 e0, ?_, ?_, ?_, ?_, hpc h0⟩
      · unfold yNn at *; rw [e 0 32 rfl, e 0 33 rfl, e 0 60 rfl]; exact r1
      · rw [e 0 45 rfl, E 22 (fun _ => rfl)]; exact r2
      · rw [E 35 (fun _ => rfl)]; exact r3
      · unfold y_sb at *
        rw [E 53 (fun _ => rfl), E 54 (fun _ => rfl), E 55 (fun _ => rfl), E 56 (fun _ => rfl), E 57 (fun _ => rfl)]; exact r4
    · exact Or.inr ⟨h0, m1.v0 e0, m2.v0 e0, m3⟩
  by_cases h0 : x.1 0 29 = 0
  · obtain ⟨-, -, -, -, -, -, -, L, t, q1, q2, q3, q4, q5, q6, q7, q8, q9, q10, q11⟩ := h.ex h0
    obtain ⟨y, e1, f1, y2, y65, yl⟩ := e_forget (d := d) (pf := p_pf P) (x := x) v q4 (F1 := fun e => nI (w_at (p_w P) (g_it g) e.1)) (F2 := fun e => nI (w_at (p_w P) (g_it g) e.2)) (fun k e => Iff.rfl) L.length L [] x rfl (by simp) (by rw [List.append_nil]; exact q6) (yfr.rf _ _ _) rfl q3 (fun _ _ => ⟨rfl, rfl, rfl⟩) trivial
    rw [List.append_nil] at y65 yl
    have hps : ps = y_own v L := (q9 (v, ps) (by simp)).2
    have hlen := own_len v L
    rw [← hps] at hlen
    have hno : v ∉ O.map Prod.fst ++ (H ++ V).map (fun s => x.1 52 s.1) := (List.nodup_cons.mp q10).1
    have e := f1.1
    have E : ∀ a, (∀ j, yg a j = false) → y.1 a = x.1 a := fun a ha => funext fun j => e a j (ha j)
    refine ⟨y, e1, fin y f1 y2 ⟨_, by omega, y65⟩ (fun _ => ?_), f1, y2⟩
    refine ⟨L.filter (fun e => !decide (e.1 = v)), t, by rw [e 0 66 rfl]; exact q1, q2, y65, by omega, by omega, yl, fun p hp => q7 p (List.mem_filter.mp hp).1, fun s hs => ?_, fun p hp => ?_, ?_, fun s hs hs2 => ?_⟩
    · rw [E 52 (fun _ => rfl)]
      obtain ⟨c1, c2, c3⟩ := q8 s hs
      refine ⟨c1, ?_, c3⟩
      rw [y_own_f (fun z => hno (List.mem_append.mpr (Or.inr (List.mem_map.mpr ⟨s, hs, z⟩))))]; exact c2
    · obtain ⟨c1, c2⟩ := q9 p (List.mem_cons_of_mem _ hp)
      refine ⟨c1, ?_⟩
      rw [y_own_f (fun z => hno (List.mem_append.mpr (Or.inl (List.mem_map.mpr ⟨p, hp, z⟩))))]; exact c2
    · rw [E 52 (fun _ => rfl)]; exact (List.nodup_cons.mp q10).2
    · rw [E 58 (fun _ => rfl)]; exact q11 s hs hs2
  · -- it was much: the loop ends
    obtain ⟨n, hn, h65⟩ := h.n65
    have loop : ∀ (j i w : Nat) (z : mj_X), i + j = n → w ≤ i → yfr yg (p_pf P) x z → z.2 = x.2 → z.1 0 65 = nI n → ∃ y, rX0_forget d (4, [some (.ref 0), some (.int v), some (.int (nI w)), some (.int (nI i))], [], z) = some (none, y) ∧ yfr yg (p_pf P) x y ∧ y.2 = x.2 ∧ ∃ n', n' ≤ 20000 ∧ y.1 0 65 = nI n' := by
      intro j
      induction j with
      | zero =>
        intro i w z hi hw fz z2 z65
        rw [bX0_forget_4, z65, if_pos (nI_le (by omega) (by omega))]
        exact ⟨_, rfl, fz.w _ rfl, z2, w, by omega, rfl⟩
      | succ j ih =>
        intro i w z hi hw fz z2 z65
        rw [bX0_forget_4, z65, if_neg (nI_ge (by omega) (by omega)), n20 (by omega), nI_clamp (by omega)]
        split
        · rw [show nI i + (1 : Int32) = nI (i + 1) from nI_add i 1]
          exact ih (i + 1) w z (by omega) (by omega) fz z2 z65
        · rw [n20 (by omega), n20 (by omega), n20 (by omega), n20 (by omega), n20 (by omega), n20 (by omega), nI_clamp (by omega), show nI i + (1 : Int32) = nI (i + 1) from nI_add i 1, show nI w + (1 : Int32) = nI (w + 1) from nI_add w 1]
          exact ih (i + 1) (w + 1) _ (by omega) (by omega) (((fz.w _ rfl).w _ rfl).w _ rfl) z2 z65
    obtain ⟨y, e1, f1, y2, y65⟩ := loop n 0 0 x (by omega) (Nat.le_refl _) (yfr.rf _ _ _) rfl h65
    exact ⟨y, e1, fin y f1 y2 y65 (fun z => absurd z h0), f1, y2⟩
end
