/-! CodeWriter: statements: the context that is meant -/
section
variable {nt : sp_NT} {N M : Nat} {P : yP} {hp : Nat} {H V : List wSl} {O : List (Int32 × List (Nat × Nat))} {K u sb : Nat} {C : Nat → Prop} {o : Option Int32} {lm lm' lm1 : Nat → Nat} {lv lv' lv1 ct ct' : Nat → Bool} {x y x1 : mj_X} {g G : wG} {res par : Nat → Int32} {f : Nat} {n : Int32}
theorem Y2.sk (h : Y2 nt N P hp H O K u sb C o V lm lv ct x g) {s : wSl} (hs : s ∈ H ++ V) : x.1 50 s.1 = nI s.2.2.1 ∧ x.1 51 s.1 = s.2.1 ∧ s.2.2.1 ≤ 4 := (h.2.1.2.2.2.2.2.2.2.1 s hs).2
theorem k_target {d e : Nat} (hd : 1 ≤ d) (he : e < 2147483648) (lp : Bool) (h : Y2 nt N P hp H O K u sb C none V lm lv ct x g) (hk : w_tg lp e (g_cx g) < (g_cx g).length) :
    kX0 d 80 [.ref 0, .int (sp_b lp), .int (nI e)] x = some (some (.int (z_at V (w_tg lp e (g_cx g)))), x) := by
  obtain ⟨d, rfl⟩ : ∃ e, d = e + 1 := ⟨d - 1, by omega⟩
  have h58 := h.ch
  have s1 := h.2.1.1
  rw [eX0_target, show x.1 0 59 = z_at V 0 from h58.at0]
  rw [← s1] at hk ⊢
  have loop : ∀ (B : List wSl) (e : Nat) (hr : Int32) (kk : Nat) (a2 : Int32), e < 2147483648 → w_tg lp e (B.map (fun s => s.2.2)) < B.length → z_ch hr kk B → (∀ s, s ∈ B → s ∈ V) → rX0_target d (8, [some (.ref 0), some (.int (sp_b lp)), some (.int a2), some (.int (z_at B 0)), some (.int (nI e))], [], x) = some (some (.int (z_at B (w_tg lp e (B.map (fun s => s.2.2))))), x) := by
    intro B
    induction B with
    | nil => intro e hr kk a1 _ hl; exact absurd hl (by simp)
    | cons s r ih =>
      intro e hr kk a2 he hl hch hB
      have hs : s ∈ H ++ V := List.mem_append.mpr (Or.inr (hB s (by simp)))
      have hlt := h.low hs
      have hs2 : s.1 < 2000 := by omega
      obtain ⟨k1, k2, k3⟩ := h.sk hs
      have hr' : ∀ t, t ∈ r → t ∈ V := fun t ht => hB t (List.mem_cons_of_mem _ ht)
      have ez : z_at (s :: r) 0 = nI s.1 := rfl
      rw [bX0_target_8, ez, n2 hs2, nI_clamp (by omega), k1]
      have hit : (s.2.2.1 = 0 ∨ (s.2.2.1 = 1 ∧ lp = false)) → rX0_target d (31, [some (.ref 0), some (.int (sp_b lp)), some (.int a2), some (.int (nI s.1)), some (.int (nI e))], [], x) = some (some (.int (z_at (s :: r) (w_tg lp e ((s :: r).map (fun s => s.2.2))))), x) := by
        intro hq
        have hw : w_tg lp e ((s :: r).map (fun s => s.2.2)) = (match e with | 0 => 0 | e + 1 => 1 + w_tg lp e (r.map (fun s => s.2.2))) := by
          show w_tg lp e (s.2.2 :: r.map (fun s => s.2.2)) = _
          rw [w_tg_c, if_pos hq]
          cases e <;> rfl
        rw [hw] at hl ⊢
        rw [bX0_target_31]
        cases e with
        | zero => rw [if_pos (by rfl)]; rfl
        | succ e =>
          have hl : 1 + w_tg lp e (r.map (fun s => s.2.2)) < r.length + 1 := hl
          rw [if_neg (show ¬ nI (e + 1) = (0 : Int32) from fun q => by have := (nI_eq (b := 0) (by omega) (by omega)).mp q; omega), n2 hs2, nI_clamp (by omega), k2, nI_dec e, hch.2.2.at0, ih e s.2.1 s.1 a2 (by omega) (by omega) hch.2.2 hr']
          show _ = some (some (Value.int (z_at (s :: r) (1 + w_tg lp e (r.map (fun s => s.2.2))))), x)
          rw [Nat.add_comm 1, z_at_s]
      have miss : ¬ (s.2.2.1 = 0 ∨ (s.2.2.1 = 1 ∧ lp = false)) → rX0_target d (8, [some (.ref 0), some (.int (sp_b lp)), some (.int a2), some (.int s.2.1), some (.int (nI e))], [], x) = some (some (.int (z_at (s :: r) (w_tg lp e ((s :: r).map (fun s => s.2.2))))), x) := by
        intro hq
        have hw : w_tg lp e ((s :: r).map (fun s => s.2.2)) = 1 + w_tg lp e (r.map (fun s => s.2.2)) := by
          show w_tg lp e (s.2.2 :: r.map (fun s => s.2.2)) = _
          rw [w_tg_c, if_neg hq]
        rw [hw] at hl ⊢
        have hl : 1 + w_tg lp e (r.map (fun s => s.2.2)) < r.length + 1 := hl
        rw [hch.2.2.at0, ih e s.2.1 s.1 a2 he (by omega) hch.2.2 hr', Nat.add_comm 1, z_at_s]
      by_cases q0 : s.2.2.1 = 0
      · rw [if_pos (show nI s.2.2.1 = (0 : Int32) by rw [q0]; rfl)]; exact hit (Or.inl q0)
      · rw [if_neg (show ¬ nI s.2.2.1 = (0 : Int32) from fun e => q0 ((nI_eq (b := 0) (by omega) (by omega)).mp e)), n2 hs2]
        by_cases q1 : s.2.2.1 = 1
        · rw [if_pos (show nI s.2.2.1 = (1 : Int32) by rw [q1]; rfl)]
          cases lp
          · rw [if_pos (by rfl)]; exact hit (Or.inr ⟨q1, rfl⟩)
          · rw [if_neg (by decide), n2 hs2, k2]; exact miss (fun q => by rcases q with q | q; exact q0 q; simp at q)
        · rw [if_neg (show ¬ nI s.2.2.1 = (1 : Int32) from fun e => q1 ((nI_eq (b := 1) (by omega) (by omega)).mp e)), n2 hs2, k2]
          exact miss (fun q => by rcases q with q | q; exact q0 q; exact q1 q.1)
  exact loop V e _ _ (nI e) he (by rw [List.length_map] at hk; exact hk) h58 (fun s hs => hs)
end
