/-! CodeWriter's nodes: what may stand where -/
def cw_M (x : mj_X) (M : Nat) (res par : Nat → Int32) : Prop := x.1 0 7 = nI M ∧ M ≤ 40 ∧ x.1 9 = res ∧ x.1 10 = par
def md_M (y : mj_X) (M : Nat) (res par : Nat → Int32) : Prop := y.1 0 7 = nI M ∧ M ≤ 40 ∧ y.1 9 = res ∧ y.1 10 = par
/-- types of nodes -/
def sp_TY (nt : sp_NT) (N : Nat) : Prop := ∀ k : Int32, sp_nd N k = true → 0 ≤ nt 3 k.toNatClampNeg ∧ nt 3 k.toNatClampNeg ≤ 8 ∧ (nt 0 k.toNatClampNeg ≤ 47 ∨ nt 0 k.toNatClampNeg = 51 → 1 ≤ nt 3 k.toNatClampNeg) ∧ (nt 0 k.toNatClampNeg = 8 → nt 3 k.toNatClampNeg ≤ 4)
/-- chains end -/
def sp_W (nt : sp_NT) (N M : Nat) (par : Nat → Int32) : Prop :=
  (∀ k : Int32, sp_nd N k = true → (nt 0 k.toNatClampNeg = 49 ∨ nt 0 k.toNatClampNeg = 76 ∨ nt 0 k.toNatClampNeg = 82 ∨ nt 0 k.toNatClampNeg = 86) → ∃ l, sp_Ch nt N (nt 0 k.toNatClampNeg) l k ∧ l.length ≤ 4000) ∧
  (∀ m, m < M → par m = -1 ∨ (sp_nd N (par m) = true ∧ nt 0 (par m).toNatClampNeg = 86)) ∧
  sp_TY nt N
theorem sp_W.par {nt : sp_NT} {N M : Nat} {par : Nat → Int32} (h : sp_W nt N M par) {m : Nat} (hm : m < M) : ∃ l, sp_Ch nt N 86 l (par m) ∧ l.length ≤ 4000 := by
  rcases h.2.1 m hm with e | ⟨h1, h2⟩
  · exact ⟨[], e, by simp⟩
  · obtain ⟨l, h3, h4⟩ := h.1 _ h1 (Or.inr (Or.inr (Or.inr h2)))
    rw [h2] at h3; exact ⟨l, h3, h4⟩
theorem sp_W.of {nt : sp_NT} {N M : Nat} {par : Nat → Int32} (h : sp_W nt N M par) {K k : Int32} (hK : K = 49 ∨ K = 76 ∨ K = 82 ∨ K = 86) (h1 : sp_nd N k = true) (h2 : nt 0 k.toNatClampNeg = K) : ∃ l, sp_Ch nt N K l k ∧ l.length ≤ 4000 := by
  obtain ⟨l, h3, h4⟩ := h.1 _ h1 (by rw [h2]; exact hK)
  rw [h2] at h3; exact ⟨l, h3, h4⟩
def sp_nw (nt : sp_NT) (k c : Int32) : Bool := !(decide (nt 0 k.toNatClampNeg = nt 0 (nt 1 c.toNatClampNeg).toNatClampNeg) && (decide (nt 0 k.toNatClampNeg = 84) || decide (nt 1 k.toNatClampNeg = nt 1 (nt 1 c.toNatClampNeg).toNatClampNeg)))
theorem sX0_isNewL {d : Nat} {x : mj_X} {nt : sp_NT} {N : Nat} (h : cw_T x nt N) {k : Int32} (hk : sp_nd N k = true) (cs : Int32) : ∀ (l : List Int32) (p : Int32), sp_Ch nt N 82 l p → rX0_isNew d (2, [some (.ref 0), some (.int k), some (.int cs), some (.int p)], [], x) = some (some (.int (sp_b (l.all (sp_nw nt k)))), x) := by
  intro l
  induction l with
  | nil => intro p hp; rw [bX0_isNew_2, if_pos (show p = -1 from hp)]; rfl
  | cons c l ih =>
    intro p hp
    obtain ⟨rfl, h1, h2, h3, h4⟩ := hp
    have hne : ¬ p = -1 := fun e => by rw [e, sp_nd_m1] at h1; cases h1
    rw [bX0_isNew_2, if_neg hne]
    simp only [h.2.2.1, h.2.2.2.1, h.2.2.2.2.1, mj_g_k (sp_nd_in h.2.1 hk (Nat.le_refl _)), mj_g_k (sp_nd_in h.2.1 h1 (Nat.le_refl _)), mj_g_k (sp_nd_in h.2.1 h3 (Nat.le_refl _)), ih _ h4, List.all_cons]
    unfold sp_nw
    by_cases q1 : nt 0 k.toNatClampNeg = nt 0 (nt 1 p.toNatClampNeg).toNatClampNeg
    · by_cases q2 : nt 0 k.toNatClampNeg = 84
      · rw [if_pos q1, if_pos q2]; simp [← q1, q2, sp_b]
      · rw [if_pos q1, if_neg q2]
        by_cases q3 : nt 1 k.toNatClampNeg = nt 1 (nt 1 p.toNatClampNeg).toNatClampNeg
        · rw [if_pos q3]; simp [q3, ← q1, sp_b]
        · rw [if_neg q3]; simp [q3, q2]
    · rw [if_neg q1]; simp [q1]
theorem sX0_isNew {d : Nat} (hd : 1 ≤ d) {x : mj_X} {nt : sp_NT} {N : Nat} (h : cw_T x nt N) {k cs : Int32} (hk : sp_nd N k = true) {l : List Int32} (hl : sp_Ch nt N 82 l cs) (hn : l.length ≤ 4000) : kX0 d 20 [.ref 0, .int k, .int cs] x = some (some (.int (sp_b ((sp_chain nt 4001 cs).all (sp_nw nt k)))), x) := by
  obtain ⟨d, rfl⟩ : ∃ c, d = c + 1 := ⟨d - 1, by omega⟩
  rw [eX0_isNew, sX0_isNewL h hk cs l cs hl, sp_Ch_chain l cs 4001 hl (by omega)]
def sp_tya (nt : sp_NT) (k : Int32) : Int32 := nt 3 (nt 1 k.toNatClampNeg).toNatClampNeg
def sp_call (nt : sp_NT) (fr : Int32 → Bool) (M : Nat) (par : Nat → Int32) (m g : Int32) : Bool := sp_nd M m && (decide (g = -1) || sp_fk nt fr g 49) && decide ((sp_chain nt 4001 (par m.toNatClampNeg)).map (sp_tya nt) = (sp_chain nt 4001 g).map (sp_tya nt))
theorem sX0_isCallL {d : Nat} (hd : 3 ≤ d) {x : mj_X} {nt : sp_NT} {N : Nat} (h : cw_T x nt N) (m g0 : Int32) (h0 : sp_nd N g0 = true → nt 5 g0.toNatClampNeg = 0) : ∀ (lp lg : List Int32) (p g : Int32), sp_Ch nt N 86 lp p → sp_Ch nt N 49 lg g → rX0_isCall d (28, [some (.ref 0), some (.int m), some (.int g0), some (.int g), some (.int p)], [], x) = some (some (.int (sp_b (decide (lp.map (sp_tya nt) = lg.map (sp_tya nt))))), x) := by
  intro lp
  induction lp with
  | nil =>
    intro lg p g hp hg
    rw [bX0_isCall_28, if_pos (show p = -1 from hp)]
    cases lg with
    | nil => rw [if_pos (show g = -1 from hg)]; rfl
    | cons k l =>
      obtain ⟨rfl, h1, -⟩ := hg
      have hne : ¬ g = -1 := fun e => by rw [e, sp_nd_m1] at h1; cases h1
      rw [if_neg hne]; simp [sp_b]
  | cons q lp ih =>
    intro lg p g hp hg
    obtain ⟨rfl, h1, h2, h3, h4⟩ := hp
    have hne : ¬ p = -1 := fun e => by rw [e, sp_nd_m1] at h1; cases h1
    rw [bX0_isCall_28, if_neg hne, sX0_kindOf hd h, mj_rI_k]
    cases lg with
    | nil =>
      have hg : g = -1 := hg
      subst hg
      have : sp_kind nt N (-1) = -1 := by unfold sp_kind; rw [sp_nd_m1]; rfl
      rw [this]; simp [sp_b]
    | cons k l =>
      obtain ⟨rfl, g1, g2, g3, g4⟩ := hg
      have e1 : sp_kind nt N g = 49 := by unfold sp_kind; rw [g1, g2]; rfl
      rw [e1, if_pos rfl]
      have e2 : rX0_isCall d (58, [some (.ref 0), some (.int m), some (.int g0), some (.int g), some (.int p)], [], x) = some (some (.int (sp_b (decide ((p :: lp).map (sp_tya nt) = (g :: l).map (sp_tya nt))))), x) := by
        rw [bX0_isCall_58]
        simp only [h.2.2.1, h.2.2.2.1, h.2.2.2.2.1, h.2.2.2.2.2.1, mj_g_k (sp_nd_in h.2.1 h1 (Nat.le_refl _)), mj_g_k (sp_nd_in h.2.1 h3 (Nat.le_refl _)), mj_g_k (sp_nd_in h.2.1 g1 (Nat.le_refl _)), mj_g_k (sp_nd_in h.2.1 g3 (Nat.le_refl _)), ih l _ _ h4 g4]
        by_cases q1 : nt 3 (nt 1 g.toNatClampNeg).toNatClampNeg = nt 3 (nt 1 p.toNatClampNeg).toNatClampNeg
        · rw [if_pos q1]; simp [sp_tya, q1]
        · rw [if_neg q1]
          have : ¬ sp_tya nt p = sp_tya nt g := fun e => q1 e.symm
          simp [this, sp_b]
      rw [e2]
      by_cases q : g = g0
      · subst q
        simp only [if_true, mj_g_k (sp_nd_in h.2.1 g1 (Nat.le_refl _)), h.2.2.2.2.2.2.2, h0 g1]
      · rw [if_neg q]
theorem sX0_isCall {d : Nat} (hd : 4 ≤ d) {x : mj_X} {nt : sp_NT} {N M : Nat} {res par : Nat → Int32} (h : cw_T x nt N) (hM : cw_M x M res par) (hW : sp_W nt N M par) (m g : Int32) : kX0 d 15 [.ref 0, .int m, .int g] x = some (some (.int (sp_b (sp_call nt (sp_fr nt N) M par m g))), x) := by
  obtain ⟨d, rfl⟩ : ∃ c, d = c + 1 := ⟨d - 1, by omega⟩
  rw [eX0_isCall, sX0_isIn (by omega), mj_rI_k, hM.1, sp_in_nd (by have := hM.2.1; omega)]
  simp only [sp_b0, hM.2.2.2]
  unfold sp_call
  cases hm : sp_nd M m
  · simp [sp_b]
  · have hm2 := (sp_nd_iff (by have := hM.2.1; omega) m).mp hm
    have hm3 : m.toNatClampNeg < M := by show m.toInt.toNat < M; omega
    obtain ⟨lp, l1, l2⟩ := hW.par hm3
    rw [mj_g_k (mj_in_of hm2.1 (by have := hM.2.1; omega))]
    simp only [Bool.true_and, Bool.true_eq_false, if_false]
    rw [sp_Ch_chain lp _ 4001 l1 (by omega)]
    by_cases hg : g = -1
    · subst hg
      rw [sX0_isCallL (by omega) h m (-1) (fun e => by rw [sp_nd_m1] at e; cases e) lp [] _ (-1) l1 rfl]
      simp [sp_chain]
    · cases hf : sp_fk nt (sp_fr nt N) g 49
      · simp only [hg, decide_false, Bool.or_false, Bool.false_and, sp_b_f]
        rw [bX0_isCall_28]
        by_cases hp : par m.toNatClampNeg = -1
        · rw [if_pos hp, if_neg hg]
        · rw [if_neg hp, sX0_kindOf (by omega) h, mj_rI_k]
          by_cases hk : sp_kind nt N g = 49
          · rw [if_pos hk]
            have hn : sp_nd N g = true := by
              unfold sp_kind at hk
              cases hh : sp_nd N g
              · rw [hh] at hk; cases hk
              · rfl
            unfold sp_kind at hk; rw [hn] at hk
            have hk : nt 0 g.toNatClampNeg = 49 := hk
            unfold sp_fk sp_fr at hf
            rw [hn, hk] at hf
            simp only [Bool.true_and, decide_true, Bool.and_true, decide_eq_false_iff_not] at hf
            simp only [if_true, mj_g_k (sp_nd_in h.2.1 hn (Nat.le_refl _)), h.2.2.2.2.2.2.2, hf, if_false]
          · rw [if_neg hk]
      · have hf2 := hf
        unfold sp_fk sp_fr at hf2
        simp only [Bool.and_eq_true, decide_eq_true_eq] at hf2
        obtain ⟨lg, l3, l4⟩ := hW.of (Or.inl rfl) hf2.1.1 hf2.2
        rw [sX0_isCallL (by omega) h m g (fun _ => hf2.1.2) lp lg _ g l1 l3, sp_Ch_chain lg g 4001 l3 (by omega)]
        simp
