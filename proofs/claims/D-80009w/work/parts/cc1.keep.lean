/-! the table stays well-formed -/
theorem sp_chain_no (nt : sp_NT) : ∀ f, sp_chain nt f (-1) = [] := by
  intro f
  cases f with
  | zero => rfl
  | succ f => unfold sp_chain; rw [if_pos rfl]
def sp_ag (nt nt' : sp_NT) (N : Nat) : Prop := ∀ j i, j < 5 → i < N → nt' j i = nt j i
theorem sp_Ch_ag {nt nt' : sp_NT} {N : Nat} (hN : N ≤ 4000) (h : sp_ag nt nt' N) {K : Int32} : ∀ (l : List Int32) (p : Int32), sp_Ch nt N K l p → sp_Ch nt' N K l p ∧ l.map (sp_tya nt') = l.map (sp_tya nt) := by
  intro l
  induction l with
  | nil => intro p hp; exact ⟨hp, rfl⟩
  | cons c l ih =>
    intro p hp
    obtain ⟨rfl, h1, h2, h3, h4⟩ := hp
    have hc := sp_nd_lt hN h1
    obtain ⟨i1, i2⟩ := ih _ h4
    refine ⟨⟨rfl, h1, by rw [h 0 _ (by decide) hc]; exact h2, by rw [h 1 _ (by decide) hc]; exact h3, by rw [h 2 _ (by decide) hc]; exact i1⟩, ?_⟩
    rw [List.map_cons, List.map_cons, i2]
    congr 1
    unfold sp_tya
    rw [h 1 _ (by decide) hc, h 3 _ (by decide) (sp_nd_lt hN h3)]
theorem sp_chain_ag {nt nt' : sp_NT} {N : Nat} (hN : N < 4000) (h : sp_ag nt nt' N) {K p : Int32} {l : List Int32} (hl : sp_Ch nt N K l p) (hn : l.length ≤ 4000) : sp_chain nt' 4001 p = sp_chain nt 4001 p ∧ (sp_chain nt' 4001 p).map (sp_tya nt') = (sp_chain nt 4001 p).map (sp_tya nt) ∧ sp_chain nt 4001 p = l := by
  obtain ⟨h1, h2⟩ := sp_Ch_ag (by omega) h l p hl
  rw [sp_Ch_chain l p 4001 h1 (by omega), sp_Ch_chain l p 4001 hl (by omega)]
  exact ⟨rfl, h2, rfl⟩
theorem sp_Ch_mem {nt : sp_NT} {N : Nat} {K : Int32} : ∀ (l : List Int32) (p : Int32), sp_Ch nt N K l p → ∀ c ∈ l, sp_nd N c = true ∧ sp_nd N (nt 1 c.toNatClampNeg) = true := by
  intro l
  induction l with
  | nil => intro p hp c hc; cases hc
  | cons q l ih =>
    intro p hp c hc
    obtain ⟨rfl, h1, h2, h3, h4⟩ := hp
    rcases List.mem_cons.mp hc with e | e
    · subst e; exact ⟨h1, h3⟩
    · exact ih _ h4 c e
theorem sp_tyag {nt nt' : sp_NT} {N M : Nat} {res par : Nat → Int32} (hW : sp_W nt N M par) (hN : N < 4000) (hM : M ≤ 40) (h : sp_ag nt nt' N) {i : Nat} (hi : i ≤ N) (k a b : Int32) (hk : sp_isK k = true) : sp_ty nt' (sp_nd i) (sp_nd i) M res par k a b = sp_ty nt (sp_nd i) (sp_nd i) M res par k a b := by
  have up : ∀ c, sp_nd i c = true → sp_nd N c = true := fun c q => sp_nd_mono hi (by omega) q
  refine sp_ty_cg nt nt' (sp_nd i) M res par k a b hk (fun c hc j hj => h j _ hj (sp_nd_lt (by omega) (up c hc))) ?_ ?_
  · unfold sp_call
    cases hm : sp_nd M a
    · rfl
    · have hm2 : a.toNatClampNeg < M := sp_nd_lt (by omega) hm
      obtain ⟨lp, l1, l2⟩ := hW.par hm2
      rw [(sp_chain_ag hN h l1 l2).2.1]
      by_cases hb : b = -1
      · subst hb; simp only [sp_chain_no, List.map_nil, decide_true, Bool.true_or]
      · have e : sp_fk nt' (sp_nd i) b 49 = sp_fk nt (sp_nd i) b 49 := by
          unfold sp_fk
          cases q : sp_nd i b
          · rfl
          · rw [h 0 _ (by decide) (sp_nd_lt (by omega) (up b q))]
        rw [e]
        cases hf : sp_fk nt (sp_nd i) b 49
        · simp [hb]
        · unfold sp_fk at hf
          simp only [Bool.and_eq_true, decide_eq_true_eq] at hf
          obtain ⟨lg, l3, l4⟩ := hW.of (Or.inl rfl) (up b hf.1) hf.2
          rw [(sp_chain_ag hN h l3 l4).2.1]
  · intro hf ha
    unfold sp_fk at hf
    simp only [Bool.and_eq_true, decide_eq_true_eq] at hf
    obtain ⟨lg, l3, l4⟩ := hW.of (Or.inr (Or.inr (Or.inl rfl))) (up b hf.1) hf.2
    obtain ⟨e1, -, e2⟩ := sp_chain_ag hN h l3 l4
    rw [e1, e2]
    rw [Bool.eq_iff_iff, List.all_eq_true, List.all_eq_true]
    have hh : ∀ c ∈ lg, sp_nw nt' a c = sp_nw nt a c := fun c hc => by
      obtain ⟨q1, q2⟩ := sp_Ch_mem lg b l3 c hc
      have q3 := sp_nd_lt (by omega) (up a ha)
      have q4 := sp_nd_lt (by omega) q1
      have q5 := sp_nd_lt (by omega) q2
      unfold sp_nw
      rw [h 0 _ (by decide) q3, h 1 _ (by decide) q3, h 1 _ (by decide) q4, h 0 _ (by decide) q5, h 1 _ (by decide) q5]
    constructor
    · intro q c hc; rw [← hh c hc]; exact q c hc
    · intro q c hc; rw [hh c hc]; exact q c hc
theorem sp_dpag {nt nt' : sp_NT} {N : Nat} (hN : N ≤ 4000) (h : sp_ag nt nt' N) (k a b : Int32) (ha : sp_pa k a = true → sp_nd N a = true) (hb : sp_pb k b = true → sp_nd N b = true) : sp_dp nt' k a b = sp_dp nt k a b := by
  unfold sp_dp
  congr 2
  · cases q : sp_pa k a
    · rfl
    · rw [h 4 _ (by decide) (sp_nd_lt hN (ha q))]
  · cases q : sp_pb k b
    · rfl
    · rw [h 4 _ (by decide) (sp_nd_lt hN (hb q))]
theorem sp_OKag {nt nt' : sp_NT} {N M : Nat} {res par : Nat → Int32} (hF : sp_WF nt N M res par) (hN : N < 4000) (hM : M ≤ 40) (h : sp_ag nt nt' N) {i : Nat} (hi : i < N) : sp_OK nt' M res par i := by
  obtain ⟨h1, h2, h3, h4, h5⟩ := hF.1 i hi
  unfold sp_OK
  rw [h 0 i (by decide) hi, h 1 i (by decide) hi, h 2 i (by decide) hi, h 3 i (by decide) hi, h 4 i (by decide) hi, sp_tyag (hF.w hM hN) hN hM h (by omega) _ _ _ h1,
    sp_dpag (by omega) h _ _ _ (fun q => sp_nd_mono (by omega) (by omega) (hF.pa hi q)) (fun q => sp_nd_mono (by omega) (by omega) (hF.pb hi q))]
  exact ⟨h1, h2, h3, h4, h5⟩
theorem sp_WF.ag {nt nt' : sp_NT} {N M : Nat} {res par : Nat → Int32} (hF : sp_WF nt N M res par) (hN : N < 4000) (hM : M ≤ 40) (h : sp_ag nt nt' N) : sp_WF nt' N M res par := by
  refine ⟨fun i hi => sp_OKag hF hN hM h hi, fun m hm => ⟨?_, (hF.2 m hm).2⟩⟩
  rcases (hF.2 m hm).1 with e | ⟨e1, e2⟩
  · exact Or.inl e
  · exact Or.inr ⟨e1, by rw [h 0 _ (by decide) (sp_nd_lt (by omega) e1)]; exact e2⟩
theorem sp_new_ag (nt : sp_NT) (N : Nat) (k a b t : Int32) : sp_ag nt (sp_new nt N k a b t) N := by
  intro j i hj hi
  unfold sp_new
  rw [if_neg (by omega), if_neg (fun e => by omega)]
/-- one more node -/
theorem sp_WF.node {nt : sp_NT} {N M : Nat} {res par : Nat → Int32} (hF : sp_WF nt N M res par) (hN : N < 3999) (hM : M ≤ 40) (k a b : Int32) (hk : sp_isK k = true) (hr : ¬ sp_ty nt (sp_nd N) (sp_fr nt N) M res par k a b = -1) (h40 : ¬ 40 < sp_dp nt k a b) : sp_WF (sp_new nt N k a b (sp_ty nt (sp_nd N) (sp_fr nt N) M res par k a b)) (N + 1) M res par := by
  have ha : sp_pa k a = true → sp_nd N a = true := fun q => by
    unfold sp_pa at q; simp only [Bool.and_eq_true, Bool.not_eq_true', decide_eq_false_iff_not] at q
    exact sp_ty_a nt N M res par k a b hk hr q.1 q.2
  have hb : sp_pb k b = true → sp_nd N b = true := fun q => by
    unfold sp_pb at q; simp only [Bool.and_eq_true, Bool.not_eq_true', decide_eq_false_iff_not] at q
    exact sp_ty_b nt N M res par k a b hk hr q.1 q.2
  have ag := sp_new_ag nt N k a b (sp_ty nt (sp_nd N) (sp_fr nt N) M res par k a b)
  have mo := sp_ty_mono nt (sp_nd N) (sp_nd N) (sp_fr nt N) (sp_nd N) M M res res par par (fun _ q => q) (fun _ q => sp_fr_nd q) (Nat.le_refl _) hM (fun _ _ => ⟨rfl, rfl⟩) k a b hk hr
  refine ⟨fun i hi => ?_, fun m hm => ⟨?_, (hF.2 m hm).2⟩⟩
  · rcases Nat.lt_or_ge i N with q | q
    · exact sp_OKag hF (by omega) hM ag q
    · have e : i = N := by omega
      subst e
      unfold sp_OK
      have e0 : ∀ t, sp_new nt i k a b t 0 i = k := fun t => by unfold sp_new; simp
      have e1 : ∀ t, sp_new nt i k a b t 1 i = a := fun t => by unfold sp_new; simp
      have e2 : ∀ t, sp_new nt i k a b t 2 i = b := fun t => by unfold sp_new; simp
      have e3 : ∀ t, sp_new nt i k a b t 3 i = t := fun t => by unfold sp_new; simp
      have e4 : ∀ t, sp_new nt i k a b t 4 i = sp_dp nt k a b := fun t => by unfold sp_new; simp
      rw [e0, e1, e2, e3, e4, sp_tyag (hF.w hM (by omega)) (by omega) hM ag (Nat.le_refl _) _ _ _ hk, sp_dpag (by omega) ag _ _ _ ha hb, mo]
      exact ⟨hk, rfl, hr, rfl, Int32.not_lt.mp h40⟩
  · rcases (hF.2 m hm).1 with e | ⟨e1, e2⟩
    · exact Or.inl e
    · exact Or.inr ⟨sp_nd_mono (by omega) (by omega) e1, by rw [ag 0 _ (by decide) (sp_nd_lt (by omega) e1)]; exact e2⟩
/-- one more member -/
theorem sp_WF.mem {nt : sp_NT} {N M : Nat} {res par res' par' : Nat → Int32} (hF : sp_WF nt N M res par) (hM : M + 1 ≤ 40) (hre : ∀ m, m < M → res' m = res m ∧ par' m = par m) (hp : par' M = -1 ∨ (sp_nd N (par' M) = true ∧ nt 0 (par' M).toNatClampNeg = 86)) (hr : 0 ≤ res' M ∧ res' M ≤ 8) : sp_WF nt N (M + 1) res' par' := by
  refine ⟨fun i hi => ?_, fun m hm => ?_⟩
  · obtain ⟨h1, h2, h3, h4, h5⟩ := hF.1 i hi
    refine ⟨h1, ?_, h3, h4, h5⟩
    rw [sp_ty_mono nt (sp_nd i) (sp_nd i) (sp_nd i) (sp_nd i) M (M + 1) res res' par par' (fun _ q => q) (fun _ q => q) (by omega) hM hre _ _ _ h1 (by rw [h2]; exact h3), h2]
  · rcases Nat.lt_or_ge m M with q | q
    · rw [(hre m q).1, (hre m q).2]; exact hF.2 m q
    · have e : m = M := by omega
      subst e; exact ⟨hp, hr⟩
