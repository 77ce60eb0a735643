/-! a well-formed table: every node was right when it was made, over the nodes ahead of it -/
def sp_z (nt : sp_NT) : sp_NT := fun j i => if j = 5 then 0 else nt j i
theorem sp_fr_z (nt : sp_NT) (n : Nat) : sp_fr (sp_z nt) n = sp_nd n := by
  funext k; unfold sp_fr sp_z; simp
theorem sp_chain_cg {nt nt' : sp_NT} (h : ∀ i, nt' 2 i = nt 2 i) : ∀ (f : Nat) (p : Int32), sp_chain nt' f p = sp_chain nt f p := by
  intro f
  induction f with
  | zero => intro p; rfl
  | succ f ih => intro p; unfold sp_chain; rw [h, ih]
theorem sp_ty_z (nt : sp_NT) (nd fr : Int32 → Bool) (M : Nat) (res par : Nat → Int32) (k a b : Int32) : sp_ty (sp_z nt) nd fr M res par k a b = sp_ty nt nd fr M res par k a b := by
  have e : ∀ f p, sp_chain (sp_z nt) f p = sp_chain nt f p := sp_chain_cg (fun _ => rfl)
  have e1 : sp_call (sp_z nt) fr M par a b = sp_call nt fr M par a b := by unfold sp_call; simp only [e]; rfl
  have e2 : sp_ao (sp_z nt) fr k a b = sp_ao nt fr k a b := by unfold sp_ao; simp only [e]; rfl
  unfold sp_ty
  rw [e1, e2]; rfl
/-- a node of the table, by its place -/
def sp_OK (nt : sp_NT) (M : Nat) (res par : Nat → Int32) (k : Nat) : Prop :=
  sp_isK (nt 0 k) = true ∧ sp_ty nt (sp_nd k) (sp_nd k) M res par (nt 0 k) (nt 1 k) (nt 2 k) = nt 3 k ∧ ¬ nt 3 k = -1 ∧ nt 4 k = sp_dp nt (nt 0 k) (nt 1 k) (nt 2 k) ∧ nt 4 k ≤ 40
def sp_WF (nt : sp_NT) (N M : Nat) (res par : Nat → Int32) : Prop :=
  (∀ k, k < N → sp_OK nt M res par k) ∧ ∀ m, m < M → (par m = -1 ∨ (sp_nd N (par m) = true ∧ nt 0 (par m).toNatClampNeg = 86)) ∧ 0 ≤ res m ∧ res m ≤ 8
theorem sp_nd_split {n : Nat} (hn : n < 4000) {k : Int32} (h : sp_nd (n + 1) k = true) : sp_nd n k = true ∨ k.toNatClampNeg = n := by
  have h1 := (sp_nd_iff (by omega) k).mp h
  by_cases q : k.toInt < n
  · exact Or.inl ((sp_nd_iff (by omega) k).mpr ⟨h1.1, q⟩)
  · right; show k.toInt.toNat = n; omega
theorem sp_nd_mono {n m : Nat} (h1 : n ≤ m) (hm : m ≤ 4000) {k : Int32} (h : sp_nd n k = true) : sp_nd m k = true := by
  have := (sp_nd_iff (by omega) k).mp h
  exact (sp_nd_iff hm k).mpr ⟨this.1, by omega⟩
theorem sp_nd_lt {n : Nat} (hn : n ≤ 4000) {k : Int32} (h : sp_nd n k = true) : k.toNatClampNeg < n := by
  have := (sp_nd_iff hn k).mp h
  show k.toInt.toNat < n; omega
theorem sp_WF.ty {nt : sp_NT} {N M : Nat} {res par : Nat → Int32} (h : sp_WF nt N M res par) (hM : M ≤ 40) (hN : N ≤ 4000) : ∀ n, n ≤ N → sp_TY nt n := by
  intro n
  induction n with
  | zero =>
    intro _ k hk
    have := (sp_nd_iff (by omega) k).mp hk; omega
  | succ n ih =>
    intro hn k hk
    have ih := ih (by omega)
    rcases sp_nd_split (by omega) hk with q | q
    · exact ih k q
    · rw [q]
      obtain ⟨h1, h2, h3, -, -⟩ := h.1 n (by omega)
      have e : sp_ty (sp_z nt) (sp_nd n) (sp_fr (sp_z nt) n) M res par (nt 0 n) (nt 1 n) (nt 2 n) = nt 3 n := by rw [sp_fr_z, sp_ty_z, h2]
      have ihz : sp_TY (sp_z nt) n := ih
      have hr : ¬ sp_ty (sp_z nt) (sp_nd n) (sp_fr (sp_z nt) n) M res par (nt 0 n) (nt 1 n) (nt 2 n) = -1 := by rw [e]; exact h3
      have r := sp_ty_rng (sp_z nt) n M res par hM ihz (fun m hm => (h.2 m hm).2) _ _ _ h1 hr
      rw [e] at r
      refine ⟨r.1, r.2, fun q => ?_, fun q => ?_⟩
      · have := sp_ty_pos (sp_z nt) n M res par ihz _ _ _ h1 q hr
        rw [e] at this; exact this
      · have := sp_ty_8 nt (sp_nd n) (sp_nd n) M res par (nt 1 n) (nt 2 n)
        rw [← q, h2] at this; exact this
/-- the parts of a node are nodes ahead of it -/
theorem sp_WF.pa {nt : sp_NT} {N M : Nat} {res par : Nat → Int32} (h : sp_WF nt N M res par) {n : Nat} (hn : n < N) (hp : sp_pa (nt 0 n) (nt 1 n) = true) : sp_nd n (nt 1 n) = true := by
  obtain ⟨h1, h2, h3, -, -⟩ := h.1 n hn
  unfold sp_pa at hp; simp only [Bool.and_eq_true, Bool.not_eq_true', decide_eq_false_iff_not] at hp
  exact sp_ty_a (sp_z nt) n M res par _ _ _ h1 (by rw [sp_fr_z, sp_ty_z, h2]; exact h3) hp.1 hp.2
theorem sp_WF.pb {nt : sp_NT} {N M : Nat} {res par : Nat → Int32} (h : sp_WF nt N M res par) {n : Nat} (hn : n < N) (hp : sp_pb (nt 0 n) (nt 2 n) = true) : sp_nd n (nt 2 n) = true := by
  obtain ⟨h1, h2, h3, -, -⟩ := h.1 n hn
  unfold sp_pb at hp; simp only [Bool.and_eq_true, Bool.not_eq_true', decide_eq_false_iff_not] at hp
  exact sp_ty_b (sp_z nt) n M res par _ _ _ h1 (by rw [sp_fr_z, sp_ty_z, h2]; exact h3) hp.1 hp.2
theorem sp_WF.dp {nt : sp_NT} {N M : Nat} {res par : Nat → Int32} (h : sp_WF nt N M res par) (hN : N ≤ 4000) : ∀ n, n ≤ N → sp_Dp nt n := by
  intro n
  induction n with
  | zero =>
    intro _ k hk
    have := (sp_nd_iff (by omega) k).mp hk; omega
  | succ n ih =>
    intro hn k hk
    have ih := ih (by omega)
    rcases sp_nd_split (by omega) hk with q | q
    · exact ih k q
    · rw [q]
      obtain ⟨h1, h2, h3, h4, h5⟩ := h.1 n (by omega)
      have := sp_dp_rng ih (nt 0 n) (nt 1 n) (nt 2 n) (h.pa (by omega)) (h.pb (by omega))
      rw [← h4] at this
      exact ⟨this.1, h5⟩
theorem sp_nd_at {n : Nat} (hn : n < 4000) : sp_nd (n + 1) (nI n) = true ∧ (nI n).toNatClampNeg = n := ⟨(sp_nd_iff (by omega) _).mpr (by rw [nI_toInt (by omega)]; omega), nI_clamp (by omega)⟩
theorem sp_nd_eq {n : Nat} (hn : n ≤ 4000) {k : Int32} (h : sp_nd n k = true) : k = nI k.toNatClampNeg := by
  have h1 := (sp_nd_iff hn k).mp h
  apply Int32.toInt_inj.mp
  rw [nI_toInt (by have := sp_nd_lt hn h; omega)]
  show k.toInt = (k.toInt.toNat : Int); omega
/-- chains: what a chain's node has -/
theorem sp_WF.ch {nt : sp_NT} {N M : Nat} {res par : Nat → Int32} (h : sp_WF nt N M res par) {n : Nat} (hn : n < N) (hK : nt 0 n = 49 ∨ nt 0 n = 76 ∨ nt 0 n = 82 ∨ nt 0 n = 86) : sp_nd n (nt 1 n) = true ∧ (nt 2 n = -1 ∨ (sp_nd n (nt 2 n) = true ∧ nt 0 (nt 2 n).toNatClampNeg = nt 0 n)) := by
  obtain ⟨h1, h2, h3, -, -⟩ := h.1 n hn
  have f8 : ∀ k q, sp_fk nt (sp_nd n) k q = true → sp_nd n k = true ∧ nt 0 k.toNatClampNeg = q := fun k q h => by unfold sp_fk at h; simp only [Bool.and_eq_true, decide_eq_true_eq] at h; exact h
  have f9 : ∀ k, ¬ sp_val nt (sp_nd n) k = 0 → sp_nd n k = true := fun k h => by
    unfold sp_val at h
    cases q : sp_nd n k
    · rw [q] at h; exact absurd rfl h
    · rfl
  rw [← h2] at h3
  rcases hK with e | e | e | e <;> rw [e] at h3 ⊢ <;> simp only [sp_ty, sp_ao] at h3 <;> simp [sp_i] at h3 <;> grind
theorem sp_WF.chain {nt : sp_NT} {N M : Nat} {res par : Nat → Int32} (h : sp_WF nt N M res par) (hN : N ≤ 4000) : ∀ n, n < N → (nt 0 n = 49 ∨ nt 0 n = 76 ∨ nt 0 n = 82 ∨ nt 0 n = 86) → ∃ l, sp_Ch nt N (nt 0 n) l (nI n) ∧ l.length ≤ n + 1 := by
  intro n
  induction n using Nat.strongRecOn with
  | ind n ih =>
    intro hn hK
    obtain ⟨h1, h2⟩ := h.ch hn hK
    have hnd : sp_nd N (nI n) = true := sp_nd_mono (show n + 1 ≤ N by omega) hN (sp_nd_at (by omega)).1
    have hcl := (sp_nd_at (n := n) (by omega)).2
    have h1' := sp_nd_mono (show n ≤ N by omega) hN h1
    rcases h2 with e | ⟨h3, h4⟩
    · exact ⟨[nI n], ⟨rfl, hnd, by rw [hcl], by rw [hcl]; exact h1', by rw [hcl]; exact e⟩, by simp⟩
    · have hlt := sp_nd_lt (by omega) h3
      obtain ⟨l, l1, l2⟩ := ih _ hlt (by omega) (by rw [h4]; exact hK)
      rw [h4, ← sp_nd_eq (by omega) h3] at l1
      refine ⟨nI n :: l, ⟨rfl, hnd, by rw [hcl], by rw [hcl]; exact h1', by rw [hcl]; exact l1⟩, ?_⟩
      simp only [List.length_cons]; omega
theorem sp_WF.w {nt : sp_NT} {N M : Nat} {res par : Nat → Int32} (h : sp_WF nt N M res par) (hM : M ≤ 40) (hN : N < 4000) : sp_W nt N M par := by
  refine ⟨fun k hk hK => ?_, fun m hm => (h.2 m hm).1, h.ty hM (by omega) N (Nat.le_refl _)⟩
  have hlt := sp_nd_lt (by omega) hk
  obtain ⟨l, l1, l2⟩ := h.chain (by omega) _ hlt hK
  rw [← sp_nd_eq (by omega) hk] at l1
  exact ⟨l, l1, by omega⟩
