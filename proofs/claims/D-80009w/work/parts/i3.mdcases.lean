/-! the cases of a switch -/
theorem sp_k82u {nt : sp_NT} {M n : Nat} {res par : Nat → Int32} (h : sp_OK nt M res par n) (e : nt 0 n = 82) : nt 2 n = -1 ∨ (sp_chain nt 4001 (nt 2 n)).all (sp_nw nt (nt 1 n)) = true := by
  obtain ⟨h1, h2, h3, -, -⟩ := h
  rw [← h2] at h3
  rw [e] at h3 h2
  clear h1 h2
  simp only [sp_ty] at h3
  simp [sp_i] at h3
  cases hao : sp_ao nt (sp_nd n) 82 (nt 1 n) (nt 2 n)
  · rw [hao] at h3; simp at h3
  · simp only [sp_ao] at hao
    simp at hao
    rcases hao.2 with q | q
    · exact Or.inl q
    · exact Or.inr (by simpa using q.2)
theorem wTb.uniq {nt : sp_NT} {N M : Nat} {res par : Nat → Int32} (hT : wTb nt N M res par) : ∀ (l : List Int32) (p : Int32), sp_Ch nt N 82 l p → l.length ≤ 4000 → l.Pairwise (fun a b => sp_nw nt (nA nt a) b = true) := by
  intro l
  induction l with
  | nil => intro p _ _; exact List.Pairwise.nil
  | cons k l ih =>
    intro p h hlen
    obtain ⟨rfl, h1, h2, h3, h4⟩ := h
    have hlen : l.length + 1 ≤ 4000 := hlen
    refine List.pairwise_cons.mpr ⟨fun b hb => ?_, ih _ h4 (by omega)⟩
    rcases sp_k82u (hT.ok h1).1 h2 with q | q
    · cases l with
      | nil => cases hb
      | cons a r =>
        rw [q] at h4
        obtain ⟨e, e2, -⟩ := h4
        rw [← e, sp_nd_m1] at e2; cases e2
    · rw [sp_Ch_chain l _ 4001 h4 (by omega)] at q
      exact List.all_eq_true.mp q b hb
section
variable {nt : sp_NT}
theorem nins_perm {k : Int32} : ∀ l : List Int32, (nins nt k l).Perm (k :: l) := by
  intro l
  induction l with
  | nil => exact List.Perm.refl _
  | cons a l ih =>
    unfold nins
    split
    · exact (ih.cons a).trans (List.Perm.swap _ _ _)
    · exact List.Perm.refl _
theorem nfold_perm : ∀ c l : List Int32, (c.foldl (fun s k => nins nt k s) l).Perm (c ++ l) := by
  intro c
  induction c with
  | nil => intro l; exact List.Perm.refl _
  | cons a c ih =>
    intro l
    exact (ih (nins nt a l)).trans (((nins_perm l).append_left c).trans List.perm_middle)
theorem sp_nw_k {a b : Int32} (h : sp_nw nt (nA nt a) b = true) (h1 : nK nt (nA nt a) = nK nt (nA nt b)) : nA nt (nA nt a) ≠ nA nt (nA nt b) ∧ ¬ nK nt (nA nt a) = 84 := by
  unfold sp_nw at h
  simp only [Bool.not_eq_true', Bool.and_eq_false_iff, Bool.or_eq_false_iff, decide_eq_false_iff_not] at h
  rcases h with h | ⟨h2, h3⟩
  · exact absurd h1 h
  · exact ⟨h3, h2⟩
/-- the keys are in strict order -/
theorem nsort_str {N M : Nat} {res par : Nat → Int32} (hT : wTb nt N M res par) {l : List Int32} {p : Int32} (hl : sp_Ch nt N 82 l p) (hlen : l.length ≤ 4000) (hs : (nsort nt (l.map (fun q => nA nt q))).Pairwise (fun a b => nA nt a ≤ nA nt b)) :
    ∀ i j, i < j → j < (nsort nt (l.map (fun q => nA nt q))).length → (nA nt ((nsort nt (l.map (fun q => nA nt q))).getD i 0)).toInt < (nA nt ((nsort nt (l.map (fun q => nA nt q))).getD j 0)).toInt := by
  have u := hT.uniq l p hl hlen
  have hne : (nsort nt (l.map (fun q => nA nt q))).Pairwise (fun a b => nA nt a ≠ nA nt b) := by
    refine (List.Perm.pairwise_iff (fun h => h.symm) (nfold_perm _ [])).mpr ?_
    rw [List.append_nil, List.pairwise_filter, List.pairwise_map]
    refine u.imp (fun {a b} h h1 h2 => ?_)
    have h1 : nK nt (nA nt a) = 83 := of_decide_eq_true h1
    have h2 : nK nt (nA nt b) = 83 := of_decide_eq_true h2
    exact (sp_nw_k h (h1.trans h2.symm)).1
  generalize nsort nt (l.map (fun q => nA nt q)) = sl at *
  intro i j hij hj
  have hi : i < sl.length := by omega
  have e1 := List.pairwise_iff_getElem.mp hs i j hi hj hij
  have e2 := List.pairwise_iff_getElem.mp hne i j hi hj hij
  rw [List.getD, List.getD, List.getElem?_eq_getElem hi, List.getElem?_eq_getElem hj]
  simp only [Option.getD_some]
  have e1 := Int32.le_iff_toInt_le.mp e1
  have e3 : ¬ (nA nt sl[i]).toInt = (nA nt sl[j]).toInt := fun e => e2 (Int32.toInt_inj.mp e)
  omega
/-- labels and places, one case after the other -/
def w_sw2 (F : wF) : List (Int32 × Nat) → wG → wG
  | [], g => g
  | q :: r, g => w_sw2 F r (s_pl (4000 + q.1.toNatClampNeg) q.2 (w_lb F g))
theorem w_csp_lbs (F : wF) : ∀ (n : Nat) (v l : Nat) (g : wG), w_lbs F n (s_pl v l g) = s_pl v l (w_lbs F n g) := by
  intro n
  induction n with
  | zero => intro v l g; rfl
  | succ n ih => intro v l g; exact ih v l (w_lb F g)
theorem w_sw2_eq (F : wF) : ∀ (cs : List (Int32 × Nat)) (g : wG), w_csp cs (w_lbs F cs.length g) = w_sw2 F cs g := by
  intro cs
  induction cs with
  | nil => intro g; rfl
  | cons q r ih =>
    intro g
    show w_csp r (s_pl _ q.2 (w_lbs F r.length (w_lb F g))) = w_sw2 F r _
    rw [← w_csp_lbs, ih]
theorem w_ctx_sw2 (F : wF) (k : Nat) (a : Int32) (b c : Nat) : ∀ (cs : List (Int32 × Nat)) (g : wG), w_ctx k a b c (w_sw2 F cs g) = w_sw2 F cs (w_ctx k a b c g) := by
  intro cs
  induction cs with
  | nil => intro g; rfl
  | cons q r ih => intro g; exact ih _
end
