/-! THE CODE OF A MEMBER that is done: items, their frames, what follows -/
def cLb (G : wG) (l : Nat) (F : wF) : Prop := ∃ j i D, g_lat G l = some j ∧ (g_it G).reverse[j]? = some (i, D) ∧ w_fit F D
def cD (nt : sp_NT) (M : Nat) (res par : Nat → Int32) (ret : Nat) (G : wG) : Prop :=
  (∀ k i F, (g_it G).reverse[k]? = some (i, F) → ∃ K, oTy nt M res par ret (g_po G) i F K ∧ (oTerm i = false → ∃ i' D, (g_it G).reverse[k + 1]? = some (i', D) ∧ w_fit K D) ∧ (∀ q, q ∈ i.2.2.2.2 → cLb G q.2 K) ∧ (F.1.length ≤ g_mx G ∧ F.2.length ≤ g_ms G ∧ K.1.length ≤ g_mx G ∧ K.2.length ≤ g_ms G))
  ∧ (∀ r, r ∈ g_rg G → r.1 < r.2.1 ∧ r.2.1 ≤ (g_it G).length ∧ ∃ L i D, (g_it G).reverse[r.2.2.1]? = some (i, D) ∧ w_fit (L, [10]) D ∧ ∀ k i F, r.1 ≤ k → k < r.2.1 → (g_it G).reverse[k]? = some (i, F) → L <+: F.1)
  ∧ (∀ j, j < (g_it G).length → oPre G j)
  ∧ (g_ms G = 0 ∨ ∃ (k : Nat) (i : wI) (F : wF), (g_it G).reverse[k]? = some (i, F) ∧ F.2.length = g_ms G)
def cE (G : wG) (E : wF) : Prop := ∃ i D, (g_it G).reverse[0]? = some (i, D) ∧ w_fit E D
section
variable {nt : sp_NT} {N M ret : Nat} {res par : Nat → Int32} {G : wG} {E : wF} {w : Bool} {k : Nat} {i : wI} {F : wF}
theorem cD.of (h : oI nt N M res par ret E G) (ho : g_ov G = false) (ha : g_al G = false) (hp : ∀ l, l < g_nl G → g_goes G l = true → g_lat G l ≠ none) : cD nt M res par ret G ∧ cE G E := by
  obtain ⟨c1, c2, c3, c4, ⟨c5, c6⟩, -⟩ := h.2.2 ho
  have ag : ∀ {j : Nat} {F : wF}, oAg G j F → ∃ i D, (g_it G).reverse[j]? = some (i, D) ∧ w_fit F D := fun {j F} q => by
    rcases q with q | ⟨-, q, -⟩
    · exact q
    · rw [ha] at q; cases q
  refine ⟨⟨fun k i F hk => ?_, fun r hr => ?_, fun j hj => c3 j (Or.inl hj), ?_⟩, ag c5⟩
  · obtain ⟨K, t1, t2, t3, t4⟩ := c1 k i F hk
    refine ⟨K, t1, fun q => ag (t2 q), fun q hq => ?_, t4⟩
    obtain ⟨l1, l2, l3⟩ := t3 q hq
    cases e : g_lat G q.2 with
    | none => exact absurd e (hp _ l1 l2)
    | some j =>
      obtain ⟨i', D, d1, d2⟩ := ag ((c2 q.2 l1 l2).2 j e)
      exact ⟨j, i', D, e, d1, l3.tr d2⟩
  · obtain ⟨r1, r2, L, r3, r4⟩ := c4 r hr
    obtain ⟨i', D, d1, d2⟩ := ag r3
    exact ⟨r1, r2, L, i', D, d1, d2, r4⟩
  · rcases c6 with q | ⟨k, i, F, q1, q2⟩ | ⟨q, -⟩
    · exact Or.inl q
    · exact Or.inr ⟨k, i, F, q1, q2⟩
    · rw [ha] at q; cases q
theorem w_fxs_at {w : Bool} : ∀ (its : List (wI × wF)) (k : Nat) (i : wI) (F : wF), its.reverse[k]? = some (i, F) → ∀ q, q ∈ w_fx w (w_at w its k) i [] → q ∈ w_fxs w w_z its := by
  intro its
  induction its with
  | nil => intro k i F h; simp at h
  | cons e its ih =>
    intro k i F h q hq
    have hk := oNth_lt h
    simp only [List.length_cons] at hk
    show q ∈ w_fx w (w_by_ w w_z its).length e.1 (w_fxs w w_z its)
    rw [w_fx_app]
    by_cases c : k = its.length
    · have he : e = (i, F) := by
        rw [List.reverse_cons, c, List.getElem?_append_right (by simp)] at h
        simpa using h
      rw [w_at_cons w e its (by omega), c, w_at_len] at hq
      rw [he]
      exact List.mem_append_left _ hq
    · have h' : its.reverse[k]? = some (i, F) := by
        rw [List.reverse_cons, List.getElem?_append_left (by simp; omega)] at h; exact h
      rw [w_at_cons w e its (by omega)] at hq
      exact List.mem_append_right _ (ih k i F h' q hq)
/-- the place of an item -/
abbrev cA (w : Bool) (G : wG) (k : Nat) : Nat := w_at w (g_it G) k
abbrev cO (w : Bool) (G : wG) : Nat → Nat → Int32 := w_off w (g_it G) (g_lat G)
theorem c_lt (w : Bool) (G : wG) {j k : Nat} (h : j < k) (hk : k ≤ (g_it G).length) : cA w G j < cA w G k := w_at_lt w (g_it G) h hk
theorem c_le (w : Bool) (G : wG) {j k : Nat} (h : j ≤ k) (hk : k ≤ (g_it G).length) : cA w G j ≤ cA w G k := w_at_le w (g_it G) h hk
theorem c_seg (w : Bool) (hk : (g_it G).reverse[k]? = some (i, F)) : (∀ (j : Nat) (v : Int32), (w_enc w (cO w G) (cA w G k) i)[j]? = some v → (uBy (G, w))[cA w G k + j]? = some v) ∧ cA w G (k + 1) = cA w G k + (w_enc w (cO w G) (cA w G k) i).length := w_seg w (cO w G) (g_it G) k i F hk
theorem c_len (w : Bool) (hk : (g_it G).reverse[k]? = some (i, F)) : cA w G k < uLen (G, w) ∧ cA w G (k + 1) ≤ uLen (G, w) := by
  have h := oNth_lt hk
  have e := w_at_len w (g_it G)
  have a := w_at_lt w (g_it G) h (Nat.le_refl _)
  have b := w_at_le w (g_it G) (show k + 1 ≤ (g_it G).length from h) (Nat.le_refl _)
  rw [e] at a b
  exact ⟨a, b⟩
theorem c_offp {p l j : Nat} (h : g_lat G l = some j) : nI p + cO w G p l = nI (cA w G j) := by
  show nI p + ((match g_lat G l with | none => (-1 : Int32) | some i => nI (w_at w (g_it G) i)) - nI p) = _
  rw [h]
  show nI p + (nI (w_at w (g_it G) j) - nI p) = _
  rw [Int32.add_comm, Int32.sub_add_cancel]
/-- an offset of two bytes -/
theorem c_near {p l : Nat} (hf : w_far w G = false) (hq : (p, l) ∈ (w_fx w (cA w G k) i []).map (fun q => (q.2.1, q.2.2.1))) (h4 : ∀ q, q ∈ w_fx w (cA w G k) i [] → q.2.2.2 = false) (hk : (g_it G).reverse[k]? = some (i, F)) : -32768 ≤ (cO w G p l).toInt ∧ (cO w G p l).toInt ≤ 32767 := by
  obtain ⟨q, q1, q2⟩ := List.mem_map.mp hq
  have m := w_fxs_at (g_it G) k i F hk q q1
  have := List.any_eq_false.mp hf q m
  unfold w_fq at this
  rw [h4 q q1] at this
  have e1 : q.2.1 = p := congrArg Prod.fst q2
  have e2 : q.2.2.1 = l := congrArg Prod.snd q2
  rw [e1, e2] at this
  have s : sp_i (cO w G p l) (-32768) 32767 = true := by simpa using this
  unfold sp_i at s
  rw [Bool.and_eq_true, decide_eq_true_eq, decide_eq_true_eq, Int32.le_iff_toInt_le, Int32.le_iff_toInt_le] at s
  exact s
/-! places and depths -/
def cWb (w : Bool) (i : wI) : Prop := w = true ∧ i.1 = 21
abbrev cN (i : wI) : Nat := if i.2.1 ≤ 158 then 1 else 2
def cPL (w : Bool) (G : wG) (p e : Nat) : Prop := ∃ k i F, (g_it G).reverse[k]? = some (i, F) ∧ ((p = cA w G k ∧ e = F.2.length) ∨ (cWb w i ∧ p = cA w G k + 3 ∧ e + cN i = F.2.length))
def cSU (w : Bool) (G : wG) (p t : Nat) : Prop := ∃ k i F, (g_it G).reverse[k]? = some (i, F) ∧ ((p = cA w G k ∧ ¬ cWb w i ∧ ((oTerm i = false ∧ t = cA w G (k + 1)) ∨ ∃ q j, q ∈ i.2.2.2.2 ∧ g_lat G q.2 = some j ∧ t = cA w G j))
  ∨ (cWb w i ∧ p = cA w G k ∧ (t = cA w G (k + 1) ∨ t = cA w G k + 3)) ∨ (cWb w i ∧ p = cA w G k + 3 ∧ ∃ q j, q ∈ i.2.2.2.2 ∧ g_lat G q.2 = some j ∧ t = cA w G j))
theorem cWb.len {o : Nat → Nat → Int32} {p : Nat} (h : cWb w i) : (w_enc w o p i).length = 8 := by
  obtain ⟨rfl, h⟩ := h
  unfold w_enc; rw [h]; rfl
theorem c_inj {k' : Nat} {i' : wI} {F' : wF} (hk : (g_it G).reverse[k]? = some (i, F)) (hk' : (g_it G).reverse[k']? = some (i', F')) (h : cA w G k = cA w G k') : k = k' := by
  have a := oNth_lt hk
  have b := oNth_lt hk'
  rcases Nat.lt_trichotomy k k' with q | q | q
  · have := c_lt w G q (by omega); omega
  · exact q
  · have := c_lt w G q (by omega); omega
theorem c_mid {k' : Nat} {i' : wI} {F' : wF} (hk : (g_it G).reverse[k]? = some (i, F)) (hk' : (g_it G).reverse[k']? = some (i', F')) (hw : cWb w i') (h : cA w G k = cA w G k' + 3) : False := by
  have a := oNth_lt hk
  have b := oNth_lt hk'
  have e := (c_seg w hk').2
  rw [hw.len] at e
  rcases Nat.lt_or_ge k' k with q | q
  · have := c_le w G (show k' + 1 ≤ k from q) (by omega)
    omega
  · have := c_le w G q (by omega)
    omega
theorem c_mid2 {k' : Nat} {i' : wI} {F' : wF} (hk : (g_it G).reverse[k]? = some (i, F)) (hk' : (g_it G).reverse[k']? = some (i', F')) (h : cA w G k + 3 = cA w G k' + 3) : k = k' := c_inj (w := w) hk hk' (by omega)
theorem cPL.fn {p e e' : Nat} (a : cPL w G p e) (b : cPL w G p e') : e = e' := by
  obtain ⟨k, i, F, hk, a⟩ := a
  obtain ⟨k', i', F', hk', b⟩ := b
  rcases a with ⟨a1, a2⟩ | ⟨a0, a1, a2⟩ <;> rcases b with ⟨b1, b2⟩ | ⟨b0, b1, b2⟩
  · have := c_inj hk hk' (a1.symm.trans b1)
    subst this; rw [hk] at hk'; cases hk'; omega
  · exact (c_mid hk hk' b0 (a1.symm.trans b1)).elim
  · exact (c_mid hk' hk a0 (b1.symm.trans a1)).elim
  · have := c_mid2 hk hk' (a1.symm.trans b1)
    subst this; rw [hk] at hk'; cases hk'; omega
theorem cPL.bd (hD : cD nt M res par ret G) {p e : Nat} (a : cPL w G p e) : p < uLen (G, w) ∧ e ≤ g_ms G := by
  obtain ⟨k, i, F, hk, a⟩ := a
  obtain ⟨K, -, -, -, -, t4, -⟩ := hD.1 k i F hk
  have l := c_len w hk
  rcases a with ⟨a1, a2⟩ | ⟨a0, a1, a2⟩
  · exact ⟨by omega, by omega⟩
  · have e := (c_seg w hk).2
    rw [a0.len] at e
    exact ⟨by omega, by omega⟩
theorem c_next (hD : cD nt M res par ret G) (hk : (g_it G).reverse[k]? = some (i, F)) : ∃ K, oTy nt M res par ret (g_po G) i F K ∧ (oTerm i = false → cPL w G (cA w G (k + 1)) K.2.length) ∧ (∀ q, q ∈ i.2.2.2.2 → ∃ j, g_lat G q.2 = some j ∧ cPL w G (cA w G j) K.2.length ∧ cA w G j < uLen (G, w)) ∧ F.2.length ≤ g_ms G ∧ K.2.length ≤ g_ms G := by
  obtain ⟨K, t1, t2, t3, t4, t5, t6, t7⟩ := hD.1 k i F hk
  refine ⟨K, t1, fun q => ?_, fun q hq => ?_, t5, t7⟩
  · obtain ⟨i', D, d1, d2⟩ := t2 q
    exact ⟨k + 1, i', D, d1, Or.inl ⟨rfl, by rw [d2.2]⟩⟩
  · obtain ⟨j, i', D, d0, d1, d2⟩ := t3 q hq
    exact ⟨j, d0, ⟨j, i', D, d1, Or.inl ⟨rfl, by rw [d2.2]⟩⟩, (c_len w d1).1⟩
end
