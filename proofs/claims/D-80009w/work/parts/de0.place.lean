/-! places of items -/
/-- the place of the k-th item -/
def w_at (w : Bool) (l : List (wI × wF)) (k : Nat) : Nat := (w_by_ w w_z (l.drop (l.length - k))).length
theorem w_at_len (w : Bool) (l : List (wI × wF)) : w_at w l l.length = (w_by_ w w_z l).length := by unfold w_at; rw [Nat.sub_self]; rfl
theorem w_at_cons (w : Bool) (i : wI × wF) (l : List (wI × wF)) {k : Nat} (h : k ≤ l.length) : w_at w (i :: l) k = w_at w l k := by
  unfold w_at
  rw [List.length_cons, show l.length + 1 - k = (l.length - k) + 1 by omega]; rfl
theorem w_at_app (w : Bool) (e l : List (wI × wF)) {k : Nat} (h : k ≤ l.length) : w_at w (e ++ l) k = w_at w l k := by
  induction e with
  | nil => rfl
  | cons i e ih => rw [List.cons_append, w_at_cons w i (e ++ l) (by rw [List.length_append]; omega), ih]
theorem w_by_mono (w : Bool) (o : Nat → Nat → Int32) (e l : List (wI × wF)) : (w_by_ w o l).length ≤ (w_by_ w o (e ++ l)).length := by
  induction e with
  | nil => exact Nat.le_refl _
  | cons i e ih => show _ ≤ (w_by_ w o (e ++ l) ++ w_enc w o (w_by_ w o (e ++ l)).length i.1).length; rw [List.length_append]; omega
theorem w_enc_pos (w : Bool) (o : Nat → Nat → Int32) (p : Nat) (i : wI) : 1 ≤ (w_enc w o p i).length := by
  unfold w_enc
  split
  · unfold w_cst; repeat' split
    all_goals simp
  · repeat' split
    all_goals simp
  · unfold w_loc; repeat' split
    all_goals simp
  · unfold w_loc; repeat' split
    all_goals simp
  · simp
  · simp
  · split <;> simp
  · simp
  · simp
  · simp
  · simp
  · simp
  · simp
  · simp
  · simp
  · simp
  · simp
  · cases w <;> simp
  · cases w <;> simp
  · simp
  · simp
  · simp
theorem w_at_s (w : Bool) (l : List (wI × wF)) {j : Nat} (h : j < l.length) : w_at w l j < w_at w l (j + 1) := by
  unfold w_at
  have e : l.drop (l.length - (j + 1)) = l[l.length - (j + 1)] :: l.drop (l.length - j) := by
    rw [List.drop_eq_getElem_cons (show l.length - (j + 1) < l.length by omega), show l.length - (j + 1) + 1 = l.length - j by omega]
  rw [e]
  show _ < (w_by_ w w_z (l.drop (l.length - j)) ++ w_enc w w_z (w_by_ w w_z (l.drop (l.length - j))).length l[l.length - (j + 1)].1).length
  rw [List.length_append]
  have := w_enc_pos w w_z (w_by_ w w_z (l.drop (l.length - j))).length l[l.length - (j + 1)].1
  omega
theorem w_at_lt (w : Bool) (l : List (wI × wF)) {j k : Nat} (h : j < k) (hk : k ≤ l.length) : w_at w l j < w_at w l k := by
  obtain ⟨m, rfl⟩ : ∃ m, k = j + 1 + m := ⟨k - (j + 1), by omega⟩
  induction m with
  | zero => exact w_at_s w l (by omega)
  | succ m ih => exact Nat.lt_trans (ih (by omega) (by omega)) (w_at_s w l (j := j + 1 + m) (by omega))
theorem w_at_le (w : Bool) (l : List (wI × wF)) {j k : Nat} (h : j ≤ k) (hk : k ≤ l.length) : w_at w l j ≤ w_at w l k := by
  by_cases q : j = k
  · rw [q]; exact Nat.le_refl _
  · exact Nat.le_of_lt (w_at_lt w l (by omega) hk)
theorem w_at_top (w : Bool) (l : List (wI × wF)) {k : Nat} (hk : k ≤ l.length) : w_at w l k ≤ (w_by_ w w_z l).length := by
  rw [← w_at_len]; exact w_at_le w l hk (Nat.le_refl _)
/-! how many jumps there are -/
theorem w_fes_len (p : Nat) : ∀ (l : List (Int32 × Nat)) (a s : Nat) (r : List (Nat × Nat × Nat × Bool)), (w_fes p a s l r).length = r.length + l.length := by
  intro l
  induction l with
  | nil => intro a s r; rfl
  | cons q l ih => intro a s r; unfold w_fes; rw [ih]; simp only [List.length_cons]; omega
theorem w_ent_len (o : Nat → Int32) : ∀ l : List (Int32 × Nat), (w_ent o l).length = 4 * l.length := by
  intro l
  induction l with
  | nil => rfl
  | cons q l ih => unfold w_ent; rw [List.length_append, ih]; simp only [o32, List.length_cons, List.length_nil]; omega
theorem w_lke_len (o : Nat → Int32) : ∀ l : List (Int32 × Nat), (w_lke o l).length = 8 * l.length := by
  intro l
  induction l with
  | nil => rfl
  | cons q l ih => unfold w_lke; rw [List.length_append, List.length_append, ih]; simp only [o32, List.length_cons, List.length_nil]; omega
theorem w_fx_len (w : Bool) (o : Nat → Nat → Int32) (p : Nat) (i : wI) (r : List (Nat × Nat × Nat × Bool)) : 3 * (w_fx w p i r).length ≤ 3 * r.length + (w_enc w o p i).length := by
  unfold w_fx
  split
  · rename_i e
    unfold w_enc; rw [e]; cases w <;> simp [o16, o32] <;> omega
  · rename_i e
    unfold w_enc; rw [e]; cases w <;> simp [o16, o32] <;> omega
  · rename_i e
    unfold w_enc; rw [e]
    cases h : i.2.2.2.2 with
    | nil => simp
    | cons q l =>
      simp only [w_fes_len, List.length_append, List.length_cons, List.length_nil, w_ent_len, o32]
      omega
  · rename_i e
    unfold w_enc; rw [e]
    cases h : i.2.2.2.2 with
    | nil => simp
    | cons q l =>
      simp only [w_fes_len, List.length_append, List.length_cons, List.length_nil, w_lke_len, o32]
      omega
  · omega
theorem w_fxs_len (w : Bool) (o : Nat → Nat → Int32) : ∀ l : List (wI × wF), 3 * (w_fxs w o l).length ≤ (w_by_ w o l).length := by
  intro l
  induction l with
  | nil => exact Nat.le_refl _
  | cons i r ih =>
    show 3 * (w_fx w (w_by_ w o r).length i.1 (w_fxs w o r)).length ≤ (w_by_ w o r ++ w_enc w o (w_by_ w o r).length i.1).length
    rw [List.length_append]
    have := w_fx_len w o (w_by_ w o r).length i.1 (w_fxs w o r)
    omega
/-! jumps of two bytes take no more than those of four -/
theorem w_enc_nw (o o' : Nat → Nat → Int32) {p p' : Nat} (hp : p ≤ p') (i : wI) (w' : Bool) : p + (w_enc false o p i).length ≤ p' + (w_enc w' o' p' i).length := by
  unfold w_enc
  split
  · omega
  · omega
  · omega
  · omega
  · simp; omega
  · simp; omega
  · split <;> simp [o16] <;> omega
  · simp; omega
  · simp; omega
  · simp; omega
  · simp; omega
  · simp; omega
  · simp; omega
  · simp; omega
  · simp; omega
  · simp [o16]; omega
  · simp; omega
  · cases w' <;> simp [o16, o32] <;> omega
  · cases w' <;> simp [o16, o32] <;> omega
  · cases i.2.2.2.2 with
    | nil => simp only [List.length_append, List.length_cons, List.length_nil, w_pad, List.length_replicate]; omega
    | cons d r => simp only [List.length_append, List.length_cons, List.length_nil, w_pad, List.length_replicate, o32, w_ent_len]; omega
  · cases i.2.2.2.2 with
    | nil => simp only [List.length_append, List.length_cons, List.length_nil, w_pad, List.length_replicate]; omega
    | cons d r => simp only [List.length_append, List.length_cons, List.length_nil, w_pad, List.length_replicate, o32, w_lke_len]; omega
  · simp; omega
theorem w_by_nw (o o' : Nat → Nat → Int32) (w' : Bool) : ∀ l : List (wI × wF), (w_by_ false o l).length ≤ (w_by_ w' o' l).length := by
  intro l
  induction l with
  | nil => exact Nat.le_refl _
  | cons i r ih =>
    show (w_by_ false o r ++ w_enc false o (w_by_ false o r).length i.1).length ≤ (w_by_ w' o' r ++ w_enc w' o' (w_by_ w' o' r).length i.1).length
    rw [List.length_append, List.length_append]
    exact w_enc_nw o o' ih i.1 w'
