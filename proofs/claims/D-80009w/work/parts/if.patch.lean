/-! offsets are laid into what was written -/
/-- the offset of a jump: where its label lies, less from where it counts -/
def w_off (w : Bool) (its : List (wI × wF)) (lat : Nat → Option Nat) (p l : Nat) : Int32 := (match lat l with | none => (-1 : Int32) | some i => nI (w_at w its i)) - nI p
def w_put4 (b : Nat) (v : Int32) (a : Nat → Int32) : Nat → Int32 := upd (upd (upd (upd a b (o8 (v >>> 24))) (b + 1) (o8 (v >>> 16))) (b + 2) (o8 (v >>> 8))) (b + 3) (o8 v)
def w_put2 (b : Nat) (v : Int32) (a : Nat → Int32) : Nat → Int32 := upd (upd a b (o8 (v >>> 8))) (b + 1) (o8 v)
/-- a jump is laid -/
def w_p1 (o : Nat → Nat → Int32) (b : Nat) (q : Nat × Nat × Nat × Bool) (a : Nat → Int32) : Nat → Int32 := bif q.2.2.2 then w_put4 (b + q.1) (o q.2.1 q.2.2.1) a else w_put2 (b + q.1) (o q.2.1 q.2.2.1) a
/-- all are laid, the oldest first -/
def w_pat (o : Nat → Nat → Int32) (b : Nat) : List (Nat × Nat × Nat × Bool) → (Nat → Int32) → Nat → Int32
  | [], a => a
  | q :: r, a => w_p1 o b q (w_pat o b r a)
theorem w_put4_at {b : Nat} {v : Int32} {a : Nat → Int32} {j : Nat} (h : j < b ∨ b + 4 ≤ j) : w_put4 b v a j = a j := by
  unfold w_put4
  rw [pk_un (by omega), pk_un (by omega), pk_un (by omega), pk_un (by omega)]
theorem w_put2_at {b : Nat} {v : Int32} {a : Nat → Int32} {j : Nat} (h : j < b ∨ b + 2 ≤ j) : w_put2 b v a j = a j := by
  unfold w_put2
  rw [pk_un (by omega), pk_un (by omega)]
theorem z_ar.app {arr : Nat → Int32} {b : Nat} {l r : List Int32} : z_ar arr b (l ++ r) ↔ z_ar arr b l ∧ z_ar arr (b + l.length) r := by
  constructor
  · intro h
    refine ⟨fun j v hj => h j v ?_, fun j v hj => ?_⟩
    · have : j < l.length := by
        rcases Nat.lt_or_ge j l.length with q | q
        · exact q
        · rw [List.getElem?_eq_none q] at hj; simp at hj
      rw [List.getElem?_append_left this]; exact hj
    · have := h (l.length + j) v (by rw [List.getElem?_append_right (by omega), Nat.add_sub_cancel_left]; exact hj)
      rw [Nat.add_assoc]; exact this
  · rintro ⟨h1, h2⟩ j v hj
    by_cases q : j < l.length
    · rw [List.getElem?_append_left q] at hj; exact h1 j v hj
    · rw [List.getElem?_append_right (by omega)] at hj
      have := h2 (j - l.length) v hj
      rw [show b + l.length + (j - l.length) = b + j by omega] at this; exact this
theorem z_ar.cons {arr : Nat → Int32} {b : Nat} {v : Int32} {r : List Int32} : z_ar arr b (v :: r) ↔ arr b = v ∧ z_ar arr (b + 1) r := by
  constructor
  · intro h
    refine ⟨h 0 v rfl, fun j u hj => ?_⟩
    have := h (j + 1) u hj
    rw [show b + 1 + j = b + (j + 1) by omega]; exact this
  · rintro ⟨h1, h2⟩ j u hj
    cases j with
    | zero => injection hj with hj; rw [← hj]; exact h1
    | succ j => have := h2 j u hj; rw [show b + (j + 1) = b + 1 + j by omega]; exact this
theorem z_ar.nil {arr : Nat → Int32} {b : Nat} : z_ar arr b [] := fun j v hj => by simp at hj
theorem z_ar.same {arr arr' : Nat → Int32} {b : Nat} {l : List Int32} (h : z_ar arr b l) (e : ∀ j, b ≤ j → j < b + l.length → arr' j = arr j) : z_ar arr' b l := by
  intro j v hj
  have : j < l.length := by
    rcases Nat.lt_or_ge j l.length with q | q
    · exact q
    · rw [List.getElem?_eq_none q] at hj; simp at hj
  rw [e _ (by omega) (by omega)]; exact h j v hj
theorem z_ar_put4 {b : Nat} {v : Int32} {a : Nat → Int32} : z_ar (w_put4 b v a) b (o32 v) := by
  unfold o32 w_put4
  refine z_ar.cons.mpr ⟨?_, z_ar.cons.mpr ⟨?_, z_ar.cons.mpr ⟨?_, z_ar.cons.mpr ⟨?_, z_ar.nil⟩⟩⟩⟩
  · rw [pk_un (by omega), pk_un (by omega), pk_un (by omega), pk_us]
  · rw [pk_un (by omega), pk_un (by omega), pk_us]
  · rw [pk_un (by omega), pk_us]
  · rw [show b + 1 + 1 + 1 = b + 3 from rfl, pk_us]
theorem z_ar_put2 {b : Nat} {v : Int32} {a : Nat → Int32} : z_ar (w_put2 b v a) b (o16 v) := by
  unfold o16 w_put2
  refine z_ar.cons.mpr ⟨?_, z_ar.cons.mpr ⟨?_, z_ar.nil⟩⟩
  · rw [pk_un (by omega), pk_us]
  · rw [pk_us]
/-- a table's entries; the fixes are laid from the first on -/
theorem w_pat_ent {o : Nat → Nat → Int32} {b p : Nat} (s : Nat) (a0 : Nat) : ∀ (l : List (Int32 × Nat)) (r : List (Nat × Nat × Nat × Bool)) (a : Nat → Int32), w_pat o b (w_fes p a0 s l r) a = w_pat o b (w_fes p a0 s l []) (w_pat o b r a) := by
  intro l
  induction l generalizing a0 with
  | nil => intro r a; rfl
  | cons q l ih =>
    intro r a
    show w_pat o b (w_fes p (a0 + s) s l ((a0, p, q.2, true) :: r)) a = w_pat o b (w_fes p (a0 + s) s l [(a0, p, q.2, true)]) (w_pat o b r a)
    rw [ih (a0 + s) ((a0, p, q.2, true) :: r) a, ih (a0 + s) [(a0, p, q.2, true)] (w_pat o b r a)]
    rfl
/-- entries of a table -/
theorem w_pat_e4 {o : Nat → Nat → Int32} {b p : Nat} : ∀ (l : List (Int32 × Nat)) (a0 : Nat) (a : Nat → Int32), z_ar (w_pat o b (w_fes p a0 4 l []) a) (b + a0) (w_ent (o p) l) ∧ ∀ j, (j < b + a0 ∨ b + a0 + 4 * l.length ≤ j) → w_pat o b (w_fes p a0 4 l []) a j = a j := by
  intro l
  induction l with
  | nil => intro a0 a; exact ⟨z_ar.nil, fun j _ => rfl⟩
  | cons q l ih =>
    intro a0 a
    show z_ar (w_pat o b (w_fes p (a0 + 4) 4 l [(a0, p, q.2, true)]) a) (b + a0) (o32 (o p q.2) ++ w_ent (o p) l) ∧ ∀ j, _ → w_pat o b (w_fes p (a0 + 4) 4 l [(a0, p, q.2, true)]) a j = a j
    rw [w_pat_ent 4 (a0 + 4) l [(a0, p, q.2, true)] a]
    obtain ⟨i1, i2⟩ := ih (a0 + 4) (w_pat o b [(a0, p, q.2, true)] a)
    refine ⟨z_ar.app.mpr ⟨?_, ?_⟩, fun j hj => ?_⟩
    · refine (z_ar_put4 (b := b + a0) (v := o p q.2) (a := a)).same (fun j h1 h2 => ?_)
      rw [i2 j (Or.inl (by have h2 : j < b + a0 + 4 := h2; omega))]; rfl
    · exact i1
    · simp only [List.length_cons] at hj
      rw [i2 j (by omega)]
      show w_put4 (b + a0) (o p q.2) a j = a j
      exact w_put4_at (by omega)
theorem w_pat_e8 {o : Nat → Nat → Int32} {b p : Nat} : ∀ (l : List (Int32 × Nat)) (a0 : Nat) (a : Nat → Int32), z_ar a (b + a0) (w_lke (fun _ => 0) l) → z_ar (w_pat o b (w_fes p (a0 + 4) 8 l []) a) (b + a0) (w_lke (o p) l) ∧ ∀ j, (j < b + a0 ∨ b + a0 + 8 * l.length ≤ j) → w_pat o b (w_fes p (a0 + 4) 8 l []) a j = a j := by
  intro l
  induction l with
  | nil => intro a0 a _; exact ⟨z_ar.nil, fun j _ => rfl⟩
  | cons q l ih =>
    intro a0 a hz
    have hz : z_ar a (b + a0) (o32 q.1 ++ (o32 0 ++ w_lke (fun _ => 0) l)) := hz
    obtain ⟨z1, z2⟩ := z_ar.app.mp hz
    obtain ⟨z2, z3⟩ := z_ar.app.mp z2
    show z_ar (w_pat o b (w_fes p (a0 + 4 + 8) 8 l [(a0 + 4, p, q.2, true)]) a) (b + a0) (o32 q.1 ++ (o32 (o p q.2) ++ w_lke (o p) l)) ∧ ∀ j, _ → w_pat o b (w_fes p (a0 + 4 + 8) 8 l [(a0 + 4, p, q.2, true)]) a j = a j
    rw [w_pat_ent 8 (a0 + 4 + 8) l [(a0 + 4, p, q.2, true)] a]
    have hz' : z_ar (w_pat o b [(a0 + 4, p, q.2, true)] a) (b + (a0 + 8)) (w_lke (fun _ => 0) l) := by
      refine (show z_ar a (b + (a0 + 8)) (w_lke (fun _ => 0) l) from z3).same (fun j h1 h2 => ?_)
      show w_put4 (b + (a0 + 4)) (o p q.2) a j = a j
      exact w_put4_at (by omega)
    obtain ⟨i1, i2⟩ := ih (a0 + 8) (w_pat o b [(a0 + 4, p, q.2, true)] a) hz'
    refine ⟨z_ar.app.mpr ⟨?_, z_ar.app.mpr ⟨?_, ?_⟩⟩, fun j hj => ?_⟩
    · refine z1.same (fun j h1 h2 => ?_)
      have h2 : j < b + a0 + 4 := h2
      rw [show a0 + 4 + 8 = a0 + 8 + 4 by omega, i2 j (Or.inl (by omega))]
      show w_put4 (b + (a0 + 4)) (o p q.2) a j = a j
      exact w_put4_at (by omega)
    · refine (z_ar_put4 (b := b + a0 + 4) (v := o p q.2) (a := a)).same (fun j h1 h2 => ?_)
      have h1 : b + a0 + 4 ≤ j := h1
      have h2 : j < b + a0 + 4 + 4 := h2
      rw [show a0 + 4 + 8 = a0 + 8 + 4 by omega, i2 j (Or.inl (by omega))]
      rfl
    · rw [show a0 + 4 + 8 = a0 + 8 + 4 by omega]; exact i1
    · simp only [List.length_cons] at hj
      rw [show a0 + 4 + 8 = a0 + 8 + 4 by omega, i2 j (by omega)]
      show w_put4 (b + (a0 + 4)) (o p q.2) a j = a j
      exact w_put4_at (by omega)
theorem o32_0 : o32 (0 : Int32) = [0, 0, 0, 0] := rfl
theorem w_pad_len (p : Nat) : (w_pad p).length = 3 - p % 4 := by unfold w_pad; exact List.length_replicate
/-- one item -/
theorem w_enc_o {w : Bool} {o : Nat → Nat → Int32} {p : Nat} {i : wI} (h0 : i.1 ≠ 20) (h1 : i.1 ≠ 21) (h2 : i.1 ≠ 22) (h3 : i.1 ≠ 23) : w_enc w o p i = w_enc w w_z p i ∧ ∀ r, w_fx w p i r = r := by
  constructor
  · unfold w_enc; split <;> first | rfl | (exfalso; apply h0; assumption) | (exfalso; apply h1; assumption) | (exfalso; apply h2; assumption) | (exfalso; apply h3; assumption)
  · intro r; unfold w_fx; split <;> first | rfl | (exfalso; apply h0; assumption) | (exfalso; apply h1; assumption) | (exfalso; apply h2; assumption) | (exfalso; apply h3; assumption)
theorem w_by_ln (w : Bool) (o : Nat → Nat → Int32) : ∀ l : List (wI × wF), (w_by_ w o l).length = (w_by_ w w_z l).length := by
  have enc : ∀ (p : Nat) (i : wI), (w_enc w o p i).length = (w_enc w w_z p i).length := by
    intro p i
    obtain ⟨t, a, c, v, l⟩ := i
    by_cases k0 : t = 20
    · subst k0; show (bif w then _ else _ : List Int32).length = (bif w then _ else _ : List Int32).length; cases w <;> rfl
    by_cases k1 : t = 21
    · subst k1; show (bif w then _ else _ : List Int32).length = (bif w then _ else _ : List Int32).length; cases w <;> rfl
    by_cases k2 : t = 22
    · subst k2
      cases l with
      | nil => rfl
      | cons d r =>
        show ([o8 170] ++ (w_pad p ++ (o32 (o p d.2) ++ (o32 (match r.head? with | some q => q.1 | none => 0) ++ (o32 (match r.getLast? with | some q => q.1 | none => 0) ++ w_ent (o p) r))))).length = ([o8 170] ++ (w_pad p ++ (o32 (w_z p d.2) ++ (o32 (match r.head? with | some q => q.1 | none => 0) ++ (o32 (match r.getLast? with | some q => q.1 | none => 0) ++ w_ent (w_z p) r))))).length
        simp only [List.length_append, w_ent_len]; rfl
    by_cases k3 : t = 23
    · subst k3
      cases l with
      | nil => rfl
      | cons d r =>
        show ([o8 171] ++ (w_pad p ++ (o32 (o p d.2) ++ (o32 (nI r.length) ++ w_lke (o p) r)))).length = ([o8 171] ++ (w_pad p ++ (o32 (w_z p d.2) ++ (o32 (nI r.length) ++ w_lke (w_z p) r)))).length
        simp only [List.length_append, w_lke_len]; rfl
    rw [(w_enc_o (i := (t, a, c, v, l)) k0 k1 k2 k3).1]
  intro l
  induction l with
  | nil => rfl
  | cons i r ih =>
    show (w_by_ w o r ++ w_enc w o (w_by_ w o r).length i.1).length = (w_by_ w w_z r ++ w_enc w w_z (w_by_ w w_z r).length i.1).length
    rw [List.length_append, List.length_append, ih, enc]
theorem w_pat_i {w : Bool} {o : Nat → Nat → Int32} {b p : Nat} {i : wI} {a : Nat → Int32} (h : z_ar a (b + p) (w_enc w w_z p i)) : z_ar (w_pat o b (w_fx w p i []) a) (b + p) (w_enc w o p i) ∧ ∀ j, (j < b + p ∨ b + p + (w_enc w w_z p i).length ≤ j) → w_pat o b (w_fx w p i []) a j = a j := by
  obtain ⟨t, c0, c1, c2, l⟩ := i
  by_cases k0 : t = 20
  · subst k0
    cases w
    · have h : z_ar a (b + p) ([o8 167] ++ o16 0) := h
      obtain ⟨h1, h2⟩ := z_ar.app.mp h
      refine ⟨?_, fun j hj => ?_⟩
      · show z_ar (w_put2 (b + (p + 1)) (o p (w_l0 (20, c0, c1, c2, l))) a) (b + p) ([o8 167] ++ o16 (o p (w_l0 (20, c0, c1, c2, l))))
        refine z_ar.app.mpr ⟨h1.same (fun j q1 q2 => ?_), z_ar_put2 (b := b + (p + 1))⟩
        have q2 : j < b + p + 1 := q2
        exact w_put2_at (by omega)
      · have hj : j < b + p ∨ b + p + 3 ≤ j := hj
        show w_put2 (b + (p + 1)) _ a j = a j
        exact w_put2_at (by omega)
    · have h : z_ar a (b + p) ([o8 200] ++ o32 0) := h
      obtain ⟨h1, h2⟩ := z_ar.app.mp h
      refine ⟨?_, fun j hj => ?_⟩
      · show z_ar (w_put4 (b + (p + 1)) (o p (w_l0 (20, c0, c1, c2, l))) a) (b + p) ([o8 200] ++ o32 (o p (w_l0 (20, c0, c1, c2, l))))
        refine z_ar.app.mpr ⟨h1.same (fun j q1 q2 => ?_), z_ar_put4 (b := b + (p + 1))⟩
        have q2 : j < b + p + 1 := q2
        exact w_put4_at (by omega)
      · have hj : j < b + p ∨ b + p + 5 ≤ j := hj
        show w_put4 (b + (p + 1)) _ a j = a j
        exact w_put4_at (by omega)
  by_cases k1 : t = 21
  · subst k1
    cases w
    · have h : z_ar a (b + p) ([o8 (nI c0)] ++ o16 0) := h
      obtain ⟨h1, h2⟩ := z_ar.app.mp h
      refine ⟨?_, fun j hj => ?_⟩
      · show z_ar (w_put2 (b + (p + 1)) (o p (w_l0 (21, c0, c1, c2, l))) a) (b + p) ([o8 (nI c0)] ++ o16 (o p (w_l0 (21, c0, c1, c2, l))))
        refine z_ar.app.mpr ⟨h1.same (fun j q1 q2 => ?_), z_ar_put2 (b := b + (p + 1))⟩
        have q2 : j < b + p + 1 := q2
        exact w_put2_at (by omega)
      · have hj : j < b + p ∨ b + p + 3 ≤ j := hj
        show w_put2 (b + (p + 1)) _ a j = a j
        exact w_put2_at (by omega)
    · have h : z_ar a (b + p) ([o8 (nI (w_ctr c0))] ++ (o16 8 ++ ([o8 200] ++ o32 0))) := h
      obtain ⟨h1, h2⟩ := z_ar.app.mp h
      obtain ⟨h2, h3⟩ := z_ar.app.mp h2
      obtain ⟨h3, h4⟩ := z_ar.app.mp h3
      refine ⟨?_, fun j hj => ?_⟩
      · show z_ar (w_put4 (b + (p + 7 - 3)) (o (p + 3) (w_l0 (21, c0, c1, c2, l))) a) (b + p) ([o8 (nI (w_ctr c0))] ++ (o16 8 ++ ([o8 200] ++ o32 (o (p + 3) (w_l0 (21, c0, c1, c2, l))))))
        refine z_ar.app.mpr ⟨h1.same (fun j q1 q2 => ?_), z_ar.app.mpr ⟨h2.same (fun j q1 q2 => ?_), z_ar.app.mpr ⟨h3.same (fun j q1 q2 => ?_), z_ar_put4 (b := b + (p + 7 - 3))⟩⟩⟩
        · have q2 : j < b + p + 1 := q2
          exact w_put4_at (by omega)
        · have q2 : j < b + p + 1 + 2 := q2
          exact w_put4_at (by omega)
        · have q2 : j < b + p + 1 + 2 + 1 := q2
          exact w_put4_at (by omega)
      · have hj : j < b + p ∨ b + p + 8 ≤ j := hj
        show w_put4 (b + (p + 7 - 3)) _ a j = a j
        exact w_put4_at (by omega)
  have hp := w_pad_len p
  have l1 : ∀ v : Int32, ([v] : List Int32).length = 1 := fun _ => rfl
  have l4 : ∀ v, (o32 v).length = 4 := fun _ => rfl
  have m4 : p % 4 < 4 := Nat.mod_lt _ (by decide)
  have mle : p % 4 ≤ p := Nat.mod_le _ _
  have q1 : ∀ (lb j : Nat), (j < b + (p + 4 - p % 4) ∨ b + (p + 4 - p % 4) + 4 ≤ j) → w_pat o b [(p + 4 - p % 4, p, lb, true)] a j = a j := fun lb j hj => by
    show w_put4 (b + (p + 4 - p % 4)) _ a j = a j
    exact w_put4_at hj
  by_cases k2 : t = 22
  · subst k2
    cases l with
    | nil => exact ⟨h, fun j _ => rfl⟩
    | cons d r =>
      generalize hv1 : (match r.head? with | some q => q.1 | none => (0 : Int32)) = v1
      generalize hv2 : (match r.getLast? with | some q => q.1 | none => (0 : Int32)) = v2
      have E : ∀ o' : Nat → Nat → Int32, w_enc w o' p (22, c0, c1, c2, d :: r) = [o8 170] ++ (w_pad p ++ (o32 (o' p d.2) ++ (o32 v1 ++ (o32 v2 ++ w_ent (o' p) r)))) := fun o' => by rw [← hv1, ← hv2]; rfl
      have Ef : w_fx w p (22, c0, c1, c2, d :: r) [] = w_fes p (p + 16 - p % 4) 4 r [(p + 4 - p % 4, p, d.2, true)] := rfl
      rw [E] at h
      rw [E, E, Ef]
      obtain ⟨h1, h⟩ := z_ar.app.mp h
      obtain ⟨h2, h⟩ := z_ar.app.mp h
      obtain ⟨h3, h⟩ := z_ar.app.mp h
      obtain ⟨h4, h⟩ := z_ar.app.mp h
      obtain ⟨h5, h⟩ := z_ar.app.mp h
      rw [w_pat_ent 4 (p + 16 - p % 4) r [(p + 4 - p % 4, p, d.2, true)] a]
      obtain ⟨i1, i2⟩ := w_pat_e4 (o := o) (b := b) (p := p) r (p + 16 - p % 4) (w_pat o b [(p + 4 - p % 4, p, d.2, true)] a)
      refine ⟨z_ar.app.mpr ⟨?_, z_ar.app.mpr ⟨?_, z_ar.app.mpr ⟨?_, z_ar.app.mpr ⟨?_, z_ar.app.mpr ⟨?_, ?_⟩⟩⟩⟩⟩, fun j hj => ?_⟩
      · refine h1.same (fun j k1 k2 => ?_)
        rw [l1] at k2
        rw [i2 j (by omega), q1 _ j (by omega)]
      · refine h2.same (fun j k1 k2 => ?_)
        rw [hp, l1] at k2
        rw [l1] at k1
        rw [i2 j (by omega), q1 _ j (by omega)]
      · rw [l1, hp, show b + p + 1 + (3 - p % 4) = b + (p + 4 - p % 4) by omega]
        refine (z_ar_put4 (b := b + (p + 4 - p % 4)) (v := o p d.2) (a := a)).same (fun j k1 k2 => ?_)
        rw [l4] at k2
        rw [i2 j (by omega)]; rfl
      · refine h4.same (fun j k1 k2 => ?_)
        rw [l4, l4, hp, l1] at k2
        rw [l4, hp, l1] at k1
        rw [i2 j (by omega), q1 _ j (by omega)]
      · refine h5.same (fun j k1 k2 => ?_)
        rw [l4, l4, l4, hp, l1] at k2
        rw [l4, l4, hp, l1] at k1
        rw [i2 j (by omega), q1 _ j (by omega)]
      · rw [l4, l4, l4, hp, l1, show b + p + 1 + (3 - p % 4) + 4 + 4 + 4 = b + (p + 16 - p % 4) by omega]; exact i1
      · have hj : j < b + p ∨ b + p + (1 + (3 - p % 4 + (4 + (4 + (4 + 4 * r.length))))) ≤ j := by
          simp only [List.length_append, w_ent_len, hp, l1, l4] at hj
          exact hj
        rw [i2 j (by omega), q1 _ j (by omega)]
  by_cases k3 : t = 23
  · subst k3
    cases l with
    | nil => exact ⟨h, fun j _ => rfl⟩
    | cons d r =>
      have E : ∀ o' : Nat → Nat → Int32, w_enc w o' p (23, c0, c1, c2, d :: r) = [o8 171] ++ (w_pad p ++ (o32 (o' p d.2) ++ (o32 (nI r.length) ++ w_lke (o' p) r))) := fun o' => rfl
      have Ef : w_fx w p (23, c0, c1, c2, d :: r) [] = w_fes p (p + 16 - p % 4) 8 r [(p + 4 - p % 4, p, d.2, true)] := rfl
      rw [E] at h
      rw [E, E, Ef]
      obtain ⟨h1, h⟩ := z_ar.app.mp h
      obtain ⟨h2, h⟩ := z_ar.app.mp h
      obtain ⟨h3, h⟩ := z_ar.app.mp h
      obtain ⟨h4, h⟩ := z_ar.app.mp h
      rw [l4, l4, hp, l1, show b + p + 1 + (3 - p % 4) + 4 + 4 = b + (p + 12 - p % 4) by omega] at h
      rw [w_pat_ent 8 (p + 16 - p % 4) r [(p + 4 - p % 4, p, d.2, true)] a]
      have hz : z_ar (w_pat o b [(p + 4 - p % 4, p, d.2, true)] a) (b + (p + 12 - p % 4)) (w_lke (fun _ => 0) r) := by
        refine (show z_ar a (b + (p + 12 - p % 4)) (w_lke (fun _ => 0) r) from h).same (fun j k1 k2 => ?_)
        exact q1 _ j (by omega)
      obtain ⟨i1, i2⟩ := w_pat_e8 (o := o) (b := b) (p := p) r (p + 12 - p % 4) (w_pat o b [(p + 4 - p % 4, p, d.2, true)] a) hz
      rw [show p + 12 - p % 4 + 4 = p + 16 - p % 4 by omega] at i1 i2
      refine ⟨z_ar.app.mpr ⟨?_, z_ar.app.mpr ⟨?_, z_ar.app.mpr ⟨?_, z_ar.app.mpr ⟨?_, ?_⟩⟩⟩⟩, fun j hj => ?_⟩
      · refine h1.same (fun j k1 k2 => ?_)
        rw [l1] at k2
        rw [i2 j (by omega), q1 _ j (by omega)]
      · refine h2.same (fun j k1 k2 => ?_)
        rw [hp, l1] at k2
        rw [l1] at k1
        rw [i2 j (by omega), q1 _ j (by omega)]
      · rw [l1, hp, show b + p + 1 + (3 - p % 4) = b + (p + 4 - p % 4) by omega]
        refine (z_ar_put4 (b := b + (p + 4 - p % 4)) (v := o p d.2) (a := a)).same (fun j k1 k2 => ?_)
        rw [l4] at k2
        rw [i2 j (by omega)]; rfl
      · refine h4.same (fun j k1 k2 => ?_)
        rw [l4, l4, hp, l1] at k2
        rw [l4, hp, l1] at k1
        rw [i2 j (by omega), q1 _ j (by omega)]
      · rw [l4, l4, hp, l1, show b + p + 1 + (3 - p % 4) + 4 + 4 = b + (p + 12 - p % 4) by omega]; exact i1
      · have hj : j < b + p ∨ b + p + (1 + (3 - p % 4 + (4 + (4 + 8 * r.length)))) ≤ j := by
          simp only [List.length_append, w_lke_len, hp, l1, l4] at hj
          exact hj
        rw [i2 j (by omega), q1 _ j (by omega)]
  have E := w_enc_o (w := w) (p := p) (i := (t, c0, c1, c2, l)) (o := o) k0 k1 k2 k3
  rw [E.1, E.2]
  exact ⟨h, fun j _ => rfl⟩
theorem w_pat_app {o : Nat → Nat → Int32} {b : Nat} : ∀ (l r : List (Nat × Nat × Nat × Bool)) (a : Nat → Int32), w_pat o b (l ++ r) a = w_pat o b l (w_pat o b r a) := by
  intro l
  induction l with
  | nil => intro r a; rfl
  | cons q l ih => intro r a; show w_p1 o b q (w_pat o b (l ++ r) a) = _; rw [ih]; rfl
theorem w_fes_app (p : Nat) : ∀ (l : List (Int32 × Nat)) (a s : Nat) (r : List (Nat × Nat × Nat × Bool)), w_fes p a s l r = w_fes p a s l [] ++ r := by
  intro l
  induction l with
  | nil => intro a s r; rfl
  | cons q l ih =>
    intro a s r
    show w_fes p (a + s) s l ((a, p, q.2, true) :: r) = w_fes p (a + s) s l [(a, p, q.2, true)] ++ r
    rw [ih (a + s) s ((a, p, q.2, true) :: r), ih (a + s) s [(a, p, q.2, true)], List.append_assoc]; rfl
theorem w_fx_app (w : Bool) (p : Nat) (i : wI) (r : List (Nat × Nat × Nat × Bool)) : w_fx w p i r = w_fx w p i [] ++ r := by
  unfold w_fx
  split
  · rfl
  · cases w <;> rfl
  · cases i.2.2.2.2 with
    | nil => rfl
    | cons d l => simp only; rw [w_fes_app, w_fes_app p l _ _ [_], List.append_assoc]; rfl
  · cases i.2.2.2.2 with
    | nil => rfl
    | cons d l => simp only; rw [w_fes_app, w_fes_app p l _ _ [_], List.append_assoc]; rfl
  · rfl
/-- all of them -/
theorem w_pat_all {w : Bool} {o : Nat → Nat → Int32} {b : Nat} : ∀ (its : List (wI × wF)) (a : Nat → Int32), z_ar a b (w_by_ w w_z its) → z_ar (w_pat o b (w_fxs w w_z its) a) b (w_by_ w o its) ∧ ∀ j, (j < b ∨ b + (w_by_ w w_z its).length ≤ j) → w_pat o b (w_fxs w w_z its) a j = a j := by
  intro its
  induction its with
  | nil => intro a h; exact ⟨z_ar.nil, fun j _ => rfl⟩
  | cons i r ih =>
    intro a h
    have h : z_ar a b (w_by_ w w_z r ++ w_enc w w_z (w_by_ w w_z r).length i.1) := h
    obtain ⟨h1, h2⟩ := z_ar.app.mp h
    obtain ⟨i1, i2⟩ := ih a h1
    have h2' : z_ar (w_pat o b (w_fxs w w_z r) a) (b + (w_by_ w w_z r).length) (w_enc w w_z (w_by_ w w_z r).length i.1) := h2.same (fun j k1 k2 => i2 j (Or.inr k1))
    obtain ⟨j1, j2⟩ := w_pat_i (o := o) h2'
    have E : w_pat o b (w_fxs w w_z (i :: r)) a = w_pat o b (w_fx w (w_by_ w w_z r).length i.1 []) (w_pat o b (w_fxs w w_z r) a) := by
      show w_pat o b (w_fx w (w_by_ w w_z r).length i.1 (w_fxs w w_z r)) a = _
      rw [w_fx_app, w_pat_app]
    have El : (w_by_ w w_z (i :: r)).length = (w_by_ w w_z r).length + (w_enc w w_z (w_by_ w w_z r).length i.1).length := by
      show (w_by_ w w_z r ++ w_enc w w_z (w_by_ w w_z r).length i.1).length = _
      rw [List.length_append]
    rw [E]
    refine ⟨?_, fun j hj => ?_⟩
    · show z_ar _ b (w_by_ w o r ++ w_enc w o (w_by_ w o r).length i.1)
      rw [z_ar.app, w_by_ln w o r]
      refine ⟨i1.same (fun j k1 k2 => ?_), j1⟩
      rw [w_by_ln w o r] at k2
      exact j2 j (Or.inl k2)
    · rw [El] at hj
      rw [j2 j (by omega), i2 j (by omega)]
