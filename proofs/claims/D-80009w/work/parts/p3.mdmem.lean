/-! CodeWriterModel: what holds between calls, of members -/
abbrev uG : Type := Nat → wG × Bool
def uS (f : Nat → Nat) : Nat → Nat
  | 0 => 0
  | m + 1 => uS f m + f m
abbrev uLen (e : wG × Bool) : Nat := (w_by_ e.2 w_z (g_it e.1)).length
abbrev uBy (e : wG × Bool) : List Int32 := w_by_ e.2 (w_off e.2 (g_it e.1) (g_lat e.1)) (g_it e.1)
abbrev uCf (G : uG) : Nat → Nat := uS (fun m => uLen (G m))
abbrev uPf (G : uG) : Nat → Nat := uS (fun m => (g_po (G m).1).length)
abbrev uRf (G : uG) : Nat → Nat := uS (fun m => (g_rg (G m).1).length)
abbrev uLf (G : uG) : Nat → Nat := uS (fun m => (g_ln (G m).1).length)
theorem uS_le (f : Nat → Nat) : ∀ {a b : Nat}, a ≤ b → uS f a ≤ uS f b := by
  intro a b h
  induction b with
  | zero => rw [Nat.le_zero.mp h]; exact Nat.le_refl _
  | succ b ih =>
    by_cases e : a = b + 1
    · rw [e]; exact Nat.le_refl _
    · exact Nat.le_trans (ih (by omega)) (Nat.le_add_right _ _)
theorem uS_cg {f g : Nat → Nat} : ∀ (n : Nat), (∀ m, m < n → f m = g m) → uS f n = uS g n := by
  intro n
  induction n with
  | zero => intro _; rfl
  | succ n ih => intro h; unfold uS; rw [ih (fun m hm => h m (by omega)), h n (by omega)]
/-- one member more -/
def uAdd (G : uG) (M : Nat) (e : wG × Bool) : uG := fun m => if m = M then e else G m
def uBd (M : Nat) (G : uG) : Prop := uCf G M ≤ 90000 ∧ uPf G M ≤ 100 * M ∧ uRf G M ≤ 20000 ∧ uLf G M ≤ 20000
def mdE (e : wG × Bool) (cf pf rf lf m : Nat) (y : mj_X) : Prop := (uLen e ≤ 65535 ∧ g_ms e.1 < 3370) ∧ z_ar (y.1 19) cf (uBy e) ∧ y.1 13 m = nI (g_mx e.1) ∧ y.1 14 m = nI (g_ms e.1) ∧ y.1 15 m = sp_b e.2 ∧ z_po pf (y.1 20) (y.1 21) (y.1 22) (y.1 23) (g_po e.1)
  ∧ z_l1 (fun k r => y.1 24 (4 * (rf + k)) = nI (w_at e.2 (g_it e.1) r.1) ∧ y.1 24 (4 * (rf + k) + 1) = nI (w_at e.2 (g_it e.1) r.2.1) ∧ y.1 24 (4 * (rf + k) + 2) = nI (w_at e.2 (g_it e.1) r.2.2.1) ∧ y.1 24 (4 * (rf + k) + 3) = r.2.2.2) (g_rg e.1)
  ∧ z_l1 (fun k r => y.1 25 (2 * (lf + k)) = nI (w_at e.2 (g_it e.1) r.1) ∧ y.1 25 (2 * (lf + k) + 1) = r.2) (g_ln e.1)
def mdU (nt : sp_NT) (N M : Nat) (res par bod D : Nat → Int32) (G : uG) (y : mj_X) : Prop :=
  md_T y nt N ∧ md_M y M res par ∧ y.1 11 = bod ∧ (∀ j, y.1 26 j = 0) ∧ y.1 27 = D ∧ (∀ k, ∃ m, m < 300000 ∧ y.1 74 k = nI m)
  ∧ (∀ m, m ≤ M → y.1 12 m = nI (uCf G m) ∧ y.1 16 m = nI (uPf G m) ∧ y.1 17 m = nI (uRf G m) ∧ y.1 18 m = nI (uLf G m))
  ∧ ∀ m, m < M → mdE (G m) (uCf G m) (uPf G m) (uRf G m) (uLf G m) m y
/-- fields of the writer -/
def zU (k j : Nat) : Bool := if k = 0 then Nat.ble j 74 else Nat.ble k 75
section
variable {nt : sp_NT} {N M : Nat} {res par bod D : Nat → Int32} {G : uG} {x y z : mj_X} {e : wG × Bool} {cf pf rf lf m : Nat}
theorem z_po_fr {pf : Nat} {a b c d a' b' c' d' : Nat → Int32} : ∀ {po : List (Nat × Int64)}, z_po pf a b c d po → (∀ j, j < pf + po.length → a' j = a j ∧ b' j = b j ∧ c' j = c j ∧ d' j = d j) → z_po pf a' b' c' d' po := by
  intro po
  induction po with
  | nil => intro _ _; trivial
  | cons e r ih =>
    intro h f
    obtain ⟨⟨h1, h2, h3, h4, h5⟩, h6⟩ := h
    obtain ⟨f1, f2, f3, f4⟩ := f (pf + r.length) (by simp)
    exact ⟨⟨by rw [f1]; exact h1, by rw [f2]; exact h2, by rw [f3]; exact h3, by rw [f4]; exact h4, h5⟩, ih h6 (fun j hj => f j (by simp only [List.length_cons]; omega))⟩
theorem mdE.fr (h : mdE e cf pf rf lf m y) (h19 : ∀ j, j < cf + uLen e → z.1 19 j = y.1 19 j) (hp : ∀ k j, 20 ≤ k → k ≤ 23 → j < pf + (g_po e.1).length → z.1 k j = y.1 k j) (h24 : ∀ j, j < 4 * (rf + (g_rg e.1).length) → z.1 24 j = y.1 24 j) (h25 : ∀ j, j < 2 * (lf + (g_ln e.1).length) → z.1 25 j = y.1 25 j) (hm : z.1 13 m = y.1 13 m ∧ z.1 14 m = y.1 14 m ∧ z.1 15 m = y.1 15 m) : mdE e cf pf rf lf m z := by
  obtain ⟨a1, a2, a3, a4, a5, a6, a7, a8⟩ := h
  refine ⟨a1, fun j v hj => ?_, hm.1.trans a3, hm.2.1.trans a4, hm.2.2.trans a5, z_po_fr a6 (fun j hj => ⟨hp 20 j (by decide) (by decide) hj, hp 21 j (by decide) (by decide) hj, hp 22 j (by decide) (by decide) hj, hp 23 j (by decide) (by decide) hj⟩), a7.mono (fun k r hk _ q => ?_), a8.mono (fun k r hk _ q => ?_)⟩
  · have hl := (List.getElem?_eq_some_iff.mp hj).1
    rw [w_by_ln] at hl
    have hl : j < uLen e := hl
    rw [h19 _ (by omega)]; exact a2 j v hj
  · rw [h24 _ (by omega), h24 _ (by omega), h24 _ (by omega), h24 _ (by omega)]; exact q
  · rw [h25 _ (by omega), h25 _ (by omega)]; exact q
end
