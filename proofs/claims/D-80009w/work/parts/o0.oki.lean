/-! ALL IS WELL (S): what the writing keeps.  Potentials of labels -/
abbrev g_by (g : wG) : Nat := (w_by_ false w_z (g_it g)).length
def w_cg (go : Nat → Bool) : Nat → Nat
  | 0 => 0
  | n + 1 => w_cg go n + (bif go n then 1 else 0)
theorem w_cg_le {go go' : Nat → Bool} : ∀ {n : Nat}, (∀ l, l < n → go l = true → go' l = true) → w_cg go n ≤ w_cg go' n := by
  intro n
  induction n with
  | zero => intro _; exact Nat.le_refl _
  | succ n ih =>
    intro h
    have a := ih (fun l hl => h l (Nat.lt_succ_of_lt hl))
    have b := h n (Nat.lt_succ_self n)
    unfold w_cg
    cases e : go n
    · simp only [cond_false]; omega
    · rw [b e]; simp only [cond_true]; omega
theorem w_cg_eq {go go' : Nat → Bool} : ∀ {n : Nat}, (∀ l, l < n → go l = go' l) → w_cg go n = w_cg go' n := by
  intro n
  induction n with
  | zero => intro _; rfl
  | succ n ih =>
    intro h
    unfold w_cg
    rw [ih (fun l hl => h l (Nat.lt_succ_of_lt hl)), h n (Nat.lt_succ_self n)]
theorem w_cg_one {go : Nat → Bool} (m : Nat) : ∀ n : Nat, w_cg (fun k => if k = m then true else go k) n ≤ w_cg go n + (if m < n then 1 else 0) := by
  intro n
  induction n with
  | zero => exact Nat.zero_le _
  | succ n ih =>
    unfold w_cg
    by_cases e : n = m
    · rw [if_pos e]
      have : w_cg (fun k => if k = m then true else go k) n = w_cg go n := w_cg_eq (fun l hl => if_neg (by omega))
      rw [this, if_pos (by omega)]
      cases go n <;> simp only [cond_true, cond_false] <;> omega
    · rw [if_neg e]
      by_cases q : m < n
      · rw [if_pos q] at ih
        rw [if_pos (by omega)]; omega
      · rw [if_neg q] at ih
        rw [if_neg (by omega)]; omega
theorem w_cg_mid {go go' : Nat → Bool} {m : Nat} : ∀ {n : Nat}, m ≤ n → (∀ l, l < n → go l = true → go' l = true) → w_cg go n + w_cg go' m ≤ w_cg go' n + w_cg go m := by
  intro n
  induction n with
  | zero => intro h _; have : m = 0 := by omega
            subst this; exact Nat.le_refl _
  | succ n ih =>
    intro h h1
    by_cases e : m = n + 1
    · subst e; omega
    · have a := ih (by omega) (fun l hl => h1 l (Nat.lt_succ_of_lt hl))
      have b := h1 n (Nat.lt_succ_self n)
      rw [show w_cg go (n + 1) = w_cg go n + (bif go n then 1 else 0) from rfl, show w_cg go' (n + 1) = w_cg go' n + (bif go' n then 1 else 0) from rfl]
      cases q : go n
      · cases q2 : go' n <;> simp only [cond_true, cond_false] <;> omega
      · rw [b q]; simp only [cond_true]; omega
/-- labels cost bytes and acts -/
def oPt (g h : wG) : Prop := g_nl g ≤ g_nl h ∧ (∀ l, l < g_nl g → g_goes g l = true → g_goes h l = true) ∧ g_by g ≤ g_by h ∧ g_ac g ≤ g_ac h
  ∧ 3 * g_us h + 3 * w_cg (g_goes h) (g_nl g) + g_by g ≤ 3 * g_us g + 3 * w_cg (g_goes g) (g_nl g) + g_by h
  ∧ g_n1 h + g_fm g + 2 * w_cg (g_goes h) (g_nl g) + g_by g + 3 * g_ac g ≤ g_n1 g + g_fm h + 2 * w_cg (g_goes g) (g_nl g) + g_by h + 3 * g_ac h
theorem oPt.rf (g : wG) : oPt g g := ⟨Nat.le_refl _, fun _ _ q => q, Nat.le_refl _, Nat.le_refl _, Nat.le_refl _, by omega⟩
theorem oPt.tr {g h k : wG} (a : oPt g h) (b : oPt h k) : oPt g k := by
  obtain ⟨a1, a2, a3, a4, a5, a6⟩ := a
  obtain ⟨b1, b2, b3, b4, b5, b6⟩ := b
  have m := w_cg_mid (go := g_goes h) (go' := g_goes k) a1 b2
  exact ⟨Nat.le_trans a1 b1, fun l hl q => b2 l (by omega) (a2 l hl q), by omega, by omega, by omega, by omega⟩
/-- a bound for labels -/
def oB (B : Nat) (g : wG) : Prop := 3 * g_us g ≤ g_by g + 3 * B ∧ g_n1 g ≤ g_fm g + g_by g + 3 * g_ac g + B ∧ g_ac g ≤ 60001
theorem oB.tr {B : Nat} {g h : wG} (a : oB B g) (b : oPt g h) (hac : g_ac h ≤ 60001) : oB B h := by
  obtain ⟨a1, a2, a3⟩ := a
  obtain ⟨b1, b2, b3, b4, b5, b6⟩ := b
  have := w_cg_le (go := g_goes g) (go' := g_goes h) (n := g_nl g) b2
  exact ⟨by omega, by omega, hac⟩
theorem oB.mono {B B' : Nat} {g : wG} (a : oB B g) (h : B ≤ B') : oB B' g := ⟨by have := a.1; omega, by have := a.2.1; omega, a.2.2⟩
/-! positions -/
def oAt (it : List (wI × wF)) (al : Bool) (C : wF) (j : Nat) (F : wF) : Prop := (∃ i D, it.reverse[j]? = some (i, D) ∧ w_fit F D) ∨ (j = it.length ∧ al = true ∧ w_fit F C)
abbrev oAg (g : wG) (j : Nat) (F : wF) : Prop := oAt (g_it g) (g_al g) (g_L g, g_st g) j F
theorem w_fit.rf (F : wF) : w_fit F F := ⟨List.prefix_refl _, rfl⟩
theorem w_fit.tr {F G H : wF} (a : w_fit F G) (b : w_fit G H) : w_fit F H := ⟨b.1.trans a.1, a.2.trans b.2⟩
theorem oNth_lt {α : Type} {l : List α} {k : Nat} {x : α} (h : l.reverse[k]? = some x) : k < l.length := by
  have := (List.getElem?_eq_some_iff.mp h).1
  rwa [List.length_reverse] at this
theorem oNth_app {α : Type} (e l : List α) {k : Nat} (h : k < l.length) : (e ++ l).reverse[k]? = l.reverse[k]? := by
  rw [List.reverse_append, List.getElem?_append_left (by rw [List.length_reverse]; exact h)]
theorem oNth_cons {α : Type} (x : α) (l : List α) {k : Nat} (h : k < l.length) : (x :: l).reverse[k]? = l.reverse[k]? := oNth_app [x] l h
theorem oNth_new {α : Type} (x : α) (l : List α) : (x :: l).reverse[l.length]? = some x := by
  rw [List.reverse_cons, List.getElem?_append_right (by rw [List.length_reverse]; exact Nat.le_refl _), List.length_reverse, Nat.sub_self]; rfl
theorem oNth_some {α : Type} (l : List α) {k : Nat} (h : k < l.length) : ∃ x, l.reverse[k]? = some x := by
  refine ⟨l.reverse[k]'(by rw [List.length_reverse]; exact h), List.getElem?_eq_getElem _⟩
theorem oAt.fit {it : List (wI × wF)} {al : Bool} {C : wF} {j : Nat} {F G : wF} (h : oAt it al C j F) (f : w_fit G F) : oAt it al C j G := by
  rcases h with ⟨i, D, h1, h2⟩ | ⟨h1, h2, h3⟩
  · exact Or.inl ⟨i, D, h1, f.tr h2⟩
  · exact Or.inr ⟨h1, h2, f.tr h3⟩
/-- an item more -/
theorem oAt.cons {it : List (wI × wF)} {al al' : Bool} {C C' : wF} {j : Nat} {F : wF} (h : oAt it al C j F) (i : wI) : oAt ((i, C) :: it) al' C' j F := by
  rcases h with ⟨i', D, h1, h2⟩ | ⟨h1, h2, h3⟩
  · exact Or.inl ⟨i', D, by rw [oNth_cons _ _ (oNth_lt h1)]; exact h1, h2⟩
  · exact Or.inl ⟨i, C, by rw [h1]; exact oNth_new _ _, h3⟩
/-- the frame shrinks -/
theorem oAt.frame {it : List (wI × wF)} {al : Bool} {C C' : wF} {j : Nat} {F : wF} (h : oAt it al C j F) (f : al = true → w_fit C C') : oAt it al C' j F := by
  rcases h with h | ⟨h1, h2, h3⟩
  · exact Or.inl h
  · exact Or.inr ⟨h1, h2, h3.tr (f h2)⟩
theorem oAt.lt {it : List (wI × wF)} {al : Bool} {C : wF} {j : Nat} {F : wF} (h : oAt it al C j F) : j ≤ it.length := by
  rcases h with ⟨i, D, h1, -⟩ | ⟨h1, -⟩
  · exact Nat.le_of_lt (oNth_lt h1)
  · omega
/-! what stands behind an item -/
def oTerm (i : wI) : Bool := Nat.beq i.1 20 || Nat.beq i.1 22 || Nat.beq i.1 23 || (Nat.beq i.1 16 && !(Nat.beq i.2.1 194 || Nat.beq i.2.1 195))
/-- the types of a chain's values, as they lie on the stack -/
def oAr (nt : sp_NT) : List Int32 → List Nat
  | [] => []
  | q :: r => oAr nt r ++ w_tl (nT nt (nA nt q))
/-- an item's shape -/
def oShp (i : wI) : Prop := (i.1 < 20 → i.2.2.2.2 = [] ∧ i.1 ≤ 16) ∧ (i.1 = 20 ∨ i.1 = 21 → ∃ l, i.2.2.2.2 = [(0, l)]) ∧ (22 ≤ i.1 → ∃ o ks, List.Pairwise (fun a b : Int32 × Nat => a.1.toInt < b.1.toInt) ks ∧ i = w_swi o ks)
theorem oShp0 {t : Nat} {r : Nat × Nat × Int64 × List (Int32 × Nat)} (h : r.2.2.2 = []) (h1 : t ≤ 16) : oShp (t, r) := ⟨fun _ => ⟨h, h1⟩, fun q => absurd q (by show ¬ (t = 20 ∨ t = 21); omega), fun q => absurd q (by show ¬ 22 ≤ t; omega)⟩
theorem oShp1 {t : Nat} {r : Nat × Nat × Int64 × List (Int32 × Nat)} {l : Nat} (h : r.2.2.2 = [(0, l)]) (h1 : t = 20 ∨ t = 21) : oShp (t, r) := ⟨fun q => absurd q (by show ¬ t < 20; omega), fun _ => ⟨l, h⟩, fun q => absurd q (by show ¬ 22 ≤ t; omega)⟩
/-- the member that is written: what it gives -/
def oTy (nt : sp_NT) (M : Nat) (res par : Nat → Int32) (ret : Nat) (po : List (Nat × Int64)) (i : wI) (F G : wF) : Prop :=
  w_ty i F G
  ∧ (i.1 = 1 ∨ i.1 = 15 → w_pf i.2.1 i.2.2.2.1 po = some i.2.2.1)
  ∧ (i.1 = 1 → i.2.1 = 1 ∨ i.2.1 = 3 → i.2.2.2.1 = i.2.2.2.1.toInt32.toInt64)
  ∧ (i.1 = 15 → i.2.1 = 5 → ∃ m r, m < M ∧ i.2.2.2.1 = (nI m).toInt64 ∧ F.2 = oAr nt (sp_chain nt 4001 (par m)) ++ r ∧ G.2 = w_tl (res m).toNatClampNeg ++ r)
  ∧ (i.1 = 16 → 172 ≤ i.2.1 → i.2.1 ≤ 177 → (i.2.1 = 177 ∧ ret = 0) ∨ (i.2.1 = 172 + w_ltr ret ∧ 1 ≤ ret ∧ ret ≤ 8 ∧ ∃ r, F.2 = w_tl ret ++ r))
  ∧ oShp i
/-- an item of a state -/
def oItm (T : List (Nat × Int64) → wI → wF → wF → Prop) (g : wG) (k : Nat) (i : wI) (F : wF) : Prop := ∃ G, T (g_po g) i F G ∧ (oTerm i = false → oAg g (k + 1) G)
  ∧ (∀ q, q ∈ i.2.2.2.2 → q.2 < g_nl g ∧ g_goes g q.2 = true ∧ w_fit G (g_lF g q.2)) ∧ F.1.length ≤ g_mx g ∧ F.2.length ≤ g_ms g ∧ G.1.length ≤ g_mx g ∧ G.2.length ≤ g_ms g
/-- what comes ahead of a position -/
def oPre (g : wG) (j : Nat) : Prop := j = 0 ∨ (∃ r, r ∈ g_rg g ∧ r.2.2.1 = j) ∨ ∃ (k : Nat) (i : wI) (F : wF), k < j ∧ (g_it g).reverse[k]? = some (i, F) ∧ ((oTerm i = false ∧ j = k + 1) ∨ ∃ q, q ∈ i.2.2.2.2 ∧ q.2 < g_nl g ∧ g_lat g q.2 = some j)
/-- a range -/
def oRng (g : wG) (r : Nat × Nat × Nat × Int32) : Prop := r.1 < r.2.1 ∧ r.2.1 ≤ (g_it g).length ∧ ∃ L, oAg g r.2.2.1 (L, [10]) ∧ ∀ k i F, r.1 ≤ k → k < r.2.1 → (g_it g).reverse[k]? = some (i, F) → L <+: F.1
/-- the greatest stack is one that was -/
def oMx (g : wG) : Prop := g_ms g = 0 ∨ (∃ (k : Nat) (i : wI) (F : wF), (g_it g).reverse[k]? = some (i, F) ∧ F.2.length = g_ms g) ∨ (g_al g = true ∧ (g_st g).length = g_ms g)
def oCode (T : List (Nat × Int64) → wI → wF → wF → Prop) (E : wF) (g : wG) : Prop :=
  (∀ k i F, (g_it g).reverse[k]? = some (i, F) → oItm T g k i F)
  ∧ (∀ l, l < g_nl g → g_goes g l = true → (∃ (k : Nat) (i : wI) (F : wF) (q : Int32 × Nat), (g_it g).reverse[k]? = some (i, F) ∧ q ∈ i.2.2.2.2 ∧ q.2 = l) ∧ ∀ j, g_lat g l = some j → oAg g j (g_lF g l))
  ∧ (∀ j, j < (g_it g).length ∨ (j = (g_it g).length ∧ g_al g = true) → oPre g j)
  ∧ (∀ r, r ∈ g_rg g → oRng g r)
  ∧ (oAg g 0 E ∧ oMx g)
  ∧ (g_al g = true → (g_L g).length ≤ g_mx g ∧ (g_st g).length ≤ g_ms g)
/-- the order of states -/
def oLe (g h : wG) : Prop := (∃ e, g_it h = e ++ g_it g) ∧ g_nl g ≤ g_nl h ∧ (∀ l, l < g_nl g → g_lF h l = g_lF g l ∧ (g_goes g l = true → g_goes h l = true) ∧ ∀ j, g_lat g l = some j → g_lat h l = some j) ∧ g_mx g ≤ g_mx h ∧ g_ms g ≤ g_ms h ∧ (∃ e, g_po h = e ++ g_po g) ∧ (∃ e, g_rg h = e ++ g_rg g) ∧ ∀ j F, oAg g j F → oAg h j F
/-- a predicate of types that a longer pool does not harm -/
def oTm (T : List (Nat × Int64) → wI → wF → wF → Prop) : Prop := ∀ p e i F G, T p i F G → T (e ++ p) i F G
theorem oPf_app (s : Nat) (v : Int64) (e p : List (Nat × Int64)) {i : Nat} (h : w_pf s v p = some i) : w_pf s v (e ++ p) = some i := by
  induction e with
  | nil => exact h
  | cons q e ih => show (match w_pf s v (e ++ p) with | some i => some i | none => _) = _; rw [ih]
theorem oTy_m (nt : sp_NT) (M : Nat) (res par : Nat → Int32) (ret : Nat) : oTm (oTy nt M res par ret) := by
  intro p e i F G h
  exact ⟨h.1, fun q => oPf_app _ _ _ _ (h.2.1 q), h.2.2⟩
section
variable {T : List (Nat × Int64) → wI → wF → wF → Prop} {E : wF} {g h : wG}
theorem oItm.le (hT : oTm T) (a : oLe g h) {k : Nat} {i : wI} {F : wF} (q : oItm T g k i F) : oItm T h k i F := by
  obtain ⟨⟨e1, a1⟩, a2, a3, a4, a5, ⟨e2, a6⟩, -, a8⟩ := a
  obtain ⟨G, q1, q2, q3, q4, q5, q6, q7⟩ := q
  refine ⟨G, by rw [a6]; exact hT _ _ _ _ _ q1, fun z => a8 _ _ (q2 z), fun p hp => ?_, by omega, by omega, by omega, by omega⟩
  obtain ⟨p1, p2, p3⟩ := q3 p hp
  obtain ⟨b1, b2, -⟩ := a3 _ p1
  exact ⟨by omega, b2 p2, by rw [b1]; exact p3⟩
theorem oPre.le (a : oLe g h) {j : Nat} (q : oPre g j) : oPre h j := by
  obtain ⟨⟨e1, a1⟩, a2, a3, a4, a5, ⟨e2, a6⟩, ⟨e3, a7⟩, a8⟩ := a
  rcases q with q | ⟨r, r1, r2⟩ | ⟨k, i, F, k1, k2, k3⟩
  · exact Or.inl q
  · exact Or.inr (Or.inl ⟨r, by rw [a7]; exact List.mem_append_right _ r1, r2⟩)
  · refine Or.inr (Or.inr ⟨k, i, F, k1, by rw [a1, oNth_app _ _ (oNth_lt k2)]; exact k2, ?_⟩)
    rcases k3 with k3 | ⟨q, q1, q2, q3⟩
    · exact Or.inl k3
    · exact Or.inr ⟨q, q1, by omega, (a3 _ q2).2.2 _ q3⟩
theorem oRng.le (a : oLe g h) {r : Nat × Nat × Nat × Int32} (q : oRng g r) : oRng h r := by
  obtain ⟨⟨e1, a1⟩, a2, a3, a4, a5, ⟨e2, a6⟩, ⟨e3, a7⟩, a8⟩ := a
  obtain ⟨q1, q2, L, q3, q4⟩ := q
  refine ⟨q1, by rw [a1, List.length_append]; omega, L, a8 _ _ q3, fun k i F h1 h2 h3 => ?_⟩
  rw [a1, oNth_app _ _ (by omega)] at h3
  exact q4 k i F h1 h2 h3
theorem oLe.rf (g : wG) : oLe g g := ⟨⟨[], rfl⟩, Nat.le_refl _, fun _ _ => ⟨rfl, fun q => q, fun _ q => q⟩, Nat.le_refl _, Nat.le_refl _, ⟨[], rfl⟩, ⟨[], rfl⟩, fun _ _ q => q⟩
theorem oLe.tr {k : wG} (a : oLe g h) (b : oLe h k) : oLe g k := by
  obtain ⟨⟨e1, a1⟩, a2, a3, a4, a5, ⟨e2, a6⟩, ⟨e3, a7⟩, a8⟩ := a
  obtain ⟨⟨f1, b1⟩, b2, b3, b4, b5, ⟨f2, b6⟩, ⟨f3, b7⟩, b8⟩ := b
  refine ⟨⟨f1 ++ e1, by rw [b1, a1, List.append_assoc]⟩, by omega, fun l hl => ?_, by omega, by omega, ⟨f2 ++ e2, by rw [b6, a6, List.append_assoc]⟩, ⟨f3 ++ e3, by rw [b7, a7, List.append_assoc]⟩, fun j F q => b8 _ _ (a8 _ _ q)⟩
  obtain ⟨x1, x2, x3⟩ := a3 l hl
  obtain ⟨y1, y2, y3⟩ := b3 l (by omega)
  exact ⟨y1.trans x1, fun q => y2 (x2 q), fun j q => y3 _ (x3 _ q)⟩
/-- nothing is written -/
theorem oCode.same (hT : oTm T) (c : oCode T E g) (a : oLe g h) (e1 : g_it h = g_it g) (e2 : g_al h = g_al g) (e3 : g_rg h = g_rg g) (e4 : ∀ l, l < g_nl h → g_goes h l = true → l < g_nl g ∧ g_goes g l = true ∧ g_lat h l = g_lat g l) (e5 : g_al h = true → (g_L h).length ≤ g_mx h ∧ (g_st h).length ≤ g_ms h) (e6 : g_ms h = g_ms g) (e7 : g_st h = g_st g) : oCode T E h := by
  obtain ⟨c1, c2, c3, c4, c5, c6⟩ := c
  refine ⟨fun k i F q => ?_, fun l h1 h2 => ?_, fun j q => ?_, fun r q => ?_, ⟨a.2.2.2.2.2.2.2 _ _ c5.1, ?_⟩, e5⟩
  · rw [e1] at q; exact (c1 k i F q).le hT a
  · obtain ⟨x1, x2, x3⟩ := e4 l h1 h2
    obtain ⟨y1, y2⟩ := c2 l x1 x2
    refine ⟨by rw [e1]; exact y1, fun j q => ?_⟩
    rw [(a.2.2.1 l x1).1]
    exact a.2.2.2.2.2.2.2 _ _ (y2 j (by rw [← x3]; exact q))
  · rw [e1, e2] at q; exact (c3 j q).le a
  · rw [e3] at q; exact (c4 r q).le a
  · unfold oMx
    rw [e1, e2, e6, e7]; exact c5.2
/-- an item is written -/
theorem oCode.emit (hT : oTm T) (c : oCode T E g) (ha : g_al g = true) {i : wI} {F : wF} (e1 : g_it h = (i, (g_L g, g_st g)) :: g_it g) (e2 : (g_L h, g_st h) = F) (e3 : g_nl h = g_nl g) (e4 : g_lat h = g_lat g)
    (e5 : ∀ k, g_goes h k = true ↔ (∃ q, q ∈ i.2.2.2.2 ∧ q.2 = k) ∨ g_goes g k = true) (e6 : g_lF h = g_lF g) (e7 : g_mx g ≤ g_mx h) (e8' : g_ms h = max (g_ms g) F.2.length) (e9' : oTerm i = true → F.2.length ≤ (g_st g).length) (e10 : ∃ e, g_po h = e ++ g_po g) (e11 : g_rg h = g_rg g) (e12 : g_al h = !oTerm i)
    (t1 : T (g_po h) i (g_L g, g_st g) F) (t2 : ∀ q, q ∈ i.2.2.2.2 → q.2 < g_nl g ∧ w_fit F (g_lF g q.2) ∧ ∀ j, g_lat g q.2 = some j → oAg g j (g_lF g q.2)) (t3 : F.1.length ≤ g_mx h) : oCode T E h ∧ oLe g h := by
  have e8 : g_ms g ≤ g_ms h := by rw [e8']; exact Nat.le_max_left _ _
  have e9 : F.2.length ≤ g_ms h := by rw [e8']; exact Nat.le_max_right _ _
  obtain ⟨c1, c2, c3, c4, ⟨c5, c7⟩, c6⟩ := c
  have up : ∀ j D, oAg g j D → oAg h j D := fun j D q => by
    show oAt (g_it h) _ _ j D
    rw [e1]; exact q.cons i
  have a : oLe g h := ⟨⟨[(i, (g_L g, g_st g))], e1⟩, by omega, fun l _ => ⟨by rw [e6], fun q => (e5 l).mpr (Or.inr q), fun j q => by rw [e4]; exact q⟩, by omega, e8, e10, ⟨[], e11⟩, up⟩
  have len : (g_it h).length = (g_it g).length + 1 := by rw [e1]; rfl
  have new : oItm T h (g_it g).length i (g_L g, g_st g) := by
    refine ⟨F, t1, fun z => Or.inr ⟨len.symm, by rw [e12, z]; rfl, by rw [e2]; exact w_fit.rf _⟩, fun q hq => ?_, Nat.le_trans (c6 ha).1 e7, Nat.le_trans (c6 ha).2 e8, t3, e9⟩
    obtain ⟨q1, q2, -⟩ := t2 q hq
    exact ⟨by omega, (e5 _).mpr (Or.inl ⟨q, hq, rfl⟩), by rw [e6]; exact q2⟩
  refine ⟨⟨fun k j D q => ?_, fun l h1 h2 => ?_, fun j q => ?_, fun r q => ?_, ⟨up _ _ c5, ?_⟩, fun q => ?_⟩, a⟩
  · by_cases z : k < (g_it g).length
    · rw [e1, oNth_cons _ _ z] at q
      exact (c1 k j D q).le hT a
    · have := oNth_lt q
      have z : k = (g_it g).length := by omega
      rw [z, e1, oNth_new] at q
      injection q with q
      injection q with q1 q2
      subst q1; subst q2; subst z; exact new
  · rw [e3] at h1
    by_cases z : g_goes g l = true
    · obtain ⟨⟨k, j, D, p, y1, y2, y3⟩, y4⟩ := c2 l h1 z
      refine ⟨⟨k, j, D, p, by rw [e1, oNth_cons _ _ (oNth_lt y1)]; exact y1, y2, y3⟩, fun j q => ?_⟩
      rw [e6]; rw [e4] at q
      exact up _ _ (y4 j q)
    · rcases (e5 l).mp h2 with ⟨q, q1, q2⟩ | q
      · refine ⟨⟨(g_it g).length, i, _, q, by rw [e1]; exact oNth_new _ _, q1, q2⟩, fun j y => ?_⟩
        rw [e6]; rw [e4] at y
        subst q2
        exact up _ _ ((t2 q q1).2.2 j y)
      · exact absurd q z
  · by_cases z : j ≤ (g_it g).length
    · have : j < (g_it g).length ∨ (j = (g_it g).length ∧ g_al g = true) := by
        rcases Nat.lt_or_eq_of_le z with z | z
        · exact Or.inl z
        · exact Or.inr ⟨z, ha⟩
      exact (c3 j this).le a
    · have z2 : j = (g_it g).length + 1 ∧ g_al h = true := by
        rcases q with q | ⟨q, q2⟩
        · omega
        · exact ⟨by omega, q2⟩
      obtain ⟨z2, z3⟩ := z2
      refine Or.inr (Or.inr ⟨(g_it g).length, i, _, by omega, by rw [e1]; exact oNth_new _ _, Or.inl ⟨?_, z2⟩⟩)
      rw [e12] at z3
      cases y : oTerm i
      · rfl
      · rw [y] at z3; exact absurd z3 (by decide)
  · rw [e11] at q; exact (c4 r q).le a
  · by_cases z : g_ms h = g_ms g
    · rcases c7 with y | ⟨k, j, D, y1, y2⟩ | ⟨-, y2⟩
      · exact Or.inl (z.trans y)
      · exact Or.inr (Or.inl ⟨k, j, D, by rw [e1, oNth_cons _ _ (oNth_lt y1)]; exact y1, by rw [z]; exact y2⟩)
      · exact Or.inr (Or.inl ⟨(g_it g).length, i, (g_L g, g_st g), by rw [e1]; exact oNth_new _ _, by rw [z]; exact y2⟩)
    · have z2 : g_ms h = F.2.length := by omega
      have z3 : g_ms g < F.2.length := by omega
      have y : oTerm i = false := by
        cases y : oTerm i
        · rfl
        · have := e9' y; have := (c6 ha).2; omega
      exact Or.inr (Or.inr ⟨by rw [e12, y]; rfl, by rw [z2, ← e2]⟩)
  · rw [e12] at q
    have y : oTerm i = false := by
      cases y : oTerm i
      · rfl
      · rw [y] at q; exact absurd q (by decide)
    have y1 : g_L h = F.1 := by rw [← e2]
    have y2 : g_st h = F.2 := by rw [← e2]
    rw [y1, y2]
    exact ⟨t3, e9⟩
/-- a label is put -/
theorem oCode.put (hT : oTm T) (c : oCode T E g) {l : Nat} (hl : l < g_nl g) (h0 : g_lat g l = none) (hf : g_al g = true → w_fit (g_L g, g_st g) (g_lF g l)) : oCode T E (w_put l g) ∧ oLe g (w_put l g) := by
  obtain ⟨c1, c2, c3, c4, ⟨c5, c7⟩, c6⟩ := c
  have fields : g_it (w_put l g) = g_it g ∧ g_nl (w_put l g) = g_nl g ∧ g_lat (w_put l g) = (fun k => if k = l then some (g_it g).length else g_lat g k) ∧ g_goes (w_put l g) = g_goes g ∧ g_lF (w_put l g) = g_lF g ∧ g_mx (w_put l g) = g_mx g ∧ g_ms (w_put l g) = g_ms g ∧ g_po (w_put l g) = g_po g ∧ g_rg (w_put l g) = g_rg g ∧ g_al (w_put l g) = (g_al g || g_goes g l) ∧ (g_al (w_put l g) = true → (g_L (w_put l g), g_st (w_put l g)) = g_lF g l) := by
    unfold w_put
    cases e : g_al g
    · cases e2 : g_goes g l
      · exact ⟨rfl, rfl, rfl, rfl, rfl, rfl, rfl, rfl, rfl, e, fun q => absurd (e.symm.trans q) (by decide)⟩
      · exact ⟨rfl, rfl, rfl, rfl, rfl, rfl, rfl, rfl, rfl, rfl, fun _ => rfl⟩
    · exact ⟨rfl, rfl, rfl, rfl, rfl, rfl, rfl, rfl, rfl, e, fun _ => rfl⟩
  generalize w_put l g = h at fields ⊢
  obtain ⟨f1, f2, f3, f4, f5, f6, f7, f8, f9, f10, f11⟩ := fields
  have up : ∀ j D, oAg g j D → oAg h j D := by
    intro j D q
    rcases q with ⟨i, D', h1, h2⟩ | ⟨h1, h2, h3⟩
    · exact Or.inl ⟨i, D', by rw [f1]; exact h1, h2⟩
    · have : g_al h = true := by rw [f10, h2]; rfl
      exact Or.inr ⟨by rw [f1]; exact h1, this, by rw [f11 this]; exact h3.tr (hf h2)⟩
  have a : oLe g h := ⟨⟨[], f1⟩, by omega, fun k _ => ⟨by rw [f5], fun q => by rw [f4]; exact q, fun j q => by rw [f3]; show (if k = l then _ else _) = _; rw [if_neg (fun z => by rw [z, h0] at q; simp at q)]; exact q⟩, by omega, by omega, ⟨[], f8⟩, ⟨[], f9⟩, up⟩
  have go : g_goes g l = true → ∃ (k : Nat) (i : wI) (F : wF) (q : Int32 × Nat), (g_it g).reverse[k]? = some (i, F) ∧ q ∈ i.2.2.2.2 ∧ q.2 = l := fun z => (c2 l hl z).1
  refine ⟨⟨fun k i F q => ?_, fun k h1 h2 => ?_, fun j q => ?_, fun r q => ?_, ⟨up _ _ c5, ?_⟩, fun q => ?_⟩, a⟩
  · rw [f1] at q; exact (c1 k i F q).le hT a
  · rw [f2] at h1; rw [f4] at h2
    obtain ⟨y1, y2⟩ := c2 k h1 h2
    refine ⟨by rw [f1]; exact y1, fun j q => ?_⟩
    rw [f5]
    rw [f3] at q
    have q : (if k = l then some (g_it g).length else g_lat g k) = some j := q
    by_cases z : k = l
    · rw [if_pos z] at q
      injection q with q
      have z2 : g_al h = true := by rw [f10, ← z, h2, Bool.or_true]
      exact Or.inr ⟨by rw [f1]; exact q.symm, z2, by rw [f11 z2, z]; exact w_fit.rf _⟩
    · rw [if_neg z] at q
      exact up _ _ (y2 j q)
  · rw [f1] at q
    by_cases z : j < (g_it g).length ∨ (j = (g_it g).length ∧ g_al g = true)
    · exact (c3 j z).le a
    · rcases q with q | ⟨q1, q2⟩
      · exact absurd (Or.inl q) z
      · have z2 : g_goes g l = true := by
          rw [f10] at q2
          cases y : g_al g
          · rw [y] at q2; exact q2
          · exact absurd (Or.inr ⟨q1, y⟩) z
        obtain ⟨k, i, F, p, p1, p2, p3⟩ := go z2
        exact Or.inr (Or.inr ⟨k, i, F, by have := oNth_lt p1; omega, by rw [f1]; exact p1, Or.inr ⟨p, p2, by rw [p3, f2]; exact hl, by rw [p3, f3, q1]; exact if_pos rfl⟩⟩)
  · rw [f9] at q; exact (c4 r q).le a
  · rcases c7 with y | ⟨k, j, D, y1, y2⟩ | ⟨y1, y2⟩
    · exact Or.inl (f7.trans y)
    · exact Or.inr (Or.inl ⟨k, j, D, by rw [f1]; exact y1, by rw [f7]; exact y2⟩)
    · have al : g_al h = true := by rw [f10, y1]; rfl
      have e := f11 al
      have w := hf y1
      refine Or.inr (Or.inr ⟨al, ?_⟩)
      have y3 : g_st h = (g_lF g l).2 := by rw [← e]
      have w2 : g_st g = (g_lF g l).2 := w.2
      rw [y3, ← w2, f7]; exact y2
  · have e := f11 q
    have y1 : g_L h = (g_lF g l).1 := by rw [← e]
    have y2 : g_st h = (g_lF g l).2 := by rw [← e]
    rw [y1, y2, f6, f7]
    cases z : g_al g
    · rw [f10, z] at q
      obtain ⟨k, i, F, p, p1, p2, p3⟩ := go q
      obtain ⟨G, t, -, t3, t4, t5, t6, t7⟩ := c1 k i F p1
      obtain ⟨-, -, w⟩ := t3 p p2
      rw [p3] at w
      exact ⟨Nat.le_trans w.1.length_le t6, by rw [← w.2]; exact t7⟩
    · have w := hf z
      exact ⟨Nat.le_trans w.1.length_le (c6 z).1, by rw [← w.2]; exact (c6 z).2⟩
end
