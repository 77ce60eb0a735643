/-! statements of CodeWriterModel: contexts, pieces, ranges -/
/-- a context with its number and what lies outside of it -/
abbrev wSl : Type := Nat × Int32 × wC
/-- the numbers of pieces, newest first: each leads to the next newer one -/
def z_lnk (nxt : Nat → Int32) : Int32 → List Nat → Prop
  | _, [] => True
  | v, p :: ps => nxt p = v ∧ z_lnk nxt (nI p) ps
def z_pcs (w : Bool) (its : List (wI × wF)) (a70 a71 : Nat → Int32) : List Nat → List (Nat × Nat) → Prop
  | [], [] => True
  | p :: ps, q :: qs => (a70 p = nI (w_at w its q.1) ∧ a71 p = nI (w_at w its q.2) ∧ q.1 ≤ its.length ∧ q.2 ≤ its.length) ∧ z_pcs w its a70 a71 ps qs
  | _, _ => False
def z_hd : List Nat → Int32
  | [] => -1
  | p :: _ => nI p
def z_fst : List Nat → Int32
  | [] => -1
  | [p] => nI p
  | _ :: q :: r => z_fst (q :: r)
/-- what is kept of a context in both modes -/
def z_sk (x : mj_X) (s : wSl) : Prop := x.1 61 s.1 = nI s.2.2.1 ∧ x.1 62 s.1 = s.2.1 ∧ s.2.2.1 ≤ 4 ∧ (x.1 68 s.1 < 0 ∨ ∃ p, p < 30000 ∧ x.1 69 s.1 = nI p)
/-- what a context is while all is exact; ps: the numbers of its pieces -/
def z_sx (w : Bool) (its : List (wI × wF)) (x : mj_X) (s : wSl) (ps : List Nat) : Prop := x.1 67 s.1 = nI (w_at w its s.2.2.2.2.2.2.2.1) ∧ s.2.2.2.2.2.2.2.1 ≤ its.length
  ∧ x.1 68 s.1 = z_fst ps ∧ x.1 69 s.1 = z_hd ps ∧ z_lnk (x.1 72) (-1) ps ∧ z_pcs w its (x.1 70) (x.1 71) ps (c_ps s.2.2) ∧ ps.Pairwise (fun a b => b < a)
/-- its labels, its locals, its end -/
def z_sb (nl : Nat) (lm : Nat → Nat) (lv : Nat → Bool) (x : mj_X) (s : wSl) : Prop := (s.2.2.1 ≤ 1 → s.2.2.2.2.1 < nl ∧ lv s.2.2.2.2.1 = true ∧ x.1 63 s.1 = nI (lm s.2.2.2.2.1))
  ∧ (s.2.2.1 = 0 → s.2.2.2.2.2.1 < nl ∧ lv s.2.2.2.2.2.1 = true ∧ x.1 64 s.1 = nI (lm s.2.2.2.2.2.1)) ∧ x.1 66 s.1 = nI s.2.2.2.2.2.2.1 ∧ s.2.2.2.2.2.2.1 ≤ 8000 ∧ (3 ≤ s.2.2.1 → x.1 65 s.1 = s.2.2.2.1)
/-- from the innermost on -/
def z_ch : Int32 → Nat → List wSl → Prop
  | hr, _, [] => hr = -1
  | hr, k, s :: r => hr = nI s.1 ∧ s.1 < k ∧ z_ch s.2.1 s.1 r
/-- ranges -/
def z_rg (w : Bool) (rf : Nat) (its : List (wI × wF)) (s44 : Int32) (a24 : Nat → Int32) (rg : List (Nat × Nat × Nat × Int32)) : Prop := s44 = nI rg.length ∧ rf + rg.length ≤ 20000
  ∧ (∀ e, e ∈ rg → e.1 ≤ its.length ∧ e.2.1 ≤ its.length ∧ e.2.2.1 ≤ its.length)
  ∧ z_l1 (fun k e => a24 (4 * (rf + k)) = nI (w_at w its e.1) ∧ a24 (4 * (rf + k) + 1) = nI (w_at w its e.2.1) ∧ a24 (4 * (rf + k) + 2) = nI (w_at w its e.2.2.1) ∧ a24 (4 * (rf + k) + 3) = e.2.2.2) rg
/-- in both modes: H hidden contexts, V visible ones, K contexts, u within, o the innermost one if it is not what the heap says -/
def zS (M rf : Nat) (H V : List wSl) (K u : Nat) (o : Option Int32) (x : mj_X) (cx : List wC) : Prop :=
  V.map (fun s => s.2.2) = cx ∧ x.1 0 58 = nI K ∧ K ≤ u ∧ u ≤ 200 ∧ x.1 0 41 = nI u ∧ z_ch (o.getD (x.1 0 59)) K V ∧ (H ++ V).Pairwise (fun a b => a.1 ≠ b.1) ∧ (∀ s, s ∈ H ++ V → s.1 < K ∧ z_sk x s)
  ∧ (∃ n, n ≤ 30000 ∧ x.1 0 72 = nI n) ∧ (∃ n, rf + n ≤ 20000 ∧ x.1 0 44 = nI n) ∧ x.1 17 M = nI rf ∧ ∀ k, ∃ m, m < 300000 ∧ x.1 74 k = nI m
/-- while all is exact: pieces; hp: those of contexts that are put aside -/
def zP (w : Bool) (hp : Nat) (H V : List wSl) (x : mj_X) (g : wG) : Prop := ∃ (n : Nat) (ps : Nat → List Nat), (x.1 0 72 = nI n ∧ n ≤ 30000) ∧ n ≤ w_ph g + hp ∧ (∀ s, s ∈ H ++ V → z_sx w (g_it g) x s (ps s.1) ∧ ∀ p, p ∈ ps s.1 → p < n)
  ∧ (∀ a b, a ∈ H ++ V → b ∈ H ++ V → a.1 ≠ b.1 → ∀ p, p ∈ ps a.1 → p ∉ ps b.1)
def zN (x : mj_X) (g : wG) : Prop := x.1 0 38 = nI (g_nx g) ∧ g_nx g ≤ 8000 ∧ x.1 0 39 = nI (g_mx g) ∧ g_mx g ≤ 8000 ∧ x.1 0 40 = nI (g_ac g) ∧ g_ac g ≤ 60000
def zX (w : Bool) (rf hp : Nat) (lm : Nat → Nat) (lv : Nat → Bool) (H V : List wSl) (x : mj_X) (g : wG) : Prop := zN x g ∧ z_rg w rf (g_it g) (x.1 0 44) (x.1 24) (g_rg g) ∧ (∀ k l, g_pl g (4000 + k) = some l → l < g_nl g ∧ lv l = true ∧ x.1 74 k = nI (lm l))
  ∧ (∀ s, s ∈ H ++ V → z_sb (g_nl g) lm lv x s) ∧ zP w hp H V x g
/-- what a statement may change -/
def zw2 (ba pf rf lf : Nat) (k j : Nat) : Bool := zw ba pf lf k j || (match k with
  | 0 => [38, 39, 40, 41, 44, 58, 59, 72].elem j
  | 24 => Nat.ble (4 * rf) j
  | 48 => true
  | 61 => true
  | 62 => true
  | 63 => true
  | 64 => true
  | 65 => true
  | 66 => true
  | 67 => true
  | 68 => true
  | 69 => true
  | 70 => true
  | 71 => true
  | 72 => true
  | 74 => true
  | 75 => true
  | _ => false)
theorem zfr.up {ba pf rf lf : Nat} {x y : mj_X} (h : zfr (zw ba pf lf) x y) : zfr (zw2 ba pf rf lf) x y := ⟨h.1, fun k j hz => h.2 k j (by unfold zw2 at hz; exact (Bool.or_eq_false_iff.mp hz).1)⟩
theorem z_env.fr2 {nt : sp_NT} {N M ba pf rf lf : Nat} {x y : mj_X} (h : z_env nt N M ba pf lf (fun _ => none) x) (f : zfr (zw2 ba pf rf lf) x y) : z_env nt N M ba pf lf (fun _ => none) y := by
  obtain ⟨⟨t1, t2, t3, t4, t5, t6, t7, t8⟩, h2, h3, h4, h5, h6, h7, h8, h9⟩ := h
  have e : ∀ k j, zw2 ba pf rf lf k j = false → y.1 k j = x.1 k j := f.2
  refine ⟨⟨?_, t2, ?_, ?_, ?_, ?_, ?_, ?_⟩, ?_, h3, ?_, ?_, h6, h7, h8, fun v p h4 hv => by simp at hv⟩
  · rw [e 0 0 rfl]; exact t1
  · funext j; rw [e 2 j rfl, t3]
  · funext j; rw [e 3 j rfl, t4]
  · funext j; rw [e 4 j rfl, t5]
  · funext j; rw [e 5 j rfl, t6]
  · funext j; rw [e 6 j rfl, t7]
  · funext j; rw [e 7 j rfl, t8]
  · rw [e 0 7 rfl]; exact h2
  · rw [e 16 M rfl]; exact h4
  · rw [e 18 M rfl]; exact h5
theorem z_env.any {nt : sp_NT} {N M ba pf lf : Nat} {pl : Nat → Option Nat} {x : mj_X} (h : z_env nt N M ba pf lf pl x) : z_env nt N M ba pf lf (fun _ => none) x := by
  obtain ⟨a1, a2, a3, a4, a5, a6, a7, a8, -⟩ := h
  exact ⟨a1, a2, a3, a4, a5, a6, a7, a8, fun v p _ hv => by simp at hv⟩
/-- it was much: nothing is known of places -/
def s_mu (g : wG) : wG := (g.1, g.2.1, true, g.2.2.2.1, g.2.2.2.2.1, g.2.2.2.2.2.1, g.2.2.2.2.2.2.1, g.2.2.2.2.2.2.2.1, g.2.2.2.2.2.2.2.2.1, g.2.2.2.2.2.2.2.2.2.1, (fun _ => none), g_ok g)
def z_skl (V : List wSl) : List (Nat × Int32) := V.map (fun s => (s.1, s.2.1))
section
variable (nt : sp_NT) (N M : Nat) (w : Bool) (ba pf rf lf c hp : Nat) (H : List wSl) (K u : Nat)
def Q2 (o : Option Int32) (V : List wSl) (lm : Nat → Nat) (lv : Nat → Bool) (x : mj_X) (g : wG) : Prop := (∀ l, l < g_nl g → lm l < 300000) ∧ z_env nt N M ba pf lf (fun _ => none) x ∧ zS M rf H V K u o x (g_cx g)
  ∧ ((x.1 0 34 = 0 ∧ Q1 nt N M w ba pf (rf + hp) lf c lm lv x g ∧ zX w rf hp lm lv H V x g) ∨ (¬ x.1 0 34 = 0 ∧ m1 ba lf c x ∧ w_over w (rf + hp) lf g))
/-- a method's result: the first n labels stay, the numbers of contexts are S, much stays much -/
def J2 (n : Nat) (S : List (Nat × Int32)) (r : mj_R) (x : mj_X) (lm : Nat → Nat) (lv : Nat → Bool) (G : wG) : Prop := ∃ V' lm' lv' x', r = some (none, x') ∧ Q2 nt N M w ba pf rf lf c hp H K u none V' lm' lv' x' G
  ∧ z_skl V' = S ∧ (∀ l, l < n → lm' l = lm l ∧ lv' l = lv l) ∧ zfr (zw2 ba pf rf lf) x x' ∧ (¬ x.1 0 34 = 0 → ¬ x'.1 0 34 = 0)
end
/-- what values leave alone -/
def wU (g G : wG) : Prop := g_nx G = g_nx g ∧ g_mx G = g_mx g ∧ g_ac G = g_ac g ∧ g_rg G = g_rg g ∧ g_cx G = g_cx g ∧ g_pl G = g_pl g
theorem z_pcs.app {w : Bool} {its : List (wI × wF)} {a70 a71 : Nat → Int32} (e : List (wI × wF)) : ∀ {ps : List Nat} {qs : List (Nat × Nat)}, z_pcs w its a70 a71 ps qs → z_pcs w (e ++ its) a70 a71 ps qs := by
  intro ps
  induction ps with
  | nil => intro qs h; cases qs with
    | nil => trivial
    | cons q r => exact h
  | cons p r ih => intro qs h; cases qs with
    | nil => exact h
    | cons q s =>
      obtain ⟨⟨h1, h2, h3, h4⟩, h5⟩ := h
      exact ⟨⟨by rw [w_at_app _ _ _ h3]; exact h1, by rw [w_at_app _ _ _ h4]; exact h2, by rw [List.length_append]; omega, by rw [List.length_append]; omega⟩, ih h5⟩
theorem z_sx.app {w : Bool} {its : List (wI × wF)} {x : mj_X} {s : wSl} {ps : List Nat} (e : List (wI × wF)) (h : z_sx w its x s ps) : z_sx w (e ++ its) x s ps := by
  obtain ⟨h1, h2, h3, h4, h5, h6, h7⟩ := h
  exact ⟨by rw [w_at_app _ _ _ h2]; exact h1, by rw [List.length_append]; omega, h3, h4, h5, h6.app e, h7⟩
theorem z_rg.app {w : Bool} {rf : Nat} {its : List (wI × wF)} {s44 : Int32} {a24 : Nat → Int32} {rg : List (Nat × Nat × Nat × Int32)} (e : List (wI × wF)) (h : z_rg w rf its s44 a24 rg) : z_rg w rf (e ++ its) s44 a24 rg := by
  obtain ⟨h1, h2, h3, h4⟩ := h
  refine ⟨h1, h2, fun q hq => ?_, h4.mono (fun k q _ hq a => ?_)⟩
  · have := h3 q hq
    rw [List.length_append]; omega
  · have := h3 q hq
    rw [w_at_app _ _ _ this.1, w_at_app _ _ _ this.2.1, w_at_app _ _ _ this.2.2]; exact a
/-- the arrays and numbers that the two relations read -/
def eZ (x y : mj_X) : Prop := (y.1 0 44 = x.1 0 44 ∧ y.1 0 72 = x.1 0 72) ∧ y.1 68 = x.1 68 ∧ y.1 69 = x.1 69 ∧ y.1 74 = x.1 74
def eS (M : Nat) (x y : mj_X) : Prop := (y.1 0 41 = x.1 0 41 ∧ y.1 0 58 = x.1 0 58 ∧ y.1 0 59 = x.1 0 59 ∧ y.1 17 M = x.1 17 M) ∧ (y.1 61 = x.1 61 ∧ y.1 62 = x.1 62) ∧ eZ x y
def eX (x y : mj_X) : Prop := y.1 24 = x.1 24 ∧ y.1 63 = x.1 63 ∧ y.1 64 = x.1 64 ∧ y.1 65 = x.1 65 ∧ y.1 66 = x.1 66 ∧ y.1 67 = x.1 67 ∧ y.1 70 = x.1 70 ∧ y.1 71 = x.1 71 ∧ y.1 72 = x.1 72
theorem eS.of_zw {M ba pf lf : Nat} {x y : mj_X} (f : zfr (zw ba pf lf) x y) : eS M x y := by
  have E : ∀ k, (∀ j, zw ba pf lf k j = false) → y.1 k = x.1 k := fun k hk => funext fun j => f.2 k j (hk j)
  exact ⟨⟨f.2 0 41 rfl, f.2 0 58 rfl, f.2 0 59 rfl, f.2 17 M rfl⟩, ⟨E 61 (fun _ => rfl), E 62 (fun _ => rfl)⟩, ⟨f.2 0 44 rfl, f.2 0 72 rfl⟩, E 68 (fun _ => rfl), E 69 (fun _ => rfl), E 74 (fun _ => rfl)⟩
theorem eX.of_zw {ba pf lf : Nat} {x y : mj_X} (f : zfr (zw ba pf lf) x y) : eX x y := by
  have E : ∀ k, (∀ j, zw ba pf lf k j = false) → y.1 k = x.1 k := fun k hk => funext fun j => f.2 k j (hk j)
  exact ⟨E 24 (fun _ => rfl), E 63 (fun _ => rfl), E 64 (fun _ => rfl), E 65 (fun _ => rfl), E 66 (fun _ => rfl), E 67 (fun _ => rfl), E 70 (fun _ => rfl), E 71 (fun _ => rfl), E 72 (fun _ => rfl)⟩
