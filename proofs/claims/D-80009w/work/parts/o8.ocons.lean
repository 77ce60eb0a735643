/-! constructs: labels, the contract, what closes -/
def oLab (F : wF) (c c' : Nat) (g h : wG) : Prop :=
  (g_it h = g_it g ∧ g_al h = g_al g ∧ g_ov h = g_ov g ∧ g_L h = g_L g ∧ g_st h = g_st g ∧ g_nx h = g_nx g ∧ g_mx h = g_mx g ∧ g_ms h = g_ms g ∧ g_ac h = g_ac g ∧ g_pl h = g_pl g ∧ g_cx h = g_cx g ∧ g_rg h = g_rg g ∧ g_po h = g_po g)
  ∧ g_nl h = g_nl g + c ∧ (∀ l, l < g_nl g → g_lat h l = g_lat g l ∧ g_goes h l = g_goes g l ∧ g_lF h l = g_lF g l) ∧ (∀ l, g_nl g ≤ l → l < g_nl g + c → g_lat h l = none ∧ g_goes h l = false ∧ g_lF h l = F)
  ∧ g_us h = g_us g + c ∧ g_n1 h + g_fm g = g_n1 g + g_fm h + c' ∧ g_fm h ≤ g_fm g
theorem oLab.rf (F : wF) (g : wG) : oLab F 0 0 g g := ⟨⟨rfl, rfl, rfl, rfl, rfl, rfl, rfl, rfl, rfl, rfl, rfl, rfl, rfl⟩, rfl, fun _ _ => ⟨rfl, rfl, rfl⟩, fun l h1 h2 => by omega, rfl, by omega, Nat.le_refl _⟩
theorem oLab.tr {F : wF} {c1 c2 d1 d2 : Nat} {g h k : wG} (a : oLab F c1 d1 g h) (b : oLab F c2 d2 h k) : oLab F (c1 + c2) (d1 + d2) g k := by
  obtain ⟨⟨a1, a2, a3, a4, a5, a6, a7, a8, a9, a10, a11, a12, a13⟩, n1, l1, m1, u1, v1, w1⟩ := a
  obtain ⟨⟨b1, b2, b3, b4, b5, b6, b7, b8, b9, b10, b11, b12, b13⟩, n2, l2, m2, u2, v2, w2⟩ := b
  refine ⟨⟨b1.trans a1, b2.trans a2, b3.trans a3, b4.trans a4, b5.trans a5, b6.trans a6, b7.trans a7, b8.trans a8, b9.trans a9, b10.trans a10, b11.trans a11, b12.trans a12, b13.trans a13⟩, by omega, fun l hl => ?_, fun l h1 h2 => ?_, by omega, by omega, by omega⟩
  · obtain ⟨x1, x2, x3⟩ := l1 l hl
    obtain ⟨y1, y2, y3⟩ := l2 l (by omega)
    exact ⟨y1.trans x1, y2.trans x2, y3.trans x3⟩
  · by_cases q : l < g_nl h
    · obtain ⟨x1, x2, x3⟩ := m1 l h1 (by omega)
      obtain ⟨y1, y2, y3⟩ := l2 l q
      exact ⟨y1.trans x1, y2.trans x2, y3.trans x3⟩
    · exact m2 l (by omega) (by omega)
theorem oLab_lb (F : wF) (g : wG) : oLab F 1 1 g (w_lb F g) := by
  refine ⟨⟨rfl, rfl, rfl, rfl, rfl, rfl, rfl, rfl, rfl, rfl, rfl, rfl, rfl⟩, rfl, fun l hl => ⟨if_neg (by omega), if_neg (by omega), if_neg (by omega)⟩, fun l h1 h2 => ⟨if_pos (by omega), if_pos (by omega), if_pos (by omega)⟩, rfl, ?_, by show g_fm g - 1 ≤ g_fm g; omega⟩
  show (if g_fm g = 0 then g_n1 g + 1 else g_n1 g) + g_fm g = g_n1 g + (g_fm g - 1) + 1
  split <;> omega
theorem oLab_lb0 (F : wF) (g : wG) : oLab F 1 0 g (w_lb0 F g) :=
  ⟨⟨rfl, rfl, rfl, rfl, rfl, rfl, rfl, rfl, rfl, rfl, rfl, rfl, rfl⟩, rfl, fun l hl => ⟨if_neg (by omega), if_neg (by omega), if_neg (by omega)⟩, fun l h1 h2 => ⟨if_pos (by omega), if_pos (by omega), if_pos (by omega)⟩, rfl, rfl, Nat.le_refl _⟩
theorem oLab.le {F : wF} {c c' : Nat} {g h : wG} (a : oLab F c c' g h) (n : Nat) : oLs n g h := by
  obtain ⟨⟨a1, a2, a3, a4, a5, a6, a7, a8, a9, a10, a11, a12, a13⟩, n1, l1, m1, u1, v1, w1⟩ := a
  exact ⟨⟨[], a1⟩, by omega, fun l hl => ⟨(l1 l hl).2.2, fun q => by rw [(l1 l hl).2.1]; exact q, fun _ => (l1 l hl).1⟩, by omega, by omega, ⟨[], a12⟩, fun q => by rw [a3]; exact q, fun _ j D q => by unfold oAg; rw [a1, a2, a4, a5]; exact q⟩
theorem oLab.oB {F : wF} {c c' B : Nat} {g h : wG} (a : oLab F c c' g h) (b : oB B g) (hc : c' ≤ c) : oB (B + c) h := by
  obtain ⟨⟨a1, a2, a3, a4, a5, a6, a7, a8, a9, a10, a11, a12, a13⟩, n1, l1, m1, u1, v1, w1⟩ := a
  obtain ⟨b1, b2, b3⟩ := b
  refine ⟨?_, ?_, by omega⟩ <;> unfold g_by <;> rw [a1] <;> unfold g_by at b1 b2 <;> omega
theorem oB.z {B m z : Nat} {g h : wG} (b : oB B g) (p : oPz m z g h) (hac : g_ac h ≤ 60001) : oB B h := by
  obtain ⟨b1, b2, b3⟩ := b
  obtain ⟨p1, p2, p3, p4, p5, p6, p7, p8⟩ := p
  have := w_cg_le (go := g_goes g) (go' := g_goes h) (n := m) (fun l hl q => p3 l (by omega) q)
  exact ⟨by omega, by omega, hac⟩
section
variable {nt : sp_NT} {N M : Nat} {res par : Nat → Int32} {ret : Nat} {E : wF} {T : Nat → List Nat} {rs : Int32} {n m z : Nat} {D : Nat → Prop} {g g0 h k : wG} {gh : List oGh} {cx : List wC}
theorem oCx.same : ∀ {cx : List wC} {gh : List oGh}, oCx nt N g cx gh → (∀ c e, oC0 nt N g c e → oC0 nt N h c e) → (∀ c e, oCo g c e → oCo h c e) → oCx nt N h cx gh := by
  intro cx
  induction cx with
  | nil => intro gh a _ _; cases gh with
    | nil => trivial
    | cons _ _ => exact a.elim
  | cons c r ih => intro gh a h1 h2; cases gh with
    | nil => exact a.elim
    | cons e s => exact ⟨h1 c e a.1, h2 c e a.2.1, ih a.2.2 h1 h2⟩
theorem oY.lb {F : wF} {B : Nat} (a : oY nt N M res par ret E gh cx g) (hF : F.2.length < 3370) (hB : oB B g) (hB2 : B ≤ 20010) : oY nt N M res par ret E gh cx (w_lb F g) := by
  obtain ⟨a1, a2, a3, a4, a5, a6⟩ := a
  refine ⟨a1.lb hF hB hB2 (by omega), ?_, by have := (oLab_lb F g).2.2.2.2.2.2; omega, a4, a5, a6⟩
  have l := (oLab_lb F g).le (g_nl g)
  exact a2.same (fun c e q => q.le l (fun w => (q.2.2.1 w).1) (fun w => (q.2.2.2.1 w).1) (fun _ _ _ _ => rfl)) (fun c e q => q)
theorem oY.lb0 {F : wF} {B : Nat} (a : oY nt N M res par ret E gh cx g) (hF : F.2.length < 3370) (hB : oB B g) (hB2 : B ≤ 20010) : oY nt N M res par ret E gh cx (w_lb0 F g) := by
  obtain ⟨a1, a2, a3, a4, a5, a6⟩ := a
  have l := (oLab_lb0 F g).le (g_nl g)
  obtain ⟨b1, b2, b3⟩ := hB
  refine ⟨⟨⟨a1.1, hF, fun hb => ?_⟩, a1.2.1, fun ho => ?_⟩, a2.same (fun c e q => q.le l (fun w => (q.2.2.1 w).1) (fun w => (q.2.2.2.1 w).1) (fun _ _ _ _ => rfl)) (fun c e q => q), a3, a4, a5, a6⟩
  · have hb : g_by g ≤ 65535 := hb
    omega
  · have c := a1.2.2 ho
    have le : oLe g (w_lb0 F g) := ⟨⟨[], rfl⟩, Nat.le_succ _, fun l hl => ⟨if_neg (by omega), fun q => by show (if l = g_nl g then false else g_goes g l) = true; rw [if_neg (by omega)]; exact q, fun j q => by show (if l = g_nl g then none else g_lat g l) = some j; rw [if_neg (by omega)]; exact q⟩, Nat.le_refl _, Nat.le_refl _, ⟨[], rfl⟩, ⟨[], rfl⟩, fun _ _ q => q⟩
    exact oCode_lb (oTy_m nt M res par ret) c le rfl rfl rfl rfl rfl rfl c.2.2.2.2.2 rfl rfl
theorem oY.lbs {F : wF} (hF : F.2.length < 3370) : ∀ (c : Nat) {B : Nat} {g : wG}, oY nt N M res par ret E gh cx g → oB B g → B + c ≤ 20010 → oY nt N M res par ret E gh cx (w_lbs F c g) ∧ oLab F c c g (w_lbs F c g) := by
  intro c
  induction c with
  | zero => intro B g a _ _; exact ⟨a, oLab.rf F g⟩
  | succ c ih =>
    intro B g a b hB
    have l := oLab_lb F g
    obtain ⟨i1, i2⟩ := ih (a.lb hF b (by omega)) (l.oB b (Nat.le_refl _)) (by omega)
    have := l.tr i2
    rw [Nat.add_comm 1 c] at this
    exact ⟨i1, this⟩
theorem oY.s_ac (a : oY nt N M res par ret E gh cx g) (h : g_ac g + 1 ≤ 60000) : oY nt N M res par ret E gh cx (s_ac g) := by
  obtain ⟨a1, a2, a3, a4, a5, a6⟩ := a
  exact ⟨a1, a2.same (fun _ _ q => q) (fun _ _ q => q), a3, by show g_ac g + 1 ≤ 60001; omega, fun _ => h, a6⟩
/-! the contract -/
def oPr (nt : sp_NT) (N M : Nat) (res par : Nat → Int32) (ret : Nat) (E : wF) (T : Nat → List Nat) (rs : Int32) (K f : Nat) (n : Int32) (g : wG) (s : sp_SS) (gh : List oGh) (B : Nat) : Prop :=
  w_q g = false ∧ oY nt N M res par ret E gh (g_cx g) g ∧ oSt nt N T rs gh ∧ oSi N gh ∧ (∀ e, e ∈ gh → ∀ v, v < N → h_I e v = true → s.2.1 v = true) ∧ (g_st g = [] ∧ (g_L g).length = g_nx g) ∧ oFm nt N s.2.1 g
  ∧ (sp_sc nt f n s).1 = true ∧ sp_lf nt rs f n (oLo gh) (oWa gh) = true ∧ (∀ v, v < N → s.2.1 v = true → ¬ v ∈ oT T n ∧ ¬ oIsE T gh v) ∧ (∀ x, x ∈ oT T n → ¬ oIsE T gh x)
  ∧ g_nx g + 2 * (oT T n).length + 2 * oRw T gh ≤ 240 ∧ oB B g ∧ B + 70 * K + 170 ≤ 20000
def oDn (T : Nat → List Nat) (n : Int32) (gh : List oGh) (x : Nat) : Prop := x ∈ oT T n ∨ oIsE T gh x
def oPs (nt : sp_NT) (N M : Nat) (res par : Nat → Int32) (ret : Nat) (E : wF) (T : Nat → List Nat) (f : Nat) (n : Int32) (g : wG) (s : sp_SS) (gh : List oGh) (h : wG) : Prop :=
  oY nt N M res par ret E gh (g_cx h) h ∧ oZ (g_nl g) (g_nl g) 0 (oDn T n gh) g h ∧ (g_al h = true → g_L g <+: g_L h ∧ g_st h = []) ∧ g_nx g ≤ g_nx h ∧ g_nx h ≤ g_nx g + 2 * (oT T n).length
  ∧ (w_q h = false → (g_L h).length = g_nx h ∧ oFm nt N (sp_sc nt f n s).2.2.1 h)
def oSc (nt : sp_NT) (N M : Nat) (res par : Nat → Int32) (ret : Nat) (E : wF) (T : Nat → List Nat) (rs : Int32) (rec : wT) (K : Nat) : Prop :=
  (∀ n g, w_q g = true → rec n g = g) ∧ ∀ f n, wA nt N f n → ∀ g s gh B, oPr nt N M res par ret E T rs K f n g s gh B → oPs nt N M res par ret E T f n g s gh (rec n g)
theorem oFm.mono {I I' : Nat → Bool} (a : oFm nt N I g) (h : ∀ v, I' v = true → I v = true) : oFm nt N I' g := ⟨fun v hv q => a.1 v hv (h v q), a.2⟩
theorem oFm.cg' {I : Nat → Bool} (a : oFm nt N I g) (hL : g_L g <+: g_L h) (h12 : ¬ 12 ∈ g_L h) (hp : ∀ v, v < N → I v = true → g_pl h v = g_pl g v) : oFm nt N I h := by
  refine ⟨fun v hv q => ?_, h12⟩
  obtain ⟨p, p1, p2⟩ := a.1 v hv q
  refine ⟨p, by rw [hp v hv q]; exact p1, ?_⟩
  have hl := (List.getElem?_eq_some_iff.mp p2).1
  obtain ⟨t, ht⟩ := hL
  rw [← ht, List.getElem?_append_left hl]; exact p2
theorem oFm.cg {I : Nat → Bool} (a : oFm nt N I g) (hL : g_L h = g_L g) (hp : ∀ v, v < N → I v = true → g_pl h v = g_pl g v) : oFm nt N I h := a.cg' (by rw [hL]; exact List.prefix_refl _) (by rw [hL]; exact a.2) hp
theorem oVs.sc (hT : wTb nt N M res par) {f : Nat} {c : Int32} {s : sp_SS} (a : oFm nt N s.2.1 g) (hE : wE nt N f c) (h : (sp_sc nt f c s).1 = true) : oVs nt c g := by
  intro v f' hu
  obtain ⟨q1, q2⟩ := (oE_all hT f c hE.l s).2 h v f' hu
  exact a.1 _ (sp_nd_lt hT.2.2 q2) q1
/-- the end of a construct that had c labels -/
theorem oClose {F : wF} {c c' : Nat} {g1 : wG} (hac : g_ac g0 + 1 = g_ac g) (e : oLab F c c' g g1) (same : g_it g = g_it g0 ∧ g_nl g = g_nl g0 ∧ g_lat g = g_lat g0 ∧ g_goes g = g_goes g0 ∧ g_us g = g_us g0 ∧ g_n1 g = g_n1 g0 ∧ g_fm g = g_fm g0) (ls : oLs (g_nl g0) g0 g) (hpl : oPl D g0 g) (a : oZ (g_nl g0) (g_nl g0 + c) z D g1 h)
    (hzc : z ≤ c) (hz : c + w_cg (g_goes h) (g_nl g0) ≤ z + w_cg (g_goes h) (g_nl g0 + c)) (hc : c' + 2 * w_cg (g_goes h) (g_nl g0) ≤ 3 + 2 * w_cg (g_goes h) (g_nl g0 + c)) : oZ (g_nl g0) (g_nl g0) 0 D g0 h := by
  obtain ⟨s1, s2, s3, s4, s5, s6, s7⟩ := same
  obtain ⟨a1, ⟨p1, p2, p3, p4, p5, p6, p7, p8⟩, a3⟩ := a
  have l1 := e.le (g_nl g0)
  obtain ⟨⟨x1, x2, x3, x4, x5, x6, x7, x8, x9, x10, x11, x12, x13⟩, n1, lb, mb, u1, v1, w1⟩ := e
  have ls' := (ls.tr l1).tr a1
  have cg1 : w_cg (g_goes g1) (g_nl g0 + c) = w_cg (g_goes g0) (g_nl g0) := by
    have h1 : ∀ d, d ≤ c → w_cg (g_goes g1) (g_nl g0 + d) = w_cg (g_goes g1) (g_nl g0) := by
      intro d
      induction d with
      | zero => intro _; rfl
      | succ d ih =>
        intro hd
        show w_cg (g_goes g1) (g_nl g0 + d) + (bif g_goes g1 (g_nl g0 + d) then 1 else 0) = _
        rw [ih (by omega), (mb (g_nl g0 + d) (by omega) (by omega)).2.1]; rfl
    rw [h1 c (Nat.le_refl _)]
    exact w_cg_eq (fun l hl => by rw [(lb l (by omega)).2.1, s4])
  have byg : g_by g1 = g_by g0 := by unfold g_by; rw [x1, s1]
  have cgle := w_cg_le (go := g_goes h) (go' := g_goes h) (n := g_nl g0) (fun _ _ q => q)
  rw [cg1] at p6 p7
  refine ⟨ls', ⟨Nat.le_refl _, by omega, fun l hl q => (ls'.2.2.1 l hl).2.1 q, by omega, by omega, by omega, by omega, by omega⟩, fun j q => (a3 j q).trans (by rw [x10]; exact hpl j q)⟩
end
