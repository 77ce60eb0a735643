/-! STATEMENTS, all well: the relation.  A context's ghost: (sort, node, break, continue), the locals outside, what is in force outside -/
abbrev oGh : Type := (Nat × Int32 × Nat × Nat) × List Nat × (Nat → Bool)
abbrev h_so (e : oGh) : Nat := e.1.1
abbrev h_nd (e : oGh) : Int32 := e.1.2.1
abbrev h_br (e : oGh) : Nat := e.1.2.2.1
abbrev h_co (e : oGh) : Nat := e.1.2.2.2
abbrev h_L (e : oGh) : List Nat := e.2.1
abbrev h_I (e : oGh) : Nat → Bool := e.2.2
/-- nodes of the ends that are to come -/
def oIsE (T : Nat → List Nat) (l : List oGh) (x : Nat) : Prop := ∃ e, e ∈ l ∧ h_so e = 3 ∧ x ∈ oT T (h_nd e)
def oRw (T : Nat → List Nat) : List oGh → Nat
  | [] => 0
  | e :: r => (if h_so e = 3 then (oT T (h_nd e)).length else 0) + oRw T r
def oLo : List oGh → Nat
  | [] => 0
  | e :: r => (if h_so e = 0 then 1 else 0) + oLo r
def oWa : List oGh → Nat
  | [] => 0
  | e :: r => (if h_so e ≤ 1 then 1 else 0) + oWa r
/-- what a context's end needs, and does not touch -/
def oEd (nt : sp_NT) (N : Nat) (T : Nat → List Nat) (rs : Int32) (e : oGh) (r : List oGh) : Prop :=
  (∃ f s, wA nt N f (h_nd e) ∧ s.2.1 = h_I e ∧ (sp_sc nt f (h_nd e) s).1 = true ∧ sp_lf nt rs f (h_nd e) (oLo r) (oWa r) = true)
  ∧ (∀ v, v < N → h_I e v = true → ¬ v ∈ oT T (h_nd e) ∧ ¬ oIsE T r v) ∧ ∀ x, x ∈ oT T (h_nd e) → ¬ oIsE T r x
def oSt (nt : sp_NT) (N : Nat) (T : Nat → List Nat) (rs : Int32) : List oGh → Prop
  | [] => True
  | e :: r => h_so e ≤ 4 ∧ (∀ d, d ∈ r → h_L d <+: h_L e) ∧ (h_so e = 3 → oEd nt N T rs e r) ∧ (h_so e = 4 → ∃ p, h_nd e = nI p ∧ p < 250 ∧ (h_L e)[p]? = some 11) ∧ oSt nt N T rs r
/-- a context of a state, but for its open piece -/
def oC0 (nt : sp_NT) (N : Nat) (g : wG) (c : wC) (e : oGh) : Prop :=
  (c.1, c.2.1, c.2.2.1, c.2.2.2.1) = e.1 ∧ c.2.2.2.2.1 = (h_L e).length
  ∧ (h_so e ≤ 1 → h_br e < g_nl g ∧ g_lF g (h_br e) = (h_L e, []) ∧ g_lat g (h_br e) = none)
  ∧ (h_so e = 0 → h_co e < g_nl g ∧ g_lF g (h_co e) = (h_L e, []) ∧ (g_ov g = false → ∀ j, g_lat g (h_co e) = some j → oAg g j (h_L e, [])))
  ∧ (2 ≤ h_so e → ∀ p, p ∈ c_ps c → w_cov (g_it g) (h_L e) p)
  ∧ (h_so e = 3 → ∀ v, v < N → h_I e v = true → ∃ p, g_pl g v = some p ∧ (h_L e)[p]? = some (nt 3 v).toNatClampNeg)
/-- its open piece -/
def oCo (g : wG) (c : wC) (e : oGh) : Prop := 2 ≤ h_so e → c.2.2.2.2.2.1 ≤ (g_it g).length ∧ ∀ k i F, c.2.2.2.2.2.1 ≤ k → (g_it g).reverse[k]? = some (i, F) → h_L e <+: F.1
def oCx (nt : sp_NT) (N : Nat) (g : wG) : List wC → List oGh → Prop
  | [], [] => True
  | c :: r, e :: s => oC0 nt N g c e ∧ oCo g c e ∧ oCx nt N g r s
  | _, _ => False
/-- the order of states; labels below n are kept -/
def oLs (n : Nat) (g h : wG) : Prop := (∃ e, g_it h = e ++ g_it g) ∧ g_nl g ≤ g_nl h ∧ (∀ l, l < g_nl g → g_lF h l = g_lF g l ∧ (g_goes g l = true → g_goes h l = true) ∧ (l < n → g_lat h l = g_lat g l))
  ∧ g_mx g ≤ g_mx h ∧ g_ms g ≤ g_ms h ∧ (∃ e, g_rg h = e ++ g_rg g) ∧ (g_ov g = true → g_ov h = true) ∧ (g_ov h = false → ∀ j F, oAg g j F → oAg h j F)
/-- the account of labels, over those below n; z: how many were given back -/
def oPz (n z : Nat) (g h : wG) : Prop := n ≤ g_nl g ∧ g_nl g ≤ g_nl h ∧ (∀ l, l < g_nl g → g_goes g l = true → g_goes h l = true) ∧ g_by g ≤ g_by h ∧ g_ac g ≤ g_ac h
  ∧ 3 * g_us h + 3 * z + 3 * w_cg (g_goes h) n + g_by g ≤ 3 * g_us g + 3 * w_cg (g_goes g) n + g_by h
  ∧ g_n1 h + g_fm g + 2 * w_cg (g_goes h) n + g_by g + 3 * g_ac g ≤ g_n1 g + g_fm h + 2 * w_cg (g_goes g) n + g_by h + 3 * g_ac h
  ∧ g_us g ≤ g_us h + z
/-- which places of variables (and of cases) change -/
def oPl (D : Nat → Prop) (g h : wG) : Prop := ∀ j, ¬ D (if j < 4000 then j else j - 4000) → g_pl h j = g_pl g j
def oZ (n m z : Nat) (D : Nat → Prop) (g h : wG) : Prop := oLs n g h ∧ oPz m z g h ∧ oPl D g h
section
variable {nt : sp_NT} {N M : Nat} {res par : Nat → Int32} {ret : Nat} {E : wF} {T : Nat → List Nat} {rs : Int32} {n m z : Nat} {D : Nat → Prop} {g h k : wG} {gh : List oGh} {cx : List wC}
theorem oLs.rf (n : Nat) (g : wG) : oLs n g g := ⟨⟨[], rfl⟩, Nat.le_refl _, fun _ _ => ⟨rfl, fun q => q, fun _ => rfl⟩, Nat.le_refl _, Nat.le_refl _, ⟨[], rfl⟩, fun q => q, fun _ _ _ q => q⟩
theorem oLs.tr (a : oLs n g h) (b : oLs n h k) : oLs n g k := by
  obtain ⟨⟨e1, a1⟩, a2, a3, a4, a5, ⟨e2, a6⟩, a7, a8⟩ := a
  obtain ⟨⟨f1, b1⟩, b2, b3, b4, b5, ⟨f2, b6⟩, b7, b8⟩ := b
  refine ⟨⟨f1 ++ e1, by rw [b1, a1, List.append_assoc]⟩, by omega, fun l hl => ?_, by omega, by omega, ⟨f2 ++ e2, by rw [b6, a6, List.append_assoc]⟩, fun q => b7 (a7 q), fun o j F q => b8 o _ _ (a8 ?_ _ _ q)⟩
  · obtain ⟨x1, x2, x3⟩ := a3 l hl
    obtain ⟨y1, y2, y3⟩ := b3 l (by omega)
    exact ⟨y1.trans x1, fun q => y2 (x2 q), fun q => (y3 q).trans (x3 q)⟩
  · cases q : g_ov h
    · rfl
    · rw [b7 q] at o; exact absurd o (by decide)
theorem oLs.low {n' : Nat} (a : oLs n' g h) (hn : n ≤ n') : oLs n g h := ⟨a.1, a.2.1, fun l hl => ⟨(a.2.2.1 l hl).1, (a.2.2.1 l hl).2.1, fun q => (a.2.2.1 l hl).2.2 (by omega)⟩, a.2.2.2⟩
theorem oPz.rf (h : m ≤ g_nl g) : oPz m 0 g g := ⟨h, Nat.le_refl _, fun _ _ q => q, Nat.le_refl _, Nat.le_refl _, by omega, by omega, by omega⟩
theorem oPz.tr {z1 z2 : Nat} (a : oPz m z1 g h) (b : oPz m z2 h k) : oPz m (z1 + z2) g k := by
  obtain ⟨a1, a2, a3, a4, a5, a6, a7, a8⟩ := a
  obtain ⟨b1, b2, b3, b4, b5, b6, b7, b8⟩ := b
  exact ⟨a1, by omega, fun l hl q => b3 l (by omega) (a3 l hl q), by omega, by omega, by omega, by omega, by omega⟩
theorem oPz.of (a : oPt g h) (hu : g_us g ≤ g_us h) (hm : m ≤ g_nl g) : oPz m 0 g h := by
  obtain ⟨a1, a2, a3, a4, a5, a6⟩ := a
  have := w_cg_mid (go := g_goes g) (go' := g_goes h) hm a2
  exact ⟨hm, a1, a2, a3, a4, by omega, by omega, by omega⟩
theorem oPz.pt (a : oPz (g_nl g) 0 g h) : oPt g h ∧ g_us g ≤ g_us h := by
  obtain ⟨a1, a2, a3, a4, a5, a6, a7, a8⟩ := a
  exact ⟨⟨a2, a3, a4, a5, by omega, by omega⟩, by omega⟩
theorem oPl.rf (D : Nat → Prop) (g : wG) : oPl D g g := fun _ _ => rfl
theorem oPl.tr (a : oPl D g h) (b : oPl D h k) : oPl D g k := fun j q => (b j q).trans (a j q)
theorem oPl.mono {D' : Nat → Prop} (a : oPl D g h) (e : ∀ j, D j → D' j) : oPl D' g h := fun j q => a j (fun w => q (e _ w))
theorem oPl.eq (e : g_pl h = g_pl g) : oPl D g h := fun j _ => by rw [e]
theorem oZ.rf (hm : m ≤ g_nl g) : oZ n m 0 D g g := ⟨oLs.rf _ _, oPz.rf hm, oPl.rf _ _⟩
theorem oZ.tr {z1 z2 : Nat} (a : oZ n m z1 D g h) (b : oZ n m z2 D h k) : oZ n m (z1 + z2) D g k := ⟨a.1.tr b.1, a.2.1.tr b.2.1, a.2.2.tr b.2.2⟩
theorem oZ.t0 (a : oZ n m z D g h) (b : oZ n m 0 D h k) : oZ n m z D g k := a.tr b
/-- contexts -/
theorem w_cov.le {it it' : List (wI × wF)} {L : List Nat} {p : Nat × Nat} (a : w_cov it L p) (e : ∃ x, it' = x ++ it) : w_cov it' L p := by
  obtain ⟨a1, a2, a3⟩ := a
  obtain ⟨x, e⟩ := e
  refine ⟨a1, by rw [e, List.length_append]; omega, fun k i h1 h2 h3 => ?_⟩
  rw [e, oNth_app _ _ (by omega)] at h3
  exact a3 k i h1 h2 h3
theorem oC0.le {c : wC} {e : oGh} (a : oC0 nt N g c e) (l : oLs n g h) (hb : h_so e ≤ 1 → h_br e < n) (hc : h_so e = 0 → h_co e < n) (hp : h_so e = 3 → ∀ v, v < N → h_I e v = true → g_pl h v = g_pl g v) : oC0 nt N h c e := by
  obtain ⟨a1, a2, a3, a4, a5, a6⟩ := a
  obtain ⟨l1, l2, l3, -, -, -, l7, l8⟩ := l
  refine ⟨a1, a2, fun q => ?_, fun q => ?_, fun q p hp => (a5 q p hp).le l1, fun q v hv hi => ?_⟩
  · obtain ⟨b1, b2, b3⟩ := a3 q
    obtain ⟨c1, c2, c3⟩ := l3 _ b1
    exact ⟨by omega, c1.trans b2, (c3 (hb q)).trans b3⟩
  · obtain ⟨b1, b2, b3⟩ := a4 q
    obtain ⟨c1, c2, c3⟩ := l3 _ b1
    refine ⟨by omega, c1.trans b2, fun o j w => l8 o _ _ (b3 ?_ j ?_)⟩
    · cases x : g_ov g
      · rfl
      · rw [l7 x] at o; exact absurd o (by decide)
    · rw [← c3 (hc q)]; exact w
  · rw [hp q v hv hi]; exact a6 q v hv hi
theorem oCo.le {c : wC} {e : oGh} (a : oCo g c e) (l : ∃ x, g_it h = x ++ g_it g) (hn : 2 ≤ h_so e → oNw (h_L e) g h) : oCo h c e := by
  intro q
  obtain ⟨a1, a2⟩ := a q
  obtain ⟨x, l⟩ := l
  refine ⟨by rw [l, List.length_append]; omega, fun k i F h1 h2 => ?_⟩
  by_cases w : (g_it g).length ≤ k
  · exact hn q k i F w h2
  · rw [l, oNth_app _ _ (by omega)] at h2
    exact a2 k i F h1 h2
/-- the labels of contexts lie below -/
def oLb (n : Nat) (gh : List oGh) : Prop := ∀ e, e ∈ gh → (h_so e ≤ 1 → h_br e < n) ∧ (h_so e = 0 → h_co e < n)
theorem oCx.lb : ∀ {cx : List wC} {gh : List oGh}, oCx nt N g cx gh → oLb (g_nl g) gh := by
  intro cx
  induction cx with
  | nil => intro gh h e he; cases gh with
    | nil => cases he
    | cons _ _ => exact h.elim
  | cons c r ih => intro gh h e he; cases gh with
    | nil => exact h.elim
    | cons d s =>
      rcases List.mem_cons.mp he with q | q
      · rw [q]; exact ⟨fun w => (h.1.2.2.1 w).1, fun w => (h.1.2.2.2.1 w).1⟩
      · exact ih h.2.2 e q
/-- variables of ends are left alone -/
def oKp (N : Nat) (D : Nat → Prop) (gh : List oGh) : Prop := ∀ e, e ∈ gh → h_so e = 3 → ∀ v, v < N → h_I e v = true → ¬ D v
theorem oCx.le : ∀ {cx : List wC} {gh : List oGh}, oCx nt N g cx gh → oLs n g h → oLb n gh → (∀ e, e ∈ gh → oNw (h_L e) g h) → oPl D g h → oKp N D gh → N ≤ 4000 → oCx nt N h cx gh := by
  intro cx
  induction cx with
  | nil => intro gh h; cases gh with
    | nil => intros; trivial
    | cons _ _ => exact h.elim
  | cons c r ih => intro gh a l hl hn hp hk hN; cases gh with
    | nil => exact a.elim
    | cons e s =>
      have m := List.mem_cons_self (a := e) (l := s)
      refine ⟨a.1.le l (hl e m).1 (hl e m).2 (fun q v hv hi => hp v ?_), a.2.1.le l.1 (fun _ => hn e m), ih a.2.2 l (fun d hd => hl d (List.mem_cons_of_mem _ hd)) (fun d hd => hn d (List.mem_cons_of_mem _ hd)) hp (fun d hd => hk d (List.mem_cons_of_mem _ hd)) hN⟩
      rw [if_pos (by omega)]; exact hk e m q v hv hi
theorem oCx.len : ∀ {cx : List wC} {gh : List oGh}, oCx nt N g cx gh → cx.length = gh.length := by
  intro cx
  induction cx with
  | nil => intro gh h; cases gh with
    | nil => rfl
    | cons _ _ => exact h.elim
  | cons c r ih => intro gh h; cases gh with
    | nil => exact h.elim
    | cons d s => simp only [List.length_cons]; rw [ih h.2.2]
/-- a state, all well; cx: the contexts that are looked at -/
def oY (nt : sp_NT) (N M : Nat) (res par : Nat → Int32) (ret : Nat) (E : wF) (gh : List oGh) (cx : List wC) (g : wG) : Prop :=
  oI nt N M res par ret E g ∧ oCx nt N g cx gh ∧ g_fm g ≤ 41 ∧ g_ac g ≤ 60001 ∧ (g_ov g = false → g_ac g ≤ 60000) ∧ (g_al g = true → ∀ e, e ∈ gh → h_L e <+: g_L g)
/-- what is in force has its place -/
def oFm (nt : sp_NT) (N : Nat) (I : Nat → Bool) (g : wG) : Prop := (∀ v, v < N → I v = true → ∃ p, g_pl g v = some p ∧ (g_L g)[p]? = some (nt 3 v).toNatClampNeg) ∧ ¬ 12 ∈ g_L g
/-- outer in force is in force within -/
def oSi (N : Nat) : List oGh → Prop
  | [] => True
  | e :: r => (∀ d, d ∈ r → ∀ v, v < N → h_I d v = true → h_I e v = true) ∧ oSi N r
/-- a point within a construct that began at g0: its stack s -/
def oJ (nt : sp_NT) (N M : Nat) (res par : Nat → Int32) (ret : Nat) (E : wF) (gh : List oGh) (cx : List wC) (n m z : Nat) (D : Nat → Prop) (L0 s : List Nat) (g0 h : wG) : Prop :=
  oY nt N M res par ret E gh cx h ∧ oZ n m z D g0 h ∧ (g_al h = true → L0 <+: g_L h ∧ g_st h = s) ∧ L0.length ≤ g_nx h
/-- what holds in all of a construct: its contexts are older, its changes do not touch them -/
def oW (N n : Nat) (D : Nat → Prop) (gh : List oGh) (L0 : List Nat) : Prop := oLb n gh ∧ oKp N D gh ∧ N ≤ 64 ∧ ∀ e, e ∈ gh → h_L e <+: L0
theorem oNw.le {L L' : List Nat} (a : oNw L' g h) (e : L <+: L') : oNw L g h := fun k i F h1 h2 => e.trans (a k i F h1 h2)
theorem oLs.of (a : oLe g h) (hov : g_ov g = true → g_ov h = true) (hl : ∀ l, l < n → l < g_nl g → g_lat h l = g_lat g l) : oLs n g h :=
  ⟨a.1, a.2.1, fun l q => ⟨(a.2.2.1 l q).1, (a.2.2.1 l q).2.1, fun w => hl l w q⟩, a.2.2.2.1, a.2.2.2.2.1, a.2.2.2.2.2.2.1, hov, fun _ => a.2.2.2.2.2.2.2⟩
/-- a step that is one of oQb -/
theorem oY.step {L0 : List Nat} {f : Nat} (hf : f ≤ 41) (w : oW N n D gh L0) (a : oY nt N M res par ret E gh cx g) (q : oQb nt N M res par ret E f g h) (hov : g_ov h = g_ov g) (hac : g_ac h = g_ac g) (hlat : ∀ l, l < n → l < g_nl g → g_lat h l = g_lat g l) (hpl : oPl D g h) (hnw : ∀ e, e ∈ gh → oNw (h_L e) g h) (hal : g_al h = true → ∀ e, e ∈ gh → h_L e <+: g_L h) (hm : m ≤ g_nl g) : oY nt N M res par ret E gh cx h ∧ oZ n m 0 D g h := by
  obtain ⟨a1, a2, a3, a4, a5, a6⟩ := a
  obtain ⟨q1, q2, q3, q4, q5⟩ := q
  have ls : oLs n g h := oLs.of q2 (fun x => by rw [hov]; exact x) hlat
  exact ⟨⟨q1, a2.le ls w.1 hnw hpl w.2.1 (by have := w.2.2.1; omega), by omega, by rw [hac]; exact a4, fun o => by rw [hac]; exact a5 (by rw [← hov]; exact o), hal⟩, ls, oPz.of q3 q4 hm, hpl⟩
/-- a step of a value -/
theorem oY.v {L0 s : List Nat} {f : Nat} {tg : List Nat} (hf : f ≤ 41) (w : oW N n D gh L0) (a : oY nt N M res par ret E gh cx g) (ha : g_al g = true) (x : wX (g_nl g) tg g h) (q : oQ nt N M res par ret E f g h) (hm : m ≤ g_nl g) : oY nt N M res par ret E gh cx h ∧ oZ n m 0 D g h := by
  obtain ⟨x1, x2, x3, x4, -⟩ := x
  have al := a.2.2.2.2.2 ha
  exact a.step hf w q.1 x1.1 x1.2.2.2.1 (fun l _ hl => (x4 l hl).1) (oPl.eq x1.2.2.2.2.2.2) (fun e he => q.2.2.le (al e he)) (fun _ e he => by rw [q.2.1]; exact al e he) hm
theorem oJ.tr0 {z1 : Nat} {L0 s s' : List Nat} {g0 : wG} (a : oJ nt N M res par ret E gh cx n m z D L0 s g0 g) (b : oY nt N M res par ret E gh cx h ∧ oZ n m z1 D g h) (hs : g_al h = true → L0 <+: g_L h ∧ g_st h = s') (hn : L0.length ≤ g_nx h) : oJ nt N M res par ret E gh cx n m (z + z1) D L0 s' g0 h :=
  ⟨b.1, a.2.1.tr b.2, hs, hn⟩
/-- a value, from a live point on -/
theorem oJ.val {L0 s s' : List Nat} {g0 : wG} {f : Nat} (hf : f ≤ 41) (w : oW N n D gh L0) (a : oJ nt N M res par ret E gh cx n m z D L0 s g0 g) (hq : w_q g = false) (p : wP (g_nl g) s' g h) (q : oQ nt N M res par ret E f g h) : oJ nt N M res par ret E gh cx n m z D L0 s' g0 h := by
  obtain ⟨ha, ho⟩ := (w_q_iff g).mp hq
  have hm : m ≤ g_nl g := Nat.le_trans a.2.1.2.1.1 a.2.1.2.1.2.1
  refine a.tr0 (z1 := 0) (a.1.v (s := s) hf w ha p.1 q hm) (fun _ => ⟨by rw [p.2.2.1]; exact (a.2.2.1 ha).1, p.2.2.2⟩) (by rw [p.1.1.2.1]; exact a.2.2.2)
/-- a condition -/
theorem oJ.cond {L0 s : List Nat} {g0 : wG} {f l : Nat} (hf : f ≤ 41) (w : oW N n D gh L0) (a : oJ nt N M res par ret E gh cx n m z D L0 s g0 g) (hq : w_q g = false) (p : wCd (g_nl g) l g h) (q : oQ nt N M res par ret E f g h) : oJ nt N M res par ret E gh cx n m z D L0 s g0 h := by
  obtain ⟨ha, ho⟩ := (w_q_iff g).mp hq
  have hm : m ≤ g_nl g := Nat.le_trans a.2.1.2.1.1 a.2.1.2.1.2.1
  refine a.tr0 (z1 := 0) (a.1.v (s := s) hf w ha p.1 q hm) (fun ha' => ?_) (by rw [p.1.1.2.1]; exact a.2.2.2)
  rcases p.2.2 with ⟨y1, y2, y3⟩ | ⟨y1, y2⟩
  · exact ⟨by rw [y2]; exact (a.2.2.1 ha).1, y3.trans (a.2.2.1 ha).2⟩
  · rw [y1] at ha'; exact absurd ha' (by decide)
theorem oPut_f (l : Nat) (g : wG) : g_it (w_put l g) = g_it g ∧ g_ov (w_put l g) = g_ov g ∧ g_ac (w_put l g) = g_ac g ∧ g_pl (w_put l g) = g_pl g ∧ g_nx (w_put l g) = g_nx g ∧ g_cx (w_put l g) = g_cx g ∧ g_nl (w_put l g) = g_nl g ∧ g_lF (w_put l g) = g_lF g ∧ g_goes (w_put l g) = g_goes g ∧ (g_lat (w_put l g) = fun k => if k = l then some (g_it g).length else g_lat g k) ∧ g_al (w_put l g) = (g_al g || g_goes g l) ∧ (g_al (w_put l g) = true → (g_L (w_put l g), g_st (w_put l g)) = g_lF g l) := by
  unfold w_put
  cases e : g_al g
  · cases e2 : g_goes g l
    · exact ⟨rfl, rfl, rfl, rfl, rfl, rfl, rfl, rfl, rfl, rfl, e, fun q => absurd (e.symm.trans q) (by decide)⟩
    · exact ⟨rfl, rfl, rfl, rfl, rfl, rfl, rfl, rfl, rfl, rfl, rfl, fun _ => rfl⟩
  · exact ⟨rfl, rfl, rfl, rfl, rfl, rfl, rfl, rfl, rfl, rfl, e, fun _ => rfl⟩
/-- a label of the construct is put -/
theorem oJ.put {L0 L1 s s' : List Nat} {g0 : wG} {l : Nat} (w : oW N n D gh L0) (a : oJ nt N M res par ret E gh cx n m z D L0 s g0 g) (h1 : n ≤ l) (h2 : l < g_nl g) (h3 : g_lat g l = none) (h4 : g_lF g l = (L1, s')) (h5 : L0 <+: L1) (h6 : g_al g = true → L1 <+: g_L g ∧ g_st g = s') : oJ nt N M res par ret E gh cx n m z D L0 s' g0 (w_put l g) ∧ (g_al (w_put l g) = true → g_L (w_put l g) = L1) := by
  obtain ⟨f1, f2, f3, f4, f5, f6, f7, f8, f9, f10, f11, f12⟩ := oPut_f l g
  rw [h4] at f12
  have hm : m ≤ g_nl g := Nat.le_trans a.2.1.2.1.1 a.2.1.2.1.2.1
  have q := oQb.put (f := 41) a.1.1 h2 h3 (fun z => by rw [h4]; exact ⟨(h6 z).1, (h6 z).2⟩)
  have st := a.1.step (m := m) (Nat.le_refl _) w q f2 f3 (fun k hk _ => by rw [f10]; exact if_neg (by omega)) (oPl.eq f4) (fun e _ => oNw.rf f1) (fun z e he => by rw [(Prod.mk.inj (f12 z)).1]; exact (w.2.2.2 e he).trans h5) hm
  exact ⟨a.tr0 (z1 := 0) st (fun z => ⟨by rw [(Prod.mk.inj (f12 z)).1]; exact h5, (Prod.mk.inj (f12 z)).2⟩) (by rw [f5]; exact a.2.2.2), fun z => (Prod.mk.inj (f12 z)).1⟩
theorem oGo_f (l : Nat) (g : wG) : g_ov (w_go l g) = g_ov g ∧ g_ac (w_go l g) = g_ac g ∧ g_pl (w_go l g) = g_pl g ∧ g_nx (w_go l g) = g_nx g ∧ g_cx (w_go l g) = g_cx g ∧ g_nl (w_go l g) = g_nl g ∧ g_lF (w_go l g) = g_lF g ∧ g_lat (w_go l g) = g_lat g ∧ g_L (w_go l g) = g_L g ∧ g_st (w_go l g) = g_st g ∧ (g_al (w_go l g) = true → g_ov g = true ∧ w_go l g = g) := by
  cases hq : w_q g
  · unfold w_go w_em w_es
    rw [hq]
    exact ⟨rfl, rfl, rfl, rfl, rfl, rfl, rfl, rfl, rfl, rfl, fun q => absurd (show false = true from q) (by decide)⟩
  · rw [w_go_q hq]
    refine ⟨rfl, rfl, rfl, rfl, rfl, rfl, rfl, rfl, rfl, rfl, fun q => ⟨?_, rfl⟩⟩
    unfold w_q at hq; rw [q] at hq; simpa using hq
/-- a jump -/
theorem oJ.go {L0 s : List Nat} {g0 : wG} {l : Nat} (w : oW N n D gh L0) (a : oJ nt N M res par ret E gh cx n m z D L0 s g0 g) (hs : s.length < 3370) (hU : w_q g = false → l < g_nl g ∧ w_fit (g_L g, g_st g) (g_lF g l) ∧ ∀ j, g_lat g l = some j → oAg g j (g_lF g l)) : oJ nt N M res par ret E gh cx n m z D L0 s g0 (w_go l g) := by
  obtain ⟨f1, f2, f3, f4, f5, f6, f7, f8, f9, f10, f11⟩ := oGo_f l g
  have hm : m ≤ g_nl g := Nat.le_trans a.2.1.2.1.1 a.2.1.2.1.2.1
  cases hq : w_q g
  · obtain ⟨ha, ho⟩ := (w_q_iff g).mp hq
    have q : oQ nt N M res par ret E 41 g (w_go l g) := oQ.go a.1.1 hU (by rw [(a.2.2.1 ha).2]; exact hs)
    have al := a.1.2.2.2.2.2 ha
    have st := a.1.step (m := m) (Nat.le_refl _) w q.1 f1 f2 (fun k _ _ => by rw [f8]) (oPl.eq f3) (fun e he => q.2.2.le (al e he)) (fun z e he => by rw [q.2.1]; exact al e he) hm
    exact a.tr0 (z1 := 0) st (fun _ => by rw [f9, f10]; exact a.2.2.1 ha) (by rw [f4]; exact a.2.2.2)
  · rw [w_go_q hq]; exact a
/-- a label is sealed -/
theorem oJ.sl {L0 s : List Nat} {g0 : wG} {l : Nat} (w : oW N n D gh L0) (a : oJ nt N M res par ret E gh cx n m z D L0 s g0 g) (hu : 1 ≤ g_us g) : oJ nt N M res par ret E gh cx n m (z + (bif g_goes g l then 0 else 1)) D L0 s g0 (w_sl false l g) := by
  obtain ⟨x1, x2, x3, x4, x5, x6, x7, x8, x9⟩ := w_sl_n false l g
  obtain ⟨-, f2, f3, f4, f5, -, -, -, f9, f10⟩ := w_sl_f false l g
  have hm : m ≤ g_nl g := Nat.le_trans a.2.1.2.1.1 a.2.1.2.1.2.1
  obtain ⟨a1, a2, a3, a4, a5, a6⟩ := a.1
  obtain ⟨o, le⟩ := a1.sl (by omega) false l
  have F := (f10 0 []).1
  have ls : oLs n g (w_sl false l g) := oLs.of le (fun x => by rw [f3]; exact x) (fun k _ _ => by rw [x4])
  have fm : g_fm (w_sl false l g) = g_fm g := by rw [x9]; cases g_goes g l <;> rfl
  have by_ : g_by (w_sl false l g) = g_by g := by unfold g_by; rw [x5]
  refine a.tr0 ⟨⟨o, a2.le ls w.1 (fun e _ => oNw.rf x5) (oPl.eq (D := D) F.2.2.2.2.2.2) w.2.1 (by have := w.2.2.1; omega), by omega, by rw [x6]; exact a4, fun q => by rw [x6]; exact a5 (by rw [← f3]; exact q), fun q e he => by rw [f4]; exact a6 (by rw [← f2]; exact q) e he⟩, ls, ⟨hm, Nat.le_of_eq x1.symm, fun k _ q => by rw [x2]; exact q, by omega, by omega, ?_, ?_, ?_⟩, oPl.eq F.2.2.2.2.2.2⟩ (fun q => by rw [f4, f5]; exact a.2.2.1 (by rw [← f2]; exact q)) (by rw [F.2.1]; exact a.2.2.2)
  · rw [x2, x8, by_]; cases g_goes g l <;> simp only [cond_true, cond_false] <;> omega
  · rw [x2, x7, fm, by_, x6]; omega
  · rw [x8]; cases g_goes g l <;> simp only [cond_true, cond_false] <;> omega
end
