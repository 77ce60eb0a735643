/-! points within constructs that have contexts of their own: hh hidden ones, then those of eh, then those around -/
def oM (nt : sp_NT) (N M : Nat) (res par : Nat → Int32) (ret : Nat) (E : wF) (gh : List oGh) (n m z : Nat) (D : Nat → Prop) (L0 : List Nat) (hh : Nat) (eh : List oGh) (s : List Nat) (g1 h : wG) : Prop :=
  ∃ hc ch ct, g_cx h = hc ++ (ch ++ ct) ∧ hc.length = hh ∧ oJ nt N M res par ret E gh ct n m z D L0 s g1 h ∧ oCx nt N h ch eh
/-- a label that is still to be put; one that has been -/
def oOw (L s : List Nat) (l : Nat) (g : wG) : Prop := l < g_nl g ∧ g_lat g l = none ∧ g_lF g l = (L, s)
def oPd (L s : List Nat) (l : Nat) (g : wG) : Prop := l < g_nl g ∧ g_lF g l = (L, s) ∧ (g_ov g = false → ∀ j, g_lat g l = some j → oAg g j (L, s))
theorem oOw.ls {L s : List Nat} {l : Nat} {g h : wG} (a : oOw L s l g) (b : oLs (g_nl g) g h) : oOw L s l h := by
  obtain ⟨a1, a2, a3⟩ := a
  obtain ⟨c1, c2, c3⟩ := b.2.2.1 l a1
  exact ⟨Nat.lt_of_lt_of_le a1 b.2.1, (c3 a1).trans a2, c1.trans a3⟩
theorem oOw.pd {L s : List Nat} {l : Nat} {g : wG} (a : oOw L s l g) : oPd L s l g := ⟨a.1, a.2.2, fun _ j q => by rw [a.2.1] at q; simp at q⟩
theorem oPd.ls {L s : List Nat} {l : Nat} {g h : wG} (a : oPd L s l g) (b : oLs (g_nl g) g h) : oPd L s l h := by
  obtain ⟨a1, a2, a3⟩ := a
  obtain ⟨c1, c2, c3⟩ := b.2.2.1 l a1
  refine ⟨Nat.lt_of_lt_of_le a1 b.2.1, c1.trans a2, fun o j q => b.2.2.2.2.2.2.2 o _ _ (a3 ?_ j ?_)⟩
  · cases x : g_ov g
    · rfl
    · rw [b.2.2.2.2.2.2.1 x] at o; exact absurd o (by decide)
  · rw [← c3 a1]; exact q
theorem oOw.put {L s : List Nat} {l k : Nat} {g : wG} (a : oOw L s l g) (h : l ≠ k) : oOw L s l (w_put k g) := by
  obtain ⟨f1, f2, f3, f4, f5, f6, f7, f8, f9, f10, f11, f12⟩ := oPut_f k g
  exact ⟨by rw [f7]; exact a.1, by rw [f10]; show (if l = k then _ else _) = _; rw [if_neg h]; exact a.2.1, by rw [f8]; exact a.2.2⟩
theorem oOw.go {L s : List Nat} {l k : Nat} {g : wG} (a : oOw L s l g) : oOw L s l (w_go k g) := by
  obtain ⟨f1, f2, f3, f4, f5, f6, f7, f8, f9, f10, f11⟩ := oGo_f k g
  exact ⟨by rw [f6]; exact a.1, by rw [f8]; exact a.2.1, by rw [f7]; exact a.2.2⟩
section
variable {nt : sp_NT} {N M : Nat} {res par : Nat → Int32} {ret : Nat} {E : wF} {T : Nat → List Nat} {rs : Int32} {n m z : Nat} {D : Nat → Prop} {g g0 g1 h k : wG} {gh eh : List oGh} {cx : List wC} {L0 s0 s : List Nat} {rec : wT} {K f B hh : Nat}
theorem oCx.app : ∀ {ch : List wC} {eh : List oGh} {ct : List wC} {gh : List oGh}, oCx nt N g ch eh → oCx nt N g ct gh → oCx nt N g (ch ++ ct) (eh ++ gh) := by
  intro ch
  induction ch with
  | nil => intro eh ct gh a b; cases eh with
    | nil => exact b
    | cons _ _ => exact a.elim
  | cons c r ih => intro eh ct gh a b; cases eh with
    | nil => exact a.elim
    | cons e s => exact ⟨a.1, a.2.1, ih a.2.2 b⟩
theorem oCx.split : ∀ {eh : List oGh} {cx : List wC} {gh : List oGh}, oCx nt N g cx (eh ++ gh) → ∃ ch ct, cx = ch ++ ct ∧ oCx nt N g ch eh ∧ oCx nt N g ct gh := by
  intro eh
  induction eh with
  | nil => intro cx gh a; exact ⟨[], cx, rfl, trivial, a⟩
  | cons e s ih => intro cx gh a; cases cx with
    | nil => exact a.elim
    | cons c r =>
      obtain ⟨ch, ct, h1, h2, h3⟩ := ih a.2.2
      exact ⟨c :: ch, ct, by rw [h1]; rfl, ⟨a.1, a.2.1, h2⟩, h3⟩
theorem oCx.nil0 {ch : List wC} (a : oCx nt N g ch []) : ch = [] := by cases ch with
  | nil => rfl
  | cons _ _ => exact a.elim
theorem oM.of (a : oJ nt N M res par ret E gh cx n m z D L0 s g1 h) (e : g_cx h = cx) : oM nt N M res par ret E gh n m z D L0 0 [] s g1 h := ⟨[], [], cx, e, rfl, a, trivial⟩
theorem oM.j (a : oM nt N M res par ret E gh n m z D L0 0 [] s g1 h) : oJ nt N M res par ret E gh (g_cx h) n m z D L0 s g1 h := by
  obtain ⟨hc, ch, ct, e1, e2, j, c⟩ := a
  rw [List.length_eq_zero_iff.mp e2, c.nil0] at e1
  have e1 : g_cx h = ct := e1
  rw [e1]; exact j
theorem oM.ac (a : oM nt N M res par ret E gh n m z D L0 hh eh s g1 h) : ∃ ct, oJ nt N M res par ret E gh ct n m z D L0 s g1 h := by
  obtain ⟨hc, ch, ct, e1, e2, j, c⟩ := a; exact ⟨ct, j⟩
theorem oM.live (a : oM nt N M res par ret E gh n m z D L0 hh eh s g1 h) (q : g_al h = true) : L0 <+: g_L h ∧ g_st h = s := by
  obtain ⟨ct, j⟩ := a.ac; exact j.2.2.1 q
theorem oM.zz (a : oM nt N M res par ret E gh n m z D L0 hh eh s g1 h) : oZ n m z D g1 h := by
  obtain ⟨ct, j⟩ := a.ac; exact j.2.1
theorem oM.us (a : oM nt N M res par ret E gh n m z D L0 hh eh s g1 h) : g_us g1 ≤ g_us h + z := a.zz.2.1.2.2.2.2.2.2.2
theorem oM.nl (a : oM nt N M res par ret E gh n m z D L0 hh eh s g1 h) : m ≤ g_nl h := Nat.le_trans a.zz.2.1.1 a.zz.2.1.2.1
theorem oM.step (hN : N ≤ 64) (a : oM nt N M res par ret E gh n m z D L0 hh eh s g1 g) {z' : Nat} {s' : List Nat} (fj : ∀ ct, oJ nt N M res par ret E gh ct n m z D L0 s g1 g → oJ nt N M res par ret E gh ct n m z' D L0 s' g1 h) (e : g_cx h = g_cx g) (ls : oLs (g_nl g) g h) (hn : ∀ d, d ∈ eh → oNw (h_L d) g h) (hp : g_pl h = g_pl g) : oM nt N M res par ret E gh n m z' D L0 hh eh s' g1 h := by
  obtain ⟨hc, ch, ct, e1, e2, j, c⟩ := a
  exact ⟨hc, ch, ct, e.trans e1, e2, fj ct j, c.le (D := fun _ => False) ls c.lb hn (oPl.eq hp) (fun _ _ _ _ _ _ q => q) (by omega)⟩
theorem oM.val {s' : List Nat} {f : Nat} (hf : f ≤ 41) (w : oW N n D gh L0) (we : ∀ e, e ∈ eh → h_L e <+: L0) (a : oM nt N M res par ret E gh n m z D L0 hh eh s g1 g) (hq : w_q g = false) (p : wP (g_nl g) s' g h) (q : oQ nt N M res par ret E f g h) : oM nt N M res par ret E gh n m z D L0 hh eh s' g1 h ∧ oLs (g_nl g) g h := by
  have ls : oLs (g_nl g) g h := oLs.of q.1.2.1 (fun x => by rw [p.1.1.1]; exact x) (fun l _ hl => (p.1.2.2.2.1 l hl).1)
  exact ⟨a.step w.2.2.1 (fun ct j => j.val hf w hq p q) p.1.1.2.2.2.2.2.1 ls (fun e he => q.2.2.le ((we e he).trans (a.live ((w_q_iff g).mp hq).1).1)) p.1.1.2.2.2.2.2.2, ls⟩
theorem oM.cond {f l : Nat} (hf : f ≤ 41) (w : oW N n D gh L0) (we : ∀ e, e ∈ eh → h_L e <+: L0) (a : oM nt N M res par ret E gh n m z D L0 hh eh s g1 g) (hq : w_q g = false) (p : wCd (g_nl g) l g h) (q : oQ nt N M res par ret E f g h) : oM nt N M res par ret E gh n m z D L0 hh eh s g1 h ∧ oLs (g_nl g) g h := by
  have ls : oLs (g_nl g) g h := oLs.of q.1.2.1 (fun x => by rw [p.1.1.1]; exact x) (fun l _ hl => (p.1.2.2.2.1 l hl).1)
  exact ⟨a.step w.2.2.1 (fun ct j => j.cond hf w hq p q) p.1.1.2.2.2.2.2.1 ls (fun e he => q.2.2.le ((we e he).trans (a.live ((w_q_iff g).mp hq).1).1)) p.1.1.2.2.2.2.2.2, ls⟩
theorem oM.go {l : Nat} (w : oW N n D gh L0) (we : ∀ e, e ∈ eh → h_L e <+: L0) (a : oM nt N M res par ret E gh n m z D L0 hh eh s g1 g) (hs : s.length < 3370) {L : List Nat} (hU : oPd L s l g) (hL : w_q g = false → L <+: g_L g) : oM nt N M res par ret E gh n m z D L0 hh eh s g1 (w_go l g) ∧ oLs (g_nl g) g (w_go l g) := by
  have hu : w_q g = false → l < g_nl g ∧ w_fit (g_L g, g_st g) (g_lF g l) ∧ ∀ j, g_lat g l = some j → oAg g j (g_lF g l) := fun q => by
    obtain ⟨ha, ho⟩ := (w_q_iff g).mp q
    refine ⟨hU.1, ?_, fun j y => ?_⟩
    · rw [hU.2.1]; exact ⟨hL q, (a.live ha).2⟩
    · rw [hU.2.1]; exact hU.2.2 ho j y
  obtain ⟨f1, f2, f3, f4, f5, f6, f7, f8, f9, f10, f11⟩ := oGo_f l g
  cases hq : w_q g
  · have ha := ((w_q_iff g).mp hq).1
    obtain ⟨ct, j⟩ := a.ac
    have q : oQ nt N M res par ret E 41 g (w_go l g) := oQ.go j.1.1 hu (by rw [(a.live ha).2]; exact hs)
    have ls : oLs (g_nl g) g (w_go l g) := oLs.of q.1.2.1 (fun x => by rw [f1]; exact x) (fun l _ hl => by rw [f8])
    exact ⟨a.step w.2.2.1 (fun ct j => j.go w hs hu) f5 ls (fun e he => q.2.2.le ((we e he).trans (a.live ha).1)) f3, ls⟩
  · rw [w_go_q hq]; exact ⟨a, oLs.rf _ _⟩
theorem oM.sl {l : Nat} (w : oW N n D gh L0) (a : oM nt N M res par ret E gh n m z D L0 hh eh s g1 g) (hu : 1 ≤ g_us g) : oM nt N M res par ret E gh n m (z + (bif g_goes g l then 0 else 1)) D L0 hh eh s g1 (w_sl false l g) ∧ oLs (g_nl g) g (w_sl false l g) := by
  obtain ⟨x1, x2, x3, x4, x5, x6, x7, x8, x9⟩ := w_sl_n false l g
  obtain ⟨-, f2, f3, f4, f5, -, -, -, f9, f10⟩ := w_sl_f false l g
  have F := (f10 0 []).1
  obtain ⟨ct, j⟩ := a.ac
  obtain ⟨o, le⟩ := j.1.1.sl (by have := j.1.2.2.1; omega) false l
  have ls : oLs (g_nl g) g (w_sl false l g) := oLs.of le (fun x => by rw [f3]; exact x) (fun k _ _ => by rw [x4])
  exact ⟨a.step w.2.2.1 (fun ct j => j.sl w hu) F.2.2.2.2.2.1 ls (fun e he => oNw.rf x5) F.2.2.2.2.2.2, ls⟩
theorem oLe_put (a : oI nt N M res par ret E g) {l : Nat} (hl : l < g_nl g) (h0 : g_lat g l = none) (hf : g_al g = true → w_fit (g_L g, g_st g) (g_lF g l)) : oLe g (w_put l g) := (oQb.put (f := 41) a hl h0 hf).2.1
theorem oM.put {L1 s' : List Nat} {l : Nat} (w : oW N n D gh L0) (a : oM nt N M res par ret E gh n m z D L0 hh eh s g1 g) (h1 : n ≤ l) (hO : oOw L1 s' l g) (h5 : L0 <+: L1) (h6 : g_al g = true → L1 <+: g_L g ∧ g_st g = s') (he : ∀ e, e ∈ eh → (h_so e ≤ 1 → h_br e ≠ l) ∧ (h_so e = 0 → h_co e ≠ l)) :
    oM nt N M res par ret E gh n m z D L0 hh eh s' g1 (w_put l g) ∧ (g_al (w_put l g) = true → g_L (w_put l g) = L1) ∧ (∀ L2 s2 k, oPd L2 s2 k g → k ≠ l → oPd L2 s2 k (w_put l g)) ∧ (g_al g = true → oPd L1 s' l (w_put l g)) := by
  obtain ⟨f1, f2, f3, f4, f5, f6, f7, f8, f9, f10, f11, f12⟩ := oPut_f l g
  obtain ⟨h2, h3, h4⟩ := hO
  obtain ⟨hc, ch, ct, e1, e2, j, c⟩ := a
  have jp := fun ct (j : oJ nt N M res par ret E gh ct n m z D L0 s g1 g) => j.put w h1 h2 h3 h4 h5 h6
  have le := oLe_put j.1.1 h2 h3 (fun q => by rw [h4]; exact ⟨(h6 q).1, (h6 q).2⟩)
  have pdk : ∀ L2 s2 k, oPd L2 s2 k g → k ≠ l → oPd L2 s2 k (w_put l g) := fun L2 s2 k q hk => by
    refine ⟨by rw [f7]; exact q.1, by rw [f8]; exact q.2.1, fun o j y => le.2.2.2.2.2.2.2 _ _ (q.2.2 (by rw [← f2]; exact o) j ?_)⟩
    rw [f10] at y
    have y : (if k = l then _ else g_lat g k) = some j := y
    rw [if_neg hk] at y; exact y
  refine ⟨⟨hc, ch, ct, f6.trans e1, e2, (jp ct j).1, ?_⟩, (jp ct j).2, pdk, fun ha => ⟨by rw [f7]; exact h2, by rw [f8]; exact h4, fun o j y => ?_⟩⟩
  · have : ∀ {ch : List wC} {eh : List oGh}, (∀ e, e ∈ eh → (h_so e ≤ 1 → h_br e ≠ l) ∧ (h_so e = 0 → h_co e ≠ l)) → oCx nt N g ch eh → oCx nt N (w_put l g) ch eh := by
      intro ch
      induction ch with
      | nil => intro eh _ a; cases eh with
        | nil => trivial
        | cons _ _ => exact a.elim
      | cons c r ih => intro eh he a; cases eh with
        | nil => exact a.elim
        | cons e s =>
          obtain ⟨x1, x2⟩ := he e (List.mem_cons_self ..)
          obtain ⟨⟨a1, a2, a3, a4, a5, a6⟩, a7, a8⟩ := a
          refine ⟨⟨a1, a2, fun q => ?_, fun q => ?_, fun q p hp => by rw [f1]; exact a5 q p hp, fun q v hv hi => by rw [f4]; exact a6 q v hv hi⟩, fun q => by rw [f1]; exact a7 q, ih (fun d hd => he d (List.mem_cons_of_mem _ hd)) a8⟩
          · obtain ⟨b1, b2, b3⟩ := a3 q
            exact ⟨by rw [f7]; exact b1, by rw [f8]; exact b2, by rw [f10]; show (if h_br e = l then _ else _) = _; rw [if_neg (x1 q)]; exact b3⟩
          · have := a4 q
            exact pdk _ _ _ this (x2 q)
    exact this he c
  · rw [f10] at y
    have y : (if l = l then some (g_it g).length else g_lat g l) = some j := y
    rw [if_pos rfl] at y
    injection y with y
    have al : g_al (w_put l g) = true := by rw [f11, ha]; rfl
    exact Or.inr ⟨by rw [f1]; exact y.symm, al, by rw [f12 al, h4]; exact w_fit.rf _⟩
/-- a statement within a construct, from a live point on -/
theorem oM.sub (IH : oSc nt N M res par ret E T rs rec K) (w : oW N n D gh L0) (we : ∀ e, e ∈ eh → h_L e <+: L0) {i : Int32} {s : sp_SS} (a : oM nt N M res par ret E gh n m z D L0 0 eh [] g1 g) (hq : w_q g = false) (hl : (g_L g).length = g_nx g) (hA : wA nt N f i) (hF : oFm nt N s.2.1 g) (hS : oSb nt N T rs f i s (eh ++ gh) (g_nx g)) (hB : oB B g1) (hB2 : B + 70 * K + 170 ≤ 20000) (hD : ∀ x, oDn T i (eh ++ gh) x → D x) (hn : n ≤ g_nl g) :
    oM nt N M res par ret E gh n m z D L0 0 eh [] g1 (rec i g) ∧ g_nx g ≤ g_nx (rec i g) ∧ g_nx (rec i g) ≤ g_nx g + 2 * (oT T i).length ∧ (g_al (rec i g) = true → g_L g <+: g_L (rec i g)) ∧ (w_q (rec i g) = false → (g_L (rec i g)).length = g_nx (rec i g) ∧ oFm nt N (sp_sc nt f i s).2.2.1 (rec i g)) ∧ oPl (oDn T i (eh ++ gh)) g (rec i g) ∧ oLs (g_nl g) g (rec i g) := by
  obtain ⟨ha, ho⟩ := (w_q_iff g).mp hq
  obtain ⟨hc, ch, ct, e1, e2, j, c⟩ := a
  rw [List.length_eq_zero_iff.mp e2] at e1
  have e1 : g_cx g = ch ++ ct := e1
  have hm : m ≤ g_nl g := Nat.le_trans j.2.1.2.1.1 j.2.1.2.1.2.1
  obtain ⟨h1, h2, h3, h4, h5, h6, h7, h8⟩ := hS
  obtain ⟨y1, y2, y3, y4, y5, y6⟩ := j.1
  have Y : oY nt N M res par ret E (eh ++ gh) (g_cx g) g := ⟨y1, by rw [e1]; exact c.app y2, y3, y4, y5, fun q e he => (List.mem_append.mp he).elim (fun he => (we e he).trans (j.2.2.1 q).1) (y6 q e)⟩
  obtain ⟨p1, p2, p3, p4, p5, p6⟩ := IH.2 f i hA g s (eh ++ gh) B ⟨hq, Y, h1, h2, h3, ⟨(j.2.2.1 ha).2, hl⟩, hF, h4, h5, h6, h7, h8, hB.z j.2.1.2.1 j.1.2.2.2.1, hB2⟩
  have zz : oZ n m 0 D g (rec i g) := ⟨p2.1.low hn, oPz.of p2.2.1.pt.1 p2.2.1.pt.2 hm, p2.2.2.mono hD⟩
  obtain ⟨r1, r2, r3, r4, r5, r6⟩ := p1
  obtain ⟨ch', ct', d1, d2, d3⟩ := r2.split
  exact ⟨⟨[], ch', ct', d1, rfl, ⟨⟨r1, d3, r3, r4, r5, fun q e he => r6 q e (List.mem_append_right _ he)⟩, j.2.1.tr zz, fun q => ⟨(j.2.2.1 ha).1.trans (p3 q).1, (p3 q).2⟩, Nat.le_trans j.2.2.2 p4⟩, d2⟩, p4, p5, fun q => (p3 q).1, p6, p2.2.2, p2.1⟩
theorem oLs.sL {L' : List Nat} (hL : L' <+: g_L g) (n : Nat) : oLs n g (s_L L' g) := ⟨⟨[], rfl⟩, Nat.le_refl _, fun _ _ => ⟨rfl, fun q => q, fun _ => rfl⟩, Nat.le_refl _, Nat.le_refl _, ⟨[], rfl⟩, fun q => q, fun _ j F q => q.sL hL⟩
theorem oM.nx (a : oM nt N M res par ret E gh n m z D L0 hh eh s g1 g) {v : Nat} (hv : L0.length ≤ v) : oM nt N M res par ret E gh n m z D L0 hh eh s g1 (s_nx v g) := by
  obtain ⟨hc, ch, ct, e1, e2, j, c⟩ := a
  exact ⟨hc, ch, ct, e1, e2, j.nx hv, c.same (fun _ _ q => q) (fun _ _ q => q)⟩
theorem oM.sL {L' : List Nat} (w : oW N n D gh L0) (a : oM nt N M res par ret E gh n m z D L0 hh eh s g1 g) (hL : L' <+: g_L g) (h0 : g_al g = true → L0 <+: L') : oM nt N M res par ret E gh n m z D L0 hh eh s g1 (s_L L' g) :=
  a.step w.2.2.1 (fun ct j => j.sL w hL h0) rfl (oLs.sL hL _) (fun _ _ => oNw.rf rfl) rfl
/-- a statement's place that ends what is told in it -/
theorem oM.aln (IH : oSc nt N M res par ret E T rs rec K) (w : oW N n D gh L0) (we : ∀ e, e ∈ eh → h_L e <+: L0) {i : Int32} {s : sp_SS} (a : oM nt N M res par ret E gh n m z D L0 0 eh [] g1 g) (hl : w_q g = false → (g_L g).length = g_nx g ∧ oFm nt N s.2.1 g) (hA : wA nt N f i) (hS : oSb nt N T rs f i s (eh ++ gh) (g_nx g)) (hB : oB B g1) (hB2 : B + 70 * K + 170 ≤ 20000) (hD : ∀ x, oDn T i (eh ++ gh) x → D x) (hn : n ≤ g_nl g) :
    oM nt N M res par ret E gh n m z D L0 0 eh [] g1 (w_aln rec i g) ∧ g_nx (w_aln rec i g) = g_nx g ∧ (w_q (w_aln rec i g) = false → w_q g = false ∧ g_L (w_aln rec i g) = g_L g) ∧ (w_q g = false → g_al (w_aln rec i g) = true → g_L (w_aln rec i g) = g_L g) ∧ oLs (g_nl g) g (w_aln rec i g) ∧ oPl (oDn T i (eh ++ gh)) g (w_aln rec i g) := by
  obtain ⟨ct, ja⟩ := a.ac
  unfold w_aln
  simp only
  cases hq : w_q g
  · obtain ⟨l1, l2⟩ := hl hq
    obtain ⟨j, j1, j2, j3, j4, j5, j6⟩ := a.sub IH w we hq l1 hA l2 hS hB hB2 hD hn
    have key : g_al (rec i g) = true → (g_L (rec i g)).take (g_nx g) = g_L g := fun q => by rw [← l1]; exact pre_take_eq (j3 q)
    have ha := ((w_q_iff g).mp hq).1
    refine ⟨oM.nx (oM.sL w j (List.take_prefix _ _) (fun q => by rw [key q]; exact (a.live ha).1)) ja.2.2.2, rfl, fun q => ⟨rfl, ?_⟩, fun _ q => key q, ?_, j5⟩
    · have : w_q (rec i g) = false := q
      exact key ((w_q_iff _).mp this).1
    · have := j6.tr (oLs.sL (List.take_prefix (g_nx g) (g_L (rec i g))) (g_nl g))
      exact ⟨this.1, this.2.1, this.2.2.1, this.2.2.2⟩
  · rw [IH.1 i g hq]
    refine ⟨oM.nx (oM.sL w a (List.take_prefix _ _) (fun q => pre_take (a.live q).1 ja.2.2.2)) ja.2.2.2, rfl, fun q => ?_, fun q => absurd q (by decide), ?_, fun _ _ => rfl⟩
    · have : w_q g = false := q
      rw [hq] at this; exact absurd this (by decide)
    · have := oLs.sL (List.take_prefix (g_nx g) (g_L g)) (g_nl g)
      exact ⟨this.1, this.2.1, this.2.2.1, this.2.2.2⟩
/-- contexts are opened, hidden, shut -/
theorem oM.open_ (a : oM nt N M res par ret E gh n m z D L0 0 [] s g1 g) {so b c : Nat} {nd : Int32} {e : oGh} (h1 : e.1 = (so, nd, b, c)) (h2 : (h_L e).length = g_nx g) (h3 : so ≤ 1 → oOw (h_L e) [] b g) (h4 : so = 0 → oPd (h_L e) [] c g) (h6 : so = 3 → ∀ v, v < N → h_I e v = true → ∃ p, g_pl g v = some p ∧ (h_L e)[p]? = some (nt 3 v).toNatClampNeg) : oM nt N M res par ret E gh n m z D L0 0 [e] s g1 (w_ctx so nd b c g) := by
  have j := a.j
  have d1 : h_so e = so := by show e.1.1 = so; rw [h1]
  have d2 : h_br e = b := by show e.1.2.2.1 = b; rw [h1]
  have d3 : h_co e = c := by show e.1.2.2.2 = c; rw [h1]
  refine ⟨[], [(so, nd, b, c, g_nx g, (g_it g).length, [])], g_cx g, rfl, rfl, ⟨⟨j.1.1, j.1.2.1.same (fun _ _ q => q) (fun _ _ q => q), j.1.2.2⟩, j.2⟩, ⟨h1.symm, h2.symm, fun q => ?_, fun q => ?_, (fun q p hp => by cases hp), fun q => ?_⟩, fun q => ⟨Nat.le_refl _, fun k i F y1 y2 => ?_⟩, trivial⟩
  · rw [d1] at q; rw [d2]; obtain ⟨x1, x2, x3⟩ := h3 q; exact ⟨x1, x3, x2⟩
  · rw [d1] at q; rw [d3]; exact h4 q
  · rw [d1] at q; exact h6 q
  · have := oNth_lt y2
    have y1 : (g_it g).length ≤ k := y1
    have : k < (g_it g).length := this
    omega
theorem oM.hide {e : oGh} (a : oM nt N M res par ret E gh n m z D L0 0 [e] s g1 g) : oM nt N M res par ret E gh n m z D L0 1 [] s g1 g := by
  obtain ⟨hc, ch, ct, e1, e2, j, c⟩ := a
  rw [List.length_eq_zero_iff.mp e2] at e1
  cases ch with
  | nil => exact c.elim
  | cons c0 r =>
    have := c.2.2.nil0
    exact ⟨[c0], [], ct, by rw [e1, this]; rfl, rfl, j, trivial⟩
theorem oM.shut (a : oM nt N M res par ret E gh n m z D L0 1 [] s g1 g) : oM nt N M res par ret E gh n m z D L0 0 [] s g1 (w_shut g) := by
  obtain ⟨hc, ch, ct, e1, e2, j, c⟩ := a
  cases hc with
  | nil => simp at e2
  | cons c0 r =>
    have er : r = [] := by cases r with
      | nil => rfl
      | cons _ _ => simp at e2
    rw [er, c.nil0] at e1
    have e1 : g_cx g = c0 :: ct := e1
    refine ⟨[], [], ct, ?_, rfl, ⟨⟨j.1.1, j.1.2.1.same (fun _ _ q => q) (fun _ _ q => q), j.1.2.2⟩, j.2⟩, trivial⟩
    show (g_cx g).tail = ct
    rw [e1]; rfl
theorem oLs.shut (n : Nat) (g : wG) : oLs n g (w_shut g) := oLs.rf n g
theorem oLs.ctx (n : Nat) (g : wG) (so b c : Nat) (nd : Int32) : oLs n g (w_ctx so nd b c g) := oLs.rf n g
end
