/-! what a way out leaves, all well -/
section
variable {nt : sp_NT} {N M : Nat} {res par : Nat → Int32} {ret : Nat} {E : wF} {T : Nat → List Nat} {rs : Int32} {n m z : Nat} {D : Nat → Prop} {g g0 g1 h k : wG} {gh eh : List oGh} {cx : List wC} {L0 s0 : List Nat} {rec : wT} {K f B hh : Nat} {i : Int32} {s : sp_SS}
/-- contexts, but for their open pieces -/
def oCz (nt : sp_NT) (N : Nat) (g : wG) : List wC → List oGh → Prop
  | [], [] => True
  | c :: r, e :: s => oC0 nt N g c e ∧ oCz nt N g r s
  | _, _ => False
theorem oKp.of : ∀ {gh : List oGh}, oSt nt N T rs gh → oSi N gh → oKp N (oIsE T gh) gh := by
  intro gh
  induction gh with
  | nil => intro _ _ e he; cases he
  | cons d r ih =>
    intro h1 h2 e he h3 v hv hi
    obtain ⟨a1, a2, a3, a4, a5⟩ := h1
    by_cases q : h_so d = 3
    · obtain ⟨-, b2, b3⟩ := a3 q
      have hd : h_I d v = true := by
        rcases List.mem_cons.mp he with w | w
        · rw [← w]; exact hi
        · exact h2.1 e w v hv hi
      obtain ⟨x1, x2⟩ := b2 v hv hd
      intro ⟨y, y1, y2, y3⟩
      rcases List.mem_cons.mp y1 with w | w
      · rw [w] at y3; exact x1 y3
      · exact x2 ⟨y, w, y2, y3⟩
    · rw [oIsE.hd q]
      rcases List.mem_cons.mp he with w | w
      · rw [w] at h3; exact absurd h3 q
      · exact ih a5 h2.2 e w h3 v hv hi
theorem oCz.le : ∀ {cx : List wC} {gh : List oGh}, oCz nt N g cx gh → oLs (g_nl g) g h → (∀ e, e ∈ gh → h_so e = 3 → ∀ v, v < N → h_I e v = true → g_pl h v = g_pl g v) → oCz nt N h cx gh := by
  intro cx
  induction cx with
  | nil => intro gh a _ _; cases gh with
    | nil => trivial
    | cons _ _ => exact a.elim
  | cons c r ih => intro gh a l hp; cases gh with
    | nil => exact a.elim
    | cons e s => exact ⟨a.1.le l (fun q => (a.1.2.2.1 q).1) (fun q => (a.1.2.2.2.1 q).1) (hp e (List.mem_cons_self ..)), ih a.2 l (fun d hd => hp d (List.mem_cons_of_mem _ hd))⟩
theorem oCz.same : ∀ {cx : List wC} {gh : List oGh}, oCz nt N g cx gh → (∀ c e, oC0 nt N g c e → oC0 nt N h c e) → oCz nt N h cx gh := by
  intro cx
  induction cx with
  | nil => intro gh a _; cases gh with
    | nil => trivial
    | cons _ _ => exact a.elim
  | cons c r ih => intro gh a h1; cases gh with
    | nil => exact a.elim
    | cons e s => exact ⟨h1 c e a.1, ih a.2 h1⟩
/-- what was left goes on behind -/
theorem oCz.on : ∀ {cv : List wC} {gv : List oGh} {ct : List wC} {gt : List oGh}, oCz nt N g cv gv → oCx nt N g ct gt → oCx nt N g (w_on cv.length (g_it g).length (cv ++ ct)) (gv ++ gt) := by
  intro cv
  induction cv with
  | nil => intro gv ct gt a b; cases gv with
    | nil => show oCx nt N g (w_on 0 _ ct) gt; unfold w_on; exact b
    | cons _ _ => exact a.elim
  | cons c r ih => intro gv ct gt a b; cases gv with
    | nil => exact a.elim
    | cons e s =>
      refine ⟨⟨a.1.1, a.1.2.1, a.1.2.2.1, a.1.2.2.2.1, a.1.2.2.2.2.1, a.1.2.2.2.2.2⟩, fun _ => ⟨Nat.le_refl _, fun k i F h1 h2 => ?_⟩, ih a.2 b⟩
      have := oNth_lt h2
      have h1 : (g_it g).length ≤ k := h1
      omega
theorem oCz.len : ∀ {cx : List wC} {gh : List oGh}, oCz nt N g cx gh → cx.length = gh.length := by
  intro cx
  induction cx with
  | nil => intro gh h; cases gh with
    | nil => rfl
    | cons _ _ => exact h.elim
  | cons c r ih => intro gh h; cases gh with
    | nil => exact h.elim
    | cons d s => simp only [List.length_cons]; rw [ih h.2]
/-- dead -/
theorem oAl0 (hq : g_ov g = true ∨ g_al g = false) : (oI nt N M res par ret E g → oI nt N M res par ret E (s_al false g)) ∧ oLs (g_nl g) g (s_al false g) := by
  rcases hq with q | q
  · exact ⟨fun a => ⟨a.1, a.2.1, fun o => by have : g_ov g = false := o; rw [q] at this; exact absurd this (by decide)⟩, ⟨⟨[], rfl⟩, Nat.le_refl _, fun _ _ => ⟨rfl, fun q => q, fun _ => rfl⟩, Nat.le_refl _, Nat.le_refl _, ⟨[], rfl⟩, fun q => q, fun o => by have : g_ov g = false := o; rw [q] at this; exact absurd this (by decide)⟩⟩
  · have : s_al false g = g := by
      have e : g.2.1 = false := q
      show (g.1, false, g.2.2) = g
      rw [← e]
    rw [this]; exact ⟨fun a => a, oLs.rf _ _⟩
theorem oM.al0 (hN : N ≤ 64) {s s' : List Nat} (a : oM nt N M res par ret E gh n m z D L0 hh eh s g1 g) (hq : g_ov g = true ∨ g_al g = false) : oM nt N M res par ret E gh n m z D L0 hh eh s' g1 (s_al false g) ∧ oLs (g_nl g) g (s_al false g) := by
  have A := oAl0 (nt := nt) (N := N) (M := M) (res := res) (par := par) (ret := ret) (E := E) hq
  refine ⟨a.step hN (fun ct j => ?_) rfl A.2 (fun e he => oNw.rf rfl) rfl, A.2⟩
  have hm : m ≤ g_nl g := Nat.le_trans j.2.1.2.1.1 j.2.1.2.1.2.1
  have ls : oLs n g (s_al false g) := ⟨A.2.1, A.2.2.1, fun l hl => ⟨rfl, fun q => q, fun _ => rfl⟩, A.2.2.2.2⟩
  refine j.tr0 (z1 := 0) ⟨⟨A.1 j.1.1, ?_, j.1.2.2.1, j.1.2.2.2.1, j.1.2.2.2.2.1, fun q => absurd (show false = true from q) (by decide)⟩, ls, oPz.rf (g := g) hm, oPl.eq rfl⟩ (fun q => absurd (show false = true from q) (by decide)) j.2.2.2
  exact j.1.2.1.le A.2 j.1.2.1.lb (fun e _ => oNw.rf rfl) (oPl.eq (D := fun _ => False) rfl) (fun _ _ _ _ _ _ q => q) (by omega)
/-- what is left, from the innermost on -/
theorem oEnds (IH : oSc nt N M res par ret E T rs rec K) (hN : N ≤ 64) {Kp st : List Nat} {ab W : Nat} (hab : ab = Kp.length) (hW : ab ≤ W) (hB2 : B + 70 * K + 170 ≤ 20000) : ∀ (k : Nat) (gh : List oGh) (g : wG),
    oY nt N M res par ret E gh (g_cx g) g → oSt nt N T rs gh → oSi N gh → (g_al g = true → Kp <+: g_L g ∧ g_st g = st) → (w_q g = false → ¬ 12 ∈ g_L g) → (∀ e, e ∈ gh.take k → 3 ≤ h_so e → st = []) → (∀ e, e ∈ gh → (h_L e).length ≤ W) → W + 2 * oRw T gh ≤ 240 → oB B g →
    ∃ cv ct gv gt, g_cx (w_ends rec ab k g).1 = cv ++ ct ∧ gh = gv ++ gt ∧ cv.length = (w_ends rec ab k g).2 ∧ oCz nt N (w_ends rec ab k g).1 cv gv ∧ oY nt N M res par ret E gt ct (w_ends rec ab k g).1 ∧ oZ (g_nl g) (g_nl g) 0 (oIsE T gh) g (w_ends rec ab k g).1
      ∧ (g_al (w_ends rec ab k g).1 = true → Kp <+: g_L (w_ends rec ab k g).1 ∧ g_st (w_ends rec ab k g).1 = st) ∧ (w_ends rec ab k g).2 ≤ k ∧ (w_q (w_ends rec ab k g).1 = false → (w_ends rec ab k g).2 = min k gh.length) := by
  intro k
  induction k with
  | zero =>
    intro gh g y h1 h2 h3 h12 h4 h5 h6 h7
    exact ⟨[], g_cx g, [], gh, rfl, rfl, rfl, trivial, y, oZ.rf (Nat.le_refl _), h3, Nat.le_refl _, fun _ => (Nat.zero_min _).symm⟩
  | succ k ih =>
    intro gh g y h1 h2 h3 h12 h4 h5 h6 h7
    cases hq : w_q g with
    | true =>
      have e : w_ends rec ab (k + 1) g = (g, 0) := by unfold w_ends; rw [hq]; rfl
      rw [e]
      exact ⟨[], g_cx g, [], gh, rfl, rfl, rfl, trivial, y, oZ.rf (Nat.le_refl _), h3, Nat.zero_le _, fun q => by rw [hq] at q; exact absurd q (by decide)⟩
    | false =>
      obtain ⟨ha, ho⟩ := (w_q_iff g).mp hq
      cases hc : g_cx g with
      | nil =>
        have e : w_ends rec ab (k + 1) g = (g, 0) := by unfold w_ends; rw [hq, hc]; rfl
        rw [e]
        have hg : gh = [] := by
          have := y.2.1; rw [hc] at this
          cases gh with
          | nil => rfl
          | cons _ _ => exact this.elim
        subst hg
        exact ⟨[], g_cx g, [], [], rfl, rfl, rfl, trivial, y, oZ.rf (Nat.le_refl _), h3, Nat.zero_le _, fun _ => (Nat.min_zero _).symm⟩
      | cons c r =>
        cases gh with
        | nil => have := y.2.1; rw [hc] at this; exact this.elim
        | cons e gr =>
        obtain ⟨y1, y2, y3, y4, y5, y6⟩ := y
        rw [hc] at y2
        obtain ⟨c0, co, cr⟩ := y2
        obtain ⟨a1, a2, a3, a4, a5⟩ := h1
        have ec : c.1 = h_so e := by have := c0.1; exact congrArg Prod.fst this
        have en : c.2.1 = h_nd e := by have := c0.1; exact congrArg (fun q => q.2.1) this
        have enx : c.2.2.2.2.1 = (h_L e).length := c0.2.1
        have Y1 : oY nt N M res par ret E gr (g_cx (s_cx r g)) (s_cx r g) := ⟨y1, cr.same (fun _ _ q => q) (fun _ _ q => q), y3, y4, y5, fun q d hd => y6 q d (List.mem_cons_of_mem _ hd)⟩
        have lv := h3 ha
        have hLe : h_L e <+: g_L g := y6 ha e (List.mem_cons_self ..)
        have kp := oKp.of (T := T) (rs := rs) (nt := nt) (N := N) (gh := e :: gr) ⟨a1, a2, a3, a4, a5⟩ h2
        have kpr : oKp N (oIsE T (e :: gr)) gr := fun d hd => kp d (List.mem_cons_of_mem _ hd)
        -- the context's own end
        have step : oY nt N M res par ret E gr (g_cx (if 3 ≤ c.1 then w_fin rec ab c (s_cx r g) else s_cx r g)) (if 3 ≤ c.1 then w_fin rec ab c (s_cx r g) else s_cx r g) ∧ oZ (g_nl g) (g_nl g) 0 (oIsE T (e :: gr)) g (if 3 ≤ c.1 then w_fin rec ab c (s_cx r g) else s_cx r g) ∧ (g_al (if 3 ≤ c.1 then w_fin rec ab c (s_cx r g) else s_cx r g) = true → Kp <+: g_L (if 3 ≤ c.1 then w_fin rec ab c (s_cx r g) else s_cx r g) ∧ g_st (if 3 ≤ c.1 then w_fin rec ab c (s_cx r g) else s_cx r g) = st) ∧ (w_q (if 3 ≤ c.1 then w_fin rec ab c (s_cx r g) else s_cx r g) = false → ¬ 12 ∈ g_L (if 3 ≤ c.1 then w_fin rec ab c (s_cx r g) else s_cx r g)) := by
          by_cases c3 : 3 ≤ c.1
          · rw [if_pos c3]
            have st0 : st = [] := h4 e (by simp) (by omega)
            have mx1 : max c.2.2.2.2.1 ab ≤ (g_L g).length := by have := hLe.length_le; have := lv.1.length_le; omega
            have mxW : max c.2.2.2.2.1 ab ≤ W := by have := h5 e (List.mem_cons_self ..); omega
            have p1 : h_L e <+: (g_L g).take (max c.2.2.2.2.1 ab) := pre_take hLe (by omega)
            have p2 : Kp.take ab <+: (g_L g).take (max c.2.2.2.2.1 ab) := by
              refine pre_take ((List.take_prefix _ _).trans lv.1) ?_
              rw [List.length_take]; omega
            have p2 : Kp.length ≤ ab → Kp <+: (g_L g).take (max c.2.2.2.2.1 ab) := fun q => by rw [List.take_of_length_le q] at p2; exact p2
            have w : oW N (g_nl g) (oIsE T (e :: gr)) gr ((g_L g).take (max c.2.2.2.2.1 ab)) := ⟨cr.lb, kpr, hN, fun d hd => (a2 d hd).trans p1⟩
            have eL : ((g_L g).take (max c.2.2.2.2.1 ab)).length = max c.2.2.2.2.1 ab := by rw [List.length_take]; omega
            have YF : oY nt N M res par ret E gr r (s_nx (max c.2.2.2.2.1 ab) (s_L ((g_L g).take (max c.2.2.2.2.1 ab)) (s_cx r g))) := (Y1.sL (List.take_prefix _ _) (fun _ d hd => (a2 d hd).trans p1)).nx _
            have MF : oM nt N M res par ret E gr (g_nl g) (g_nl g) 0 (oIsE T (e :: gr)) ((g_L g).take (max c.2.2.2.2.1 ab)) 0 [] [] (s_nx (max c.2.2.2.2.1 ab) (s_L ((g_L g).take (max c.2.2.2.2.1 ab)) (s_cx r g))) (s_nx (max c.2.2.2.2.1 ab) (s_L ((g_L g).take (max c.2.2.2.2.1 ab)) (s_cx r g))) :=
              oM.of ⟨YF, oZ.rf (Nat.le_refl (g_nl g)), fun _ => ⟨List.prefix_refl _, by show g_st g = []; rw [lv.2, st0]⟩, Nat.le_of_eq eL⟩ rfl
            have ZF : oZ (g_nl g) (g_nl g) 0 (oIsE T (e :: gr)) g (s_nx (max c.2.2.2.2.1 ab) (s_L ((g_L g).take (max c.2.2.2.2.1 ab)) (s_cx r g))) := oZ.sL (g := g) (List.take_prefix _ _) (Nat.le_refl _)
            have BF : oB B (s_nx (max c.2.2.2.2.1 ab) (s_L ((g_L g).take (max c.2.2.2.2.1 ab)) (s_cx r g))) := h7
            have pcx : ∀ {h : wG}, (g_al h = true → (g_L g).take (max c.2.2.2.2.1 ab) <+: g_L h ∧ g_st h = []) → g_al h = true → Kp <+: g_L h ∧ g_st h = st := fun q y => by
              exact ⟨(p2 (Nat.le_of_eq hab.symm)).trans (q y).1, by rw [(q y).2, st0]⟩
            unfold w_fin w_end
            by_cases c4 : c.1 = 4
            · rw [if_pos c4]
              obtain ⟨p, e1, e2, e3⟩ := a4 (by omega)
              have hp : c.2.1.toNatClampNeg = p := by rw [en, e1]; exact nI_clamp (by omega)
              rw [hp]
              have q1 : w_q (s_nx (max c.2.2.2.2.1 ab) (s_L ((g_L g).take (max c.2.2.2.2.1 ab)) (s_cx r g))) = false := hq
              generalize hF : s_nx (max c.2.2.2.2.1 ab) (s_L ((g_L g).take (max c.2.2.2.2.1 ab)) (s_cx r g)) = F at *
              have LF : g_L F = (g_L g).take (max c.2.2.2.2.1 ab) := by rw [← hF]; rfl
              have sF : g_st F = [] := by rw [← hF]; show g_st g = []; rw [lv.2, st0]
              have gp : (g_L F)[p]? = some 11 := by
                rw [LF]
                obtain ⟨t, ht⟩ := p1
                rw [← ht, List.getElem?_append_left (List.getElem?_eq_some_iff.mp e3).1]; exact e3
              have o1 := ((oP.rf (f := 41) (n := g_nl F) YF.1 q1 sF).em hN (i := (2, 5, p, 0, [])) (off := 0) (on := [11]) rfl rfl (fun po => oTy.of ⟨rfl, Or.inr ⟨show w_arr5 5 from ⟨by decide, by decide⟩, 11, gp, Or.inr (Or.inr rfl), rfl⟩⟩ (by decide) (by decide) (by decide)) (by decide) (by decide)).em hN (i := (16, 195, 0, 0, [])) (off := 1) (on := []) rfl rfl (fun po => ⟨Or.inr (Or.inr (Or.inr ⟨rfl, rfl, rfl⟩)), fun q => (q.elim (fun q => absurd q (by decide)) (fun q => absurd q (by decide))), fun q => absurd q (by decide), fun q => absurd q (by decide), (fun _ _ q => absurd q (by decide)), oShp0 rfl (by decide)⟩) (by decide) (by decide)
              have m2 := (MF.val (by decide) w (fun d hd => by cases hd) q1 o1.1 o1.2).1
              have eL2 := o1.1.2.2.1
              subst hF
              exact ⟨m2.j.1, ZF.tr m2.zz, pcx m2.live, fun _ q => h12 hq (List.mem_of_mem_take (by rw [← LF, ← eL2]; exact q))⟩
            · rw [if_neg c4]
              have h33 : h_so e = 3 := by omega
              obtain ⟨⟨f, s, A, sI, sc, lf⟩, b2, b3⟩ := a3 h33
              rw [en]
              have FF : oFm nt N s.2.1 (s_nx (max c.2.2.2.2.1 ab) (s_L ((g_L g).take (max c.2.2.2.2.1 ab)) (s_cx r g))) := ⟨fun v hv hi => by
                rw [sI] at hi
                obtain ⟨p, x1, x2⟩ := c0.2.2.2.2.2 h33 v hv hi
                refine ⟨p, x1, ?_⟩
                show ((g_L g).take (max c.2.2.2.2.1 ab))[p]? = _
                obtain ⟨t, ht⟩ := p1
                rw [← ht, List.getElem?_append_left (List.getElem?_eq_some_iff.mp x2).1]; exact x2, fun q => h12 hq (List.mem_of_mem_take q)⟩
              have SB : oSb nt N T rs f (h_nd e) s gr (max c.2.2.2.2.1 ab) := ⟨a5, h2.2, fun d hd v hv hi => by rw [sI]; exact h2.1 d hd v hv hi, sc, lf, fun v hv hi => by rw [sI] at hi; exact b2 v hv hi, b3, by
                have : oRw T (e :: gr) = (oT T (h_nd e)).length + oRw T gr := by show (if h_so e = 3 then _ else 0) + _ = _; rw [if_pos h33]
                omega⟩
              obtain ⟨m2, -, v2, -, -, -⟩ := MF.aln (s := s) IH w (fun d hd => by cases hd) (fun _ => ⟨eL, FF⟩) A SB BF hB2 (fun x q => q.elim (fun q => ⟨e, List.mem_cons_self .., h33, q⟩) (fun ⟨d, d1, d2⟩ => ⟨d, List.mem_cons_of_mem _ d1, d2⟩)) (Nat.le_refl _)
              exact ⟨m2.j.1, ZF.tr m2.zz, pcx m2.live, fun y q => by
                have q' : 12 ∈ (g_L g).take (max c.2.2.2.2.1 ab) := Eq.mp (congrArg (fun l : List Nat => 12 ∈ l) (v2 y).2) q
                exact h12 hq (List.mem_of_mem_take q')⟩
          · rw [if_neg c3]
            exact ⟨Y1, oZ.rf (g := g) (Nat.le_refl _), h3, h12⟩
        obtain ⟨Y2, Z2, V2, U2⟩ := step
        have e1 : w_ends rec ab (k + 1) g = (s_cx ((if 2 ≤ c.1 then w_pc (g_it g).length c else c) :: g_cx (w_ends rec ab k (if 3 ≤ c.1 then w_fin rec ab c (s_cx r g) else s_cx r g)).1) (w_ends rec ab k (if 3 ≤ c.1 then w_fin rec ab c (s_cx r g) else s_cx r g)).1, (w_ends rec ab k (if 3 ≤ c.1 then w_fin rec ab c (s_cx r g) else s_cx r g)).2 + 1) := by
          conv => lhs; unfold w_ends
          rw [hq, hc]; rfl
        rw [e1]
        generalize (if 3 ≤ c.1 then w_fin rec ab c (s_cx r g) else s_cx r g) = g2 at *
        obtain ⟨cv, ct, gv, gt, r1, r2, r3, r4, r5, r6, r7, r8, r9⟩ := ih gr g2 Y2 a5 h2.2 V2 U2 (fun d hd => h4 d (by rw [List.take_succ_cons]; exact List.mem_cons_of_mem _ hd)) (fun d hd => h5 d (List.mem_cons_of_mem _ hd)) (by have : oRw T (e :: gr) = (if h_so e = 3 then (oT T (h_nd e)).length else 0) + oRw T gr := rfl; omega) (h7.z Z2.2.1 Y2.2.2.2.1)
        generalize w_ends rec ab k g2 = q at *
        have zz : oZ (g_nl g) (g_nl g) 0 (oIsE T (e :: gr)) g q.1 := by
          have zb : oZ (g_nl g) (g_nl g) 0 (oIsE T (e :: gr)) g2 q.1 := ⟨r6.1.low Z2.1.2.1, oPz.of r6.2.1.pt.1 r6.2.1.pt.2 Z2.2.1.2.1, r6.2.2.mono (fun j ⟨d, d1, d2⟩ => ⟨d, List.mem_cons_of_mem _ d1, d2⟩)⟩
          exact Z2.tr zb
        have cov : ∀ p, 2 ≤ h_so e → p ∈ c_ps (if 2 ≤ c.1 then w_pc (g_it g).length c else c) → w_cov (g_it g) (h_L e) p := fun p q2 hp => by
          rw [if_pos (by omega)] at hp
          obtain ⟨co1, co2⟩ := co q2
          have hp : p ∈ (if c.2.2.2.2.2.1 < (g_it g).length then (c.2.2.2.2.2.1, (g_it g).length) :: c.2.2.2.2.2.2 else c.2.2.2.2.2.2) := hp
          split at hp
          · rcases List.mem_cons.mp hp with z | z
            · rw [z]; exact ⟨by assumption, Nat.le_refl _, fun k i w1 w2 w3 => co2 k i.1 i.2 w1 w3⟩
            · exact c0.2.2.2.2.1 q2 p z
          · exact c0.2.2.2.2.1 q2 p hp
        have c1 : oC0 nt N g (if 2 ≤ c.1 then w_pc (g_it g).length c else c) e := by
          refine ⟨?_, ?_, c0.2.2.1, c0.2.2.2.1, fun q2 p hp => cov p q2 hp, c0.2.2.2.2.2⟩
          · rw [← c0.1]; split <;> rfl
          · rw [← c0.2.1]; split <;> rfl
        have c1' := c1.le zz.1 (fun w => (c0.2.2.1 w).1) (fun w => (c0.2.2.2.1 w).1) (fun w v hv hi => zz.2.2 v (by rw [if_pos (by omega)]; exact kp e (List.mem_cons_self ..) w v hv hi))
        refine ⟨(if 2 ≤ c.1 then w_pc (g_it g).length c else c) :: cv, ct, e :: gv, gt, ?_, by rw [r2]; rfl, by show cv.length + 1 = q.2 + 1; rw [r3], ⟨c1', r4.same (fun _ _ q => q)⟩, ⟨r5.1, r5.2.1.same (fun _ _ q => q) (fun _ _ q => q), r5.2.2⟩, zz, r7, by show q.2 + 1 ≤ k + 1; omega, fun w => ?_⟩
        · show _ :: g_cx q.1 = _; rw [r1]; rfl
        · show q.2 + 1 = min (k + 1) (gr.length + 1)
          have := r9 w
          omega
end
