/-! handlers, all well -/
section
variable {nt : sp_NT} {N M : Nat} {res par : Nat → Int32} {ret : Nat} {E : wF} {T : Nat → List Nat} {rs : Int32} {n m z : Nat} {D : Nat → Prop} {g g0 g1 h k : wG} {gh eh gv gt : List oGh} {cx cv ct : List wC} {L0 s0 : List Nat} {rec : wT} {K f B hh : Nat} {i : Int32} {s : sp_SS}
theorem w_reg_mem {H : Nat} {k : Int32} : ∀ {ps : List (Nat × Nat)} {r : List (Nat × Nat × Nat × Int32)} {e : Nat × Nat × Nat × Int32}, e ∈ w_reg H k ps r → (∃ p, p ∈ ps ∧ e = (p.1, p.2, H, k)) ∨ e ∈ r := by
  intro ps
  induction ps with
  | nil => intro r e h; exact Or.inr h
  | cons p ps ih =>
    intro r e h
    rcases List.mem_cons.mp h with q | q
    · exact Or.inl ⟨p, List.mem_cons_self .., q⟩
    · rcases ih q with ⟨p', h1, h2⟩ | q
      · exact Or.inl ⟨p', List.mem_cons_of_mem _ h1, h2⟩
      · exact Or.inr q
/-- a handler of some pieces begins -/
theorem oM.hd (w : oW N n D gh L0) (a : oM nt N M res par ret E gh n m z D L0 hh eh s0 g1 g) (hal : g_al g = false) (ho : g_ov g = false) {ps : List (Nat × Nat)} (hps : ps ≠ []) (hcov : ∀ p, p ∈ ps → w_cov (g_it g) L0 p) (hL : L0.length ≤ g_mx g) (k : Int32) :
    oM nt N M res par ret E gh n m z D L0 hh eh [10] g1 (w_hd L0 ps k g) ∧ oLs (g_nl g) g (w_hd L0 ps k g) ∧ w_q (w_hd L0 ps k g) = false ∧ g_L (w_hd L0 ps k g) = L0 ∧ g_nx (w_hd L0 ps k g) = g_nx g ∧ g_pl (w_hd L0 ps k g) = g_pl g ∧ g_it (w_hd L0 ps k g) = g_it g := by
  obtain ⟨ct, j⟩ := a.ac
  have up : ∀ j F, oAg g j F → oAg (w_hd L0 ps k g) j F := fun j F q => by
    rcases q with q | ⟨-, q, -⟩
    · exact Or.inl q
    · rw [hal] at q; exact absurd q (by decide)
  have le : oLe g (w_hd L0 ps k g) := ⟨⟨[], rfl⟩, Nat.le_refl _, fun _ _ => ⟨rfl, fun q => q, fun _ q => q⟩, Nat.le_refl _, Nat.le_max_left _ _, ⟨[], rfl⟩, (by obtain ⟨e, h, -⟩ := w_reg_app (g_it g).length k ps (g_rg g); exact ⟨e, h⟩), up⟩
  have here : oAg (w_hd L0 ps k g) (g_it g).length (L0, [10]) := Or.inr ⟨rfl, rfl, w_fit.rf _⟩
  have hT := oTy_m nt M res par ret
  have code : oCode (oTy nt M res par ret) E g → oCode (oTy nt M res par ret) E (w_hd L0 ps k g) := by
    intro ⟨c1, c2, c3, c4, ⟨c5, c7⟩, c6⟩
    have mx : oMx (w_hd L0 ps k g) := by
      by_cases z : g_ms g = 0
      · exact Or.inr (Or.inr ⟨rfl, by show 1 = max (g_ms g) 1; rw [z]; rfl⟩)
      · have e : g_ms (w_hd L0 ps k g) = g_ms g := by show max (g_ms g) 1 = g_ms g; omega
        rcases c7 with y | ⟨k', i, F, y1, y2⟩ | ⟨y1, -⟩
        · exact absurd y z
        · exact Or.inr (Or.inl ⟨k', i, F, y1, by rw [e]; exact y2⟩)
        · rw [hal] at y1; exact absurd y1 (by decide)
    refine ⟨fun k i F q => (c1 k i F q).le hT le, fun l h1 h2 => ⟨(c2 l h1 h2).1, fun j q => up _ _ ((c2 l h1 h2).2 j q)⟩, fun j q => ?_, fun r q => ?_, ⟨up _ _ c5, mx⟩, fun _ => ⟨hL, Nat.le_max_right _ _⟩⟩
    · rcases q with q | ⟨q, -⟩
      · exact (c3 j (Or.inl q)).le le
      · cases ps with
        | nil => exact absurd rfl hps
        | cons p ps => exact Or.inr (Or.inl ⟨(p.1, p.2, (g_it g).length, k), List.mem_cons_self .., q.symm⟩)
    · rcases w_reg_mem q with ⟨p, h1, h2⟩ | q
      · obtain ⟨x1, x2, x3⟩ := hcov p h1
        rw [h2]
        exact ⟨x1, x2, L0, here, fun k i F y1 y2 y3 => x3 k (i, F) y1 y2 y3⟩
      · exact (c4 r q).le le
  have oi : oI nt N M res par ret E g → oI nt N M res par ret E (w_hd L0 ps k g) := fun a => ⟨⟨a.1, hcov⟩, a.2.1, fun o => code (a.2.2 o)⟩
  have ls : oLs (g_nl g) g (w_hd L0 ps k g) := oLs.of le (fun x => x) (fun _ _ _ => rfl)
  refine ⟨a.step w.2.2.1 (fun ct j => ?_) rfl ls (fun _ _ => oNw.rf rfl) rfl, ls, ?_, rfl, rfl, rfl, rfl⟩
  · have hm : m ≤ g_nl g := Nat.le_trans j.2.1.2.1.1 j.2.1.2.1.2.1
    have lsn : oLs n g (w_hd L0 ps k g) := oLs.of le (fun x => x) (fun _ _ _ => rfl)
    refine j.tr0 (z1 := 0) ⟨⟨oi j.1.1, j.1.2.1.le ls j.1.2.1.lb (fun e _ => oNw.rf rfl) (oPl.eq (D := fun _ => False) rfl) (fun _ _ _ _ _ _ q => q) (by have := w.2.2.1; omega), j.1.2.2.1, j.1.2.2.2.1, j.1.2.2.2.2.1, fun _ e he => w.2.2.2 e he⟩, lsn, oPz.rf (g := g) hm, oPl.eq rfl⟩ (fun _ => ⟨List.prefix_refl _, rfl⟩) j.2.2.2
  · rw [w_q_iff]; exact ⟨rfl, ho⟩
/-- a range more -/
theorem oM.rg (hN : N ≤ 64) (a : oM nt N M res par ret E gh n m z D L0 hh eh s0 g1 g) {r : Nat × Nat × Nat × Int32} {P : Prop} (hr : oRng g r) (hP : P) : oM nt N M res par ret E gh n m z D L0 hh eh s0 g1 (s_ok P (s_rg (r :: g_rg g) g)) ∧ oLs (g_nl g) g (s_ok P (s_rg (r :: g_rg g) g)) := by
  have le : oLe g (s_ok P (s_rg (r :: g_rg g) g)) := ⟨⟨[], rfl⟩, Nat.le_refl _, fun _ _ => ⟨rfl, fun q => q, fun _ q => q⟩, Nat.le_refl _, Nat.le_refl _, ⟨[], rfl⟩, ⟨[r], rfl⟩, fun _ _ q => q⟩
  have hT := oTy_m nt M res par ret
  have ls : oLs (g_nl g) g (s_ok P (s_rg (r :: g_rg g) g)) := oLs.of le (fun x => x) (fun _ _ _ => rfl)
  have code : oCode (oTy nt M res par ret) E g → oCode (oTy nt M res par ret) E (s_ok P (s_rg (r :: g_rg g) g)) := by
    intro ⟨c1, c2, c3, c4, c5, c6⟩
    refine ⟨fun k i F q => (c1 k i F q).le hT le, c2, fun j q => (c3 j q).le le, fun d q => ?_, c5, c6⟩
    rcases List.mem_cons.mp q with q | q
    · rw [q]; exact hr.le le
    · exact (c4 d q).le le
  refine ⟨a.step hN (fun ct j => ?_) rfl ls (fun _ _ => oNw.rf rfl) rfl, ls⟩
  have hm : m ≤ g_nl g := Nat.le_trans j.2.1.2.1.1 j.2.1.2.1.2.1
  have lsn : oLs n g (s_ok P (s_rg (r :: g_rg g) g)) := oLs.of le (fun x => x) (fun _ _ _ => rfl)
  exact j.tr0 (z1 := 0) ⟨⟨⟨⟨j.1.1.1, hP⟩, j.1.1.2.1, fun o => code (j.1.1.2.2 o)⟩, j.1.2.1.le ls j.1.2.1.lb (fun e _ => oNw.rf rfl) (oPl.eq (D := fun _ => False) rfl) (fun _ _ _ _ _ _ q => q) (by omega), j.1.2.2⟩, lsn, oPz.rf (g := g) hm, oPl.eq rfl⟩ j.2.2.1 j.2.2.2
/-- what was a head's range -/
def oPcs (g : wG) : List (Nat × Nat) := match g_cx g with | c :: _ => (w_pc (g_it g).length c).2.2.2.2.2.2 | [] => []
theorem oM.pieces {e : oGh} (h2 : 2 ≤ h_so e) (a : oM nt N M res par ret E gh n m z D L0 0 [e] s0 g1 g) : ∀ p, p ∈ oPcs g → w_cov (g_it g) (h_L e) p := by
  obtain ⟨hc, ch, ct, e1, e2, j, c⟩ := a
  rw [List.length_eq_zero_iff.mp e2] at e1
  cases ch with
  | nil => exact c.elim
  | cons c0 r =>
    have e1 : g_cx g = c0 :: (r ++ ct) := e1
    unfold oPcs
    rw [e1]
    obtain ⟨c00, co, -⟩ := c
    obtain ⟨co1, co2⟩ := co h2
    intro p hp
    have hp : p ∈ (if c0.2.2.2.2.2.1 < (g_it g).length then (c0.2.2.2.2.2.1, (g_it g).length) :: c0.2.2.2.2.2.2 else c0.2.2.2.2.2.2) := hp
    split at hp
    · rcases List.mem_cons.mp hp with z | z
      · rw [z]; exact ⟨by assumption, Nat.le_refl _, fun k i w1 w2 w3 => co2 k i.1 i.2 w1 w3⟩
      · exact c00.2.2.2.2.1 h2 p z
    · exact c00.2.2.2.2.1 h2 p hp
theorem oCov.it {ps : List (Nat × Nat)} {L : List Nat} {it it' : List (wI × wF)} (h : ∀ p, p ∈ ps → w_cov it L p) (e : ∃ x, it' = x ++ it) : ∀ p, p ∈ ps → w_cov it' L p := fun p hp => (h p hp).le e
/-- a code of one call into the library -/
theorem oM.pe (w : oW N n D gh L0) (we : ∀ e, e ∈ eh → h_L e <+: L0) {c d : Nat} {v : Nat} {r : List Nat} (a : oM nt N M res par ret E gh n m z D L0 hh eh (c :: r) g1 g) (hq : w_q g = false) (h1 : (v = 71 ∧ c = 1 ∧ d = 10) ∨ (v = 72 ∧ c = 10 ∧ d = 1)) (h9 : r.length + 4 ≤ 3370) :
    oM nt N M res par ret E gh n m z D L0 hh eh (d :: r) g1 (w_pe 15 v 0 1 [d] g) ∧ oLs (g_nl g) g (w_pe 15 v 0 1 [d] g) ∧ w_q (w_pe 15 v 0 1 [d] g) = false ∧ g_L (w_pe 15 v 0 1 [d] g) = g_L g ∧ g_nx (w_pe 15 v 0 1 [d] g) = g_nx g ∧ g_pl (w_pe 15 v 0 1 [d] g) = g_pl g := by
  obtain ⟨ct, j⟩ := a.ac
  have lv := (a.live ((w_q_iff g).mp hq).1).2
  have t : oTy nt M res par ret (w_pn v 0 (g_po g)) (15, v, w_px v 0 (g_po g), 0, []) (g_L g, g_st g) (g_L g, [d] ++ (g_st g).drop 1) := by
    rw [lv]
    refine ⟨⟨rfl, ?_⟩, fun _ => w_px_pf _ _ _, fun q => absurd (show (15 : Nat) = 1 from q) (by decide), fun _ q => ?_, (fun q => absurd (show (15 : Nat) = 16 from q) (by decide)), oShp0 rfl (by decide)⟩
    · rcases h1 with ⟨rfl, rfl, rfl⟩ | ⟨rfl, rfl, rfl⟩
      · exact Or.inr (Or.inl ⟨rfl, r, rfl, rfl⟩)
      · exact Or.inr (Or.inr ⟨rfl, r, rfl, rfl⟩)
    · have q : v = 5 := q
      rcases h1 with ⟨rfl, -⟩ | ⟨rfl, -⟩ <;> exact absurd q (by decide)
  have me : (v, (0 : Int64)) ∈ oEnt nt N := by
    rcases h1 with ⟨rfl, -⟩ | ⟨rfl, -⟩
    · exact List.mem_cons_self ..
    · exact List.mem_cons_of_mem _ (List.mem_cons_self ..)
  have qq := oQ.pe (f := 41) w.2.2.1 j.1.1 hq (tag := 15) (s := v) (v := 0) (off := 1) (on := [d]) me rfl t (by rw [lv]; simp; omega) (by rw [lv]; simp)
  have pp : wP (g_nl g) (d :: r) g (w_pe 15 v 0 1 [d] g) := by
    have := (wP_rf (n := g_nl g) hq lv).pe 15 v 0 1 [d]
    simpa using this
  obtain ⟨m2, ls2⟩ := a.val (by decide) w we hq pp qq
  exact ⟨m2, ls2, pp.2.1, pp.2.2.1, pp.1.1.2.1, pp.1.1.2.2.2.2.2.2⟩
/-- what was caught is dropped -/
theorem oM.drop (w : oW N n D gh L0) (we : ∀ e, e ∈ eh → h_L e <+: L0) {c : Nat} {r : List Nat} (a : oM nt N M res par ret E gh n m z D L0 hh eh (c :: r) g1 g) (hq : w_q g = false) (h9 : c ≠ 9) (hr : r.length + 4 ≤ 3370) :
    oM nt N M res par ret E gh n m z D L0 hh eh r g1 (w_em (7, 87, 0, 0, []) 1 [] g) ∧ oLs (g_nl g) g (w_em (7, 87, 0, 0, []) 1 [] g) ∧ w_q (w_em (7, 87, 0, 0, []) 1 [] g) = false ∧ g_L (w_em (7, 87, 0, 0, []) 1 [] g) = g_L g ∧ g_nx (w_em (7, 87, 0, 0, []) 1 [] g) = g_nx g ∧ g_pl (w_em (7, 87, 0, 0, []) 1 [] g) = g_pl g := by
  obtain ⟨ct, j⟩ := a.ac
  have lv := (a.live ((w_q_iff g).mp hq).1).2
  have o1 := (oP.rf (f := 41) (n := g_nl g) j.1.1 hq lv).em w.2.2.1 (i := (7, 87, 0, 0, [])) (off := 1) (on := []) rfl rfl (fun po => oTy.of ⟨rfl, Or.inl ⟨rfl, c, h9, rfl⟩⟩ (by decide) (by decide) (by decide)) (by simp; omega) (by simp)
  have o2 : oP nt N M res par ret E 41 (g_nl g) r g (w_em (7, 87, 0, 0, []) 1 [] g) := o1.cg (by simp)
  obtain ⟨m2, ls2⟩ := a.val (by decide) w we hq o2.1 o2.2
  exact ⟨m2, ls2, o2.1.2.1, o2.1.2.2.1, o2.1.1.1.2.1, o2.1.1.1.2.2.2.2.2.2⟩
end
