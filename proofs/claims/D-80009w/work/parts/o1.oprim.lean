/-! single steps keep all well -/
def oEn (nt : sp_NT) (k : Nat) : Nat × Int64 := if nt 0 k = 48 then (5, (nt 1 k).toInt64) else ((nt 3 k).toNatClampNeg, w_bits nt (nI k))
def oEnt (nt : sp_NT) (N : Nat) : List (Nat × Int64) := (71, 0) :: (72, 0) :: (List.range N).map (oEn nt)
theorem oEnt_len (nt : sp_NT) (N : Nat) : (oEnt nt N).length = N + 2 := by unfold oEnt; simp
theorem nodup_len {α : Type} [DecidableEq α] : ∀ (l m : List α), l.Nodup → (∀ x, x ∈ l → x ∈ m) → l.length ≤ m.length := by
  intro l
  induction l with
  | nil => intro m _ _; exact Nat.zero_le _
  | cons a l ih =>
    intro m h1 h2
    have ha : a ∈ m := h2 a (List.mem_cons_self ..)
    obtain ⟨h3, h4⟩ := List.nodup_cons.mp h1
    have := ih (m.erase a) h4 (fun x hx => (List.mem_erase_of_ne (fun e => h3 (by rw [← e]; exact hx))).mpr (h2 x (List.mem_cons_of_mem _ hx)))
    rw [List.length_erase_of_mem ha] at this
    have : 0 < m.length := List.length_pos_of_mem ha
    simp only [List.length_cons]; omega
def oPo (nt : sp_NT) (N : Nat) (p : List (Nat × Int64)) : Prop := p.Nodup ∧ ∀ e, e ∈ p → e ∈ oEnt nt N
theorem w_pf_none {s : Nat} {v : Int64} : ∀ {p : List (Nat × Int64)}, w_pf s v p = none → (s, v) ∉ p := by
  intro p
  induction p with
  | nil => intro _ h; cases h
  | cons e r ih =>
    intro h
    unfold w_pf at h
    cases q : w_pf s v r with
    | some i => rw [q] at h; simp at h
    | none =>
      rw [q] at h
      intro hm
      rcases List.mem_cons.mp hm with z | z
      · rw [← z] at h; simp at h
      · exact ih q z
theorem oPo.pn {nt : sp_NT} {N : Nat} {p : List (Nat × Int64)} (h : oPo nt N p) {s : Nat} {v : Int64} (he : (s, v) ∈ oEnt nt N) : oPo nt N (w_pn s v p) := by
  unfold w_pn
  cases q : w_pf s v p with
  | some i => exact h
  | none =>
    refine ⟨List.nodup_cons.mpr ⟨w_pf_none q, h.1⟩, fun e hm => ?_⟩
    rcases List.mem_cons.mp hm with z | z
    · rw [z]; exact he
    · exact h.2 e z
theorem oPo.len {nt : sp_NT} {N : Nat} {p : List (Nat × Int64)} (h : oPo nt N p) (hN : N ≤ 64) : p.length ≤ 100 := by
  have := nodup_len p _ h.1 h.2
  rw [oEnt_len] at this; omega
theorem w_pn_ext (s : Nat) (v : Int64) (p : List (Nat × Int64)) : ∃ e, w_pn s v p = e ++ p := by
  unfold w_pn
  split
  · exact ⟨[], rfl⟩
  · exact ⟨[(s, v)], rfl⟩
theorem w_px_pf (s : Nat) (v : Int64) (p : List (Nat × Int64)) : w_pf s v (w_pn s v p) = some (w_px s v p) := by
  unfold w_pn w_px
  cases q : w_pf s v p with
  | some i => exact q
  | none =>
    show (match w_pf s v p with | some i => some i | none => if (s, v).1 = s ∧ (s, v).2 = v then some (w_pi p) else none) = _
    rw [q]; simp
section
variable {nt : sp_NT} {N M : Nat} {res par : Nat → Int32} {ret : Nat} {E : wF}
def oI (nt : sp_NT) (N M : Nat) (res par : Nat → Int32) (ret : Nat) (E : wF) (g : wG) : Prop := g_ok g ∧ oPo nt N (g_po g) ∧ (g_ov g = false → oCode (oTy nt M res par ret) E g)
/-- a step -/
def oQb (nt : sp_NT) (N M : Nat) (res par : Nat → Int32) (ret : Nat) (E : wF) (f : Nat) (g h : wG) : Prop := oI nt N M res par ret E h ∧ oLe g h ∧ oPt g h ∧ g_us g ≤ g_us h ∧ g_fm h ≤ max (g_fm g) f
variable {f : Nat} {g h k : wG}
theorem oQb.rf (a : oI nt N M res par ret E g) : oQb nt N M res par ret E f g g := ⟨a, oLe.rf g, oPt.rf g, Nat.le_refl _, Nat.le_max_left _ _⟩
theorem oQb.tr (a : oQb nt N M res par ret E f g h) (b : oQb nt N M res par ret E f h k) : oQb nt N M res par ret E f g k := by
  obtain ⟨a1, a2, a3, a4, a5⟩ := a
  obtain ⟨b1, b2, b3, b4, b5⟩ := b
  exact ⟨b1, a2.tr b2, a3.tr b3, by omega, by omega⟩
theorem oQb.mono {f' : Nat} (a : oQb nt N M res par ret E f g h) (e : f ≤ f') : oQb nt N M res par ret E f' g h := ⟨a.1, a.2.1, a.2.2.1, a.2.2.2.1, by have := a.2.2.2.2; omega⟩
theorem g_by_cons (i : wI) (F : wF) (l : List (wI × wF)) : (w_by_ false w_z l).length + 1 ≤ (w_by_ false w_z ((i, F) :: l)).length := by
  show _ ≤ (w_by_ false w_z l ++ w_enc false w_z (w_by_ false w_z l).length i).length
  rw [List.length_append]
  have := w_enc_pos false w_z (w_by_ false w_z l).length i
  omega
theorem oTy.of {po : List (Nat × Int64)} {t : Nat} {r : Nat × Nat × Int64 × List (Int32 × Nat)} {F G : wF} (h : w_ty (t, r) F G) (h1 : t ≠ 1) (h2 : t ≠ 15) (h3 : t ≠ 16) (h4 : oShp (t, r) := by first | exact oShp0 rfl (by decide) | exact oShp1 rfl (by decide)) : oTy nt M res par ret po (t, r) F G :=
  ⟨h, fun q => (q.elim (fun q => absurd q h1) (fun q => absurd q h2)), fun q => absurd q h1, fun q => absurd q h2, fun q => absurd q h3, h4⟩
/-- nothing but ok -/
theorem oI.okk (a : oI nt N M res par ret E g) {P : Prop} (hP : P) : oI nt N M res par ret E (s_ok P g) := ⟨⟨a.1, hP⟩, a.2.1, a.2.2⟩
theorem oQb.okk (a : oQb nt N M res par ret E f g h) {P : Prop} (hP : P) : oQb nt N M res par ret E f g (s_ok P h) := ⟨a.1.okk hP, a.2.1, a.2.2.1, a.2.2.2.1, a.2.2.2.2⟩
theorem oQb.es (hN : N ≤ 64) (a : oI nt N M res par ret E g) (hq : w_q g = false) {i : wI} {F : wF} (h0 : i.2.2.2.2 = []) (h1 : oTerm i = false) (t : oTy nt M res par ret (g_po g) i (g_L g, g_st g) F) (hl : F.1.length ≤ g_mx g) (h9 : F.2.length < 3370) : oQb nt N M res par ret E f g (w_es i F g) := by
  obtain ⟨ha, ho⟩ := (w_q_iff g).mp hq
  obtain ⟨a1, a2, a3⟩ := a
  have c := a3 ho
  unfold w_es
  rw [hq]
  simp only [cond_false]
  have key := oCode.emit (h := s_ok (w_ty i (g_L g, g_st g) F ∧ (g_L g).length ≤ g_mx g ∧ F.2.length < 3370) ((i, (g_L g, g_st g)) :: g_it g, g_al g, g_ov g, F, (g_nx g, g_mx g, max (g_ms g) F.2.length, g_ac g), (w_told (g_it g).length (g_pn g) (g_ln g), -1), g.2.2.2.2.2.2)) (oTy_m nt M res par ret) c ha (i := i) (F := F) rfl rfl rfl rfl (fun k => by rw [h0]; simp; rfl) rfl (Nat.le_refl _) rfl (fun z => by rw [h1] at z; exact absurd z (by decide)) ⟨[], rfl⟩ rfl (by rw [h1]; exact ha) t (fun q hq => by rw [h0] at hq; cases hq) hl
  have by1 : g_by g + 1 ≤ _ := g_by_cons i (g_L g, g_st g) (g_it g)
  refine ⟨⟨⟨a1, t.1, (c.2.2.2.2.2 ha).1, h9⟩, a2, fun _ => key.1⟩, key.2, ⟨Nat.le_refl _, fun _ _ q => q, ?_, Nat.le_refl _, ?_, ?_⟩, Nat.le_refl _, Nat.le_max_left _ _⟩
  · show g_by g ≤ (w_by_ false w_z ((i, (g_L g, g_st g)) :: g_it g)).length; omega
  · show 3 * g_us g + 3 * w_cg (g_goes g) (g_nl g) + g_by g ≤ 3 * g_us g + 3 * w_cg (g_goes g) (g_nl g) + (w_by_ false w_z ((i, (g_L g, g_st g)) :: g_it g)).length; omega
  · show g_n1 g + g_fm g + 2 * w_cg (g_goes g) (g_nl g) + g_by g + 3 * g_ac g ≤ g_n1 g + g_fm g + 2 * w_cg (g_goes g) (g_nl g) + (w_by_ false w_z ((i, (g_L g, g_st g)) :: g_it g)).length + 3 * g_ac g; omega
theorem oQb.em (hN : N ≤ 64) (a : oI nt N M res par ret E g) (hq : w_q g = false) {i : wI} {off : Nat} {on : List Nat} (h0 : i.2.2.2.2 = []) (h1 : oTerm i = false) (t : oTy nt M res par ret (g_po g) i (g_L g, g_st g) (g_L g, on ++ (g_st g).drop off)) (h9 : (on ++ (g_st g).drop off).length < 3370) (ho : off ≤ (g_st g).length) : oQb nt N M res par ret E f g (w_em i off on g) := by
  unfold w_em
  rw [hq]
  have hl := ((a.2.2 ((w_q_iff g).mp hq).2).2.2.2.2.2 ((w_q_iff g).mp hq).1).1
  exact (oQb.es hN a hq h0 h1 t hl h9).okk ho
/-- the pool grows -/
theorem oQb.po (hN : N ≤ 64) (a : oI nt N M res par ret E g) {s : Nat} {v : Int64} (he : (s, v) ∈ oEnt nt N) : oQb nt N M res par ret E f g (s_ok ((w_pn s v (g_po g)).length ≤ 100) (s_po (w_pn s v (g_po g)) g)) := by
  have p := a.2.1.pn he
  have le : oLe g (s_po (w_pn s v (g_po g)) g) := ⟨⟨[], rfl⟩, Nat.le_refl _, fun _ _ => ⟨rfl, fun q => q, fun _ q => q⟩, Nat.le_refl _, Nat.le_refl _, w_pn_ext s v (g_po g), ⟨[], rfl⟩, fun _ _ q => q⟩
  refine oQb.okk (h := s_po (w_pn s v (g_po g)) g) ⟨⟨a.1, p, fun ho => ?_⟩, le, ⟨Nat.le_refl _, fun _ _ q => q, Nat.le_refl _, Nat.le_refl _, Nat.le_refl _, Nat.le_refl _⟩, Nat.le_refl _, Nat.le_max_left _ _⟩ (p.len hN)
  have c := a.2.2 ho
  exact c.same (oTy_m nt M res par ret) le rfl rfl rfl (fun l hl hg => ⟨hl, hg, rfl⟩) c.2.2.2.2.2 rfl rfl
theorem oQb.pe (hN : N ≤ 64) (a : oI nt N M res par ret E g) (hq : w_q g = false) {tag s : Nat} {v : Int64} {off : Nat} {on : List Nat} (he : (s, v) ∈ oEnt nt N) (h1 : oTerm (tag, s, w_px s v (g_po g), v, []) = false) (t : oTy nt M res par ret (w_pn s v (g_po g)) (tag, s, w_px s v (g_po g), v, []) (g_L g, g_st g) (g_L g, on ++ (g_st g).drop off)) (h9 : (on ++ (g_st g).drop off).length < 3370) (ho : off ≤ (g_st g).length) : oQb nt N M res par ret E f g (w_pe tag s v off on g) := by
  unfold w_pe
  rw [hq]
  have b := oQb.po (f := f) hN a he
  exact b.tr (oQb.em hN b.1 hq rfl h1 t h9 ho)
/-! labels -/
theorem oLe_lb {F : wF} : oLe g (w_lb F g) := by
  refine ⟨⟨[], rfl⟩, Nat.le_succ _, fun l hl => ?_, Nat.le_refl _, Nat.le_refl _, ⟨[], rfl⟩, ⟨[], rfl⟩, fun _ _ q => q⟩
  have : l ≠ g_nl g := by omega
  refine ⟨if_neg this, fun q => ?_, fun j q => ?_⟩
  · show (if l = g_nl g then false else g_goes g l) = true; rw [if_neg this]; exact q
  · show (if l = g_nl g then none else g_lat g l) = some j; rw [if_neg this]; exact q
theorem oCode_lb {T : List (Nat × Int64) → wI → wF → wF → Prop} (hT : oTm T) {E : wF} {g h : wG} (c : oCode T E g) (le : oLe g h) (e1 : g_it h = g_it g) (e2 : g_al h = g_al g) (e3 : g_rg h = g_rg g) (e4 : g_nl h = g_nl g + 1) (e5 : g_goes h = fun l => if l = g_nl g then false else g_goes g l) (e6 : g_lat h = fun l => if l = g_nl g then none else g_lat g l) (e7 : g_al h = true → (g_L h).length ≤ g_mx h ∧ (g_st h).length ≤ g_ms h) (e8 : g_ms h = g_ms g) (e9 : g_st h = g_st g) : oCode T E h := by
  refine c.same hT le e1 e2 e3 (fun l h1 h2 => ?_) e7 e8 e9
  rw [e4] at h1
  rw [e5] at h2
  have h2 : (if l = g_nl g then false else g_goes g l) = true := h2
  by_cases z : l = g_nl g
  · rw [if_pos z] at h2; exact absurd h2 (by decide)
  · rw [if_neg z] at h2
    exact ⟨by omega, h2, by rw [e6]; exact if_neg z⟩
theorem oI.lb (a : oI nt N M res par ret E g) {F : wF} {B : Nat} (h9 : F.2.length < 3370) (hB : oB B g) (hB2 : B ≤ 20010) (hf : g_fm g ≤ 3000) : oI nt N M res par ret E (w_lb F g) := by
  obtain ⟨b1, b2, b3⟩ := hB
  refine ⟨⟨a.1, h9, fun hb => ⟨?_, ?_⟩⟩, a.2.1, fun ho => ?_⟩
  · have hb : g_by g ≤ 65535 := hb
    omega
  · have hb : g_by g ≤ 65535 := hb
    omega
  · have c := a.2.2 ho
    exact oCode_lb (oTy_m nt M res par ret) c oLe_lb rfl rfl rfl rfl rfl rfl c.2.2.2.2.2 rfl rfl
theorem oI.sl (a : oI nt N M res par ret E g) (hf : g_fm g < 3999) (b : Bool) (l : Nat) : oI nt N M res par ret E (w_sl b l g) ∧ oLe g (w_sl b l g) := by
  unfold w_sl
  cases e : g_goes g l
  · simp only [cond_false]
    have le : oLe g (s_lb (g_nl g, g_lat g, g_goes g, g_lF g, (g_us g - 1, g_n1 g, bif b then g_fm g + 1 else g_fm g)) g) := ⟨⟨[], rfl⟩, Nat.le_refl _, fun _ _ => ⟨rfl, fun q => q, fun _ q => q⟩, Nat.le_refl _, Nat.le_refl _, ⟨[], rfl⟩, ⟨[], rfl⟩, fun _ _ q => q⟩
    refine ⟨⟨⟨a.1, hf⟩, a.2.1, fun ho => ?_⟩, le⟩
    have c := a.2.2 ho
    exact c.same (oTy_m nt M res par ret) le rfl rfl rfl (fun l hl hg => ⟨hl, hg, rfl⟩) c.2.2.2.2.2 rfl rfl
  · exact ⟨a, oLe.rf g⟩
theorem w_sl_n (b : Bool) (l : Nat) (g : wG) : g_nl (w_sl b l g) = g_nl g ∧ g_goes (w_sl b l g) = g_goes g ∧ g_lF (w_sl b l g) = g_lF g ∧ g_lat (w_sl b l g) = g_lat g ∧ g_it (w_sl b l g) = g_it g ∧ g_ac (w_sl b l g) = g_ac g ∧ g_n1 (w_sl b l g) = g_n1 g ∧ g_us (w_sl b l g) = (bif g_goes g l then g_us g else g_us g - 1) ∧ g_fm (w_sl b l g) = (bif g_goes g l then g_fm g else bif b then g_fm g + 1 else g_fm g) := by
  unfold w_sl
  cases e : g_goes g l <;> exact ⟨rfl, rfl, rfl, rfl, rfl, rfl, rfl, rfl, rfl⟩
/-- a label that may be put, with such a frame -/
def oU (g : wG) (l : Nat) (F : wF) : Prop := l < g_nl g ∧ g_lF g l = F ∧ ∀ j, g_lat g l = some j → oAg g j F
theorem oQb.put (a : oI nt N M res par ret E g) {l : Nat} (hl : l < g_nl g) (h0 : g_lat g l = none) (hf : g_al g = true → w_fit (g_L g, g_st g) (g_lF g l)) : oQb nt N M res par ret E f g (w_put l g) := by
  have fields : g_it (w_put l g) = g_it g ∧ g_nl (w_put l g) = g_nl g ∧ g_goes (w_put l g) = g_goes g ∧ g_lc (w_put l g) = g_lc g ∧ g_po (w_put l g) = g_po g ∧ g_ov (w_put l g) = g_ov g ∧ g_ac (w_put l g) = g_ac g ∧ (g_ok g → g_ok (w_put l g)) ∧ ((g_lat (w_put l g) = fun k => if k = l then some (g_it g).length else g_lat g k) ∧ g_lF (w_put l g) = g_lF g ∧ g_mx (w_put l g) = g_mx g ∧ g_ms (w_put l g) = g_ms g ∧ g_rg (w_put l g) = g_rg g ∧ (g_al g = true → g_al (w_put l g) = true ∧ (g_L (w_put l g), g_st (w_put l g)) = g_lF g l)) := by
    unfold w_put
    cases e : g_al g
    · cases e2 : g_goes g l
      · exact ⟨rfl, rfl, rfl, rfl, rfl, rfl, rfl, fun q => q, rfl, rfl, rfl, rfl, rfl, fun q => absurd q (by decide)⟩
      · exact ⟨rfl, rfl, rfl, rfl, rfl, rfl, rfl, fun q => q, rfl, rfl, rfl, rfl, rfl, fun q => absurd q (by decide)⟩
    · exact ⟨rfl, rfl, rfl, rfl, rfl, rfl, rfl, fun q => ⟨q, hf e⟩, rfl, rfl, rfl, rfl, rfl, fun _ => ⟨e, rfl⟩⟩
  obtain ⟨f1, f2, f3, f4, f5, f6, f7, f8, f9, f10, f11, f12, f13, f14⟩ := fields
  have le : oLe g (w_put l g) := ⟨⟨[], f1⟩, Nat.le_of_eq f2.symm, fun k _ => ⟨by rw [f10], fun q => by rw [f3]; exact q, fun j q => by rw [f9]; show (if k = l then _ else _) = _; rw [if_neg (fun z => by rw [z, h0] at q; simp at q)]; exact q⟩, Nat.le_of_eq f11.symm, Nat.le_of_eq f12.symm, ⟨[], f5⟩, ⟨[], f13⟩, fun j D q => by
    rcases q with ⟨i, D', h1, h2⟩ | ⟨h1, h2, h3⟩
    · exact Or.inl ⟨i, D', by rw [f1]; exact h1, h2⟩
    · exact Or.inr ⟨by rw [f1]; exact h1, (f14 h2).1, by rw [(f14 h2).2]; exact h3.tr (hf h2)⟩⟩
  refine ⟨⟨f8 a.1, by rw [f5]; exact a.2.1, fun ho => ?_⟩, le, ⟨Nat.le_of_eq f2.symm, fun k _ q => by rw [f3]; exact q, by unfold g_by; rw [f1]; exact Nat.le_refl _, Nat.le_of_eq f7.symm, ?_, ?_⟩, by unfold g_us; rw [f4]; exact Nat.le_refl _, by unfold g_fm; rw [f4]; exact Nat.le_max_left _ _⟩
  · rw [f6] at ho
    exact ((a.2.2 ho).put (oTy_m nt M res par ret) hl h0 hf).1
  · unfold g_us g_by; rw [f4, f3, f1]; exact Nat.le_refl _
  · unfold g_n1 g_fm g_by; rw [f4, f3, f1, f7]; exact Nat.le_refl _
/-- an item with labels -/
theorem oQb.gen (a : oI nt N M res par ret E g) (hq : w_q g = false) {i : wI} {F : wF} (k0 : g_ok h) (e1 : g_it h = (i, (g_L g, g_st g)) :: g_it g) (e2 : (g_L h, g_st h) = F) (e3 : g_nl h = g_nl g) (e4 : g_lat h = g_lat g)
    (e5 : ∀ k, g_goes h k = true ↔ (∃ q, q ∈ i.2.2.2.2 ∧ q.2 = k) ∨ g_goes g k = true) (e6 : g_lF h = g_lF g) (e7 : g_mx h = g_mx g) (e8 : g_ms h = max (g_ms g) F.2.length) (e9 : oTerm i = true → F.2.length ≤ (g_st g).length) (e10 : g_po h = g_po g) (e11 : g_rg h = g_rg g) (e12 : g_al h = !oTerm i) (e13 : g_lc h = g_lc g) (e14 : g_ac h = g_ac g)
    (t1 : oTy nt M res par ret (g_po g) i (g_L g, g_st g) F) (t2 : ∀ q, q ∈ i.2.2.2.2 → oU g q.2 (g_lF g q.2) ∧ w_fit F (g_lF g q.2)) (t3 : F.1.length ≤ g_mx g) (hc : 3 * w_cg (g_goes h) (g_nl g) + g_by g ≤ 3 * w_cg (g_goes g) (g_nl g) + g_by h) : oQb nt N M res par ret E f g h := by
  obtain ⟨ha, ho⟩ := (w_q_iff g).mp hq
  obtain ⟨a1, a2, a3⟩ := a
  have key := (a3 ho).emit (h := h) (oTy_m nt M res par ret) ha e1 e2 e3 e4 e5 e6 (Nat.le_of_eq e7.symm) e8 e9 ⟨[], e10⟩ e11 e12 (by rw [e10]; exact t1) (fun q hq => ⟨(t2 q hq).1.1, (t2 q hq).2, (t2 q hq).1.2.2⟩) (by rw [e7]; exact t3)
  have by1 := g_by_cons i (g_L g, g_st g) (g_it g)
  have cg := w_cg_le (go := g_goes g) (go' := g_goes h) (n := g_nl g) (fun l _ q => (e5 l).mpr (Or.inr q))
  have by2 : g_by g ≤ g_by h := by unfold g_by; rw [e1]; omega
  refine ⟨⟨k0, by rw [e10]; exact a2, fun _ => key.1⟩, key.2, ⟨Nat.le_of_eq e3.symm, fun l _ q => (e5 l).mpr (Or.inr q), by2, Nat.le_of_eq e14.symm, ?_, ?_⟩, by unfold g_us; rw [e13]; exact Nat.le_refl _, by unfold g_fm; rw [e13]; exact Nat.le_max_left _ _⟩
  · unfold g_us; rw [e13]; omega
  · unfold g_n1 g_fm; rw [e13, e14]; omega
theorem w_ctr_by {l : List (wI × wF)} {op : Nat} {L : Int32 × Nat} {F : wF} : (w_by_ false w_z l).length + 3 ≤ (w_by_ false w_z (((21, op, 0, 0, [L]), F) :: l)).length := by
  show _ ≤ (w_by_ false w_z l ++ ([o8 (nI op)] ++ o16 _)).length
  rw [List.length_append]; simp [o16]
theorem w_go_by {l : List (wI × wF)} {L : Int32 × Nat} {F : wF} : (w_by_ false w_z l).length + 3 ≤ (w_by_ false w_z (((20, 0, 0, 0, [L]), F) :: l)).length := by
  show _ ≤ (w_by_ false w_z l ++ ([o8 167] ++ o16 _)).length
  rw [List.length_append]; simp [o16]
theorem w_one_lb {l k : Nat} {go : Nat → Bool} : (if k = l then true else go k) = true ↔ (∃ q : Int32 × Nat, q ∈ [((0 : Int32), l)] ∧ q.2 = k) ∨ go k = true := by
  by_cases e : k = l
  · rw [if_pos e]; exact ⟨fun _ => Or.inl ⟨(0, l), List.mem_singleton.mpr rfl, e.symm⟩, fun _ => rfl⟩
  · rw [if_neg e]
    refine ⟨fun q => Or.inr q, fun q => ?_⟩
    rcases q with ⟨q, q1, q2⟩ | q
    · rw [List.mem_singleton.mp q1] at q2; exact absurd q2.symm e
    · exact q
/-- a jump that has a condition -/
theorem oQb.br (a : oI nt N M res par ret E g) (hq : w_q g = false) {op off l : Nat} (h1 : (153 ≤ op ∧ op ≤ 158 ∧ off = 1 ∧ ∃ r, g_st g = 1 :: r) ∨ (159 ≤ op ∧ op ≤ 164 ∧ off = 2 ∧ ∃ r, g_st g = 1 :: 1 :: r)) (hU : oU g l (g_L g, (g_st g).drop off)) (h9 : (g_st g).length < 3370) : oQb nt N M res par ret E f g (w_br op off l g) := by
  obtain ⟨ha, ho⟩ := (w_q_iff g).mp hq
  have c := a.2.2 ho
  have off1 : off ≤ (g_st g).length := by
    rcases h1 with ⟨-, -, rfl, r, e⟩ | ⟨-, -, rfl, r, e⟩ <;> rw [e] <;> simp
  have ty : w_ty (21, op, 0, 0, [(0, l)]) (g_L g, g_st g) (g_L g, (g_st g).drop off) := by
    refine ⟨rfl, ?_⟩
    rcases h1 with ⟨p1, p2, rfl, r, e⟩ | ⟨p1, p2, rfl, r, e⟩
    · exact Or.inl ⟨p1, p2, by show g_st g = 1 :: (g_st g).drop 1; rw [e]; rfl⟩
    · exact Or.inr ⟨p1, p2, by show g_st g = 1 :: 1 :: (g_st g).drop 2; rw [e]; rfl⟩
  have t : oTy nt M res par ret (g_po g) (21, op, 0, 0, [(0, l)]) (g_L g, g_st g) (g_L g, (g_st g).drop off) := oTy.of ty (by decide) (by decide) (by decide)
  have hl := (c.2.2.2.2.2 ha).1
  have hd : ((g_st g).drop off).length ≤ (g_st g).length := by rw [List.length_drop]; omega
  have u := hU.2.1
  have hU' : oU g l (g_lF g l) := ⟨hU.1, rfl, by rw [u]; exact hU.2.2⟩
  unfold w_br w_em w_es
  rw [hq]
  simp only [cond_false, List.nil_append]
  refine oQb.gen a hq (i := (21, op, 0, 0, [(0, l)])) (F := (g_L g, (g_st g).drop off)) ⟨⟨⟨a.1, ty, hl, by show ((g_st g).drop off).length < 3370; omega⟩, off1⟩, hU.1, by show w_fit (g_L g, (g_st g).drop off) (g_lF g l); rw [u]; exact w_fit.rf _⟩ rfl rfl rfl rfl (fun k => w_one_lb) rfl rfl rfl (fun z => absurd z (by show ¬ false = true; decide)) rfl rfl ha rfl rfl t (fun q hq => ?_) hl ?_
  · rw [List.mem_singleton.mp hq]
    exact ⟨hU', by rw [u]; exact w_fit.rf _⟩
  · have b := w_ctr_by (l := g_it g) (op := op) (L := (0, l)) (F := (g_L g, g_st g))
    have c := w_cg_one (go := g_goes g) l (g_nl g)
    show 3 * w_cg (fun k => if k = l then true else g_goes g k) (g_nl g) + g_by g ≤ 3 * w_cg (g_goes g) (g_nl g) + (w_by_ false w_z (((21, op, 0, 0, [(0, l)]), (g_L g, g_st g)) :: g_it g)).length
    unfold g_by
    have : (if l < g_nl g then 1 else 0) ≤ 1 := by split <;> omega
    omega
/-- a jump -/
theorem oQb.go (a : oI nt N M res par ret E g) {l : Nat} (hU : w_q g = false → l < g_nl g ∧ w_fit (g_L g, g_st g) (g_lF g l) ∧ ∀ j, g_lat g l = some j → oAg g j (g_lF g l)) (h9 : (g_st g).length < 3370) : oQb nt N M res par ret E f g (w_go l g) := by
  cases hq : w_q g
  · obtain ⟨ha, ho⟩ := (w_q_iff g).mp hq
    obtain ⟨u1, u2, u3⟩ := hU hq
    have c := a.2.2 ho
    have ty : w_ty (20, 0, 0, 0, [(0, l)]) (g_L g, g_st g) (g_L g, g_st g) := rfl
    have t : oTy nt M res par ret (g_po g) (20, 0, 0, 0, [(0, l)]) (g_L g, g_st g) (g_L g, g_st g) := oTy.of ty (by decide) (by decide) (by decide)
    have hl := (c.2.2.2.2.2 ha).1
    unfold w_go w_em w_es
    rw [hq]
    simp only [cond_false, List.nil_append, List.drop_zero]
    refine oQb.gen a hq (i := (20, 0, 0, 0, [(0, l)])) (F := (g_L g, g_st g)) ⟨⟨⟨a.1, ty, hl, h9⟩, Nat.zero_le _⟩, u1, u2⟩ rfl rfl rfl rfl (fun k => w_one_lb) rfl rfl rfl (fun _ => Nat.le_refl _) rfl rfl rfl rfl rfl t (fun q hq => ?_) hl ?_
    · rw [List.mem_singleton.mp hq]
      exact ⟨⟨u1, rfl, u3⟩, u2⟩
    · have b := w_go_by (l := g_it g) (L := (0, l)) (F := (g_L g, g_st g))
      have c := w_cg_one (go := g_goes g) l (g_nl g)
      show 3 * w_cg (fun k => if k = l then true else g_goes g k) (g_nl g) + g_by g ≤ 3 * w_cg (g_goes g) (g_nl g) + (w_by_ false w_z (((20, 0, 0, 0, [(0, l)]), (g_L g, g_st g)) :: g_it g)).length
      unfold g_by
      have : (if l < g_nl g then 1 else 0) ≤ 1 := by split <;> omega
      omega
  · rw [w_go_q hq]; exact oQb.rf a
/-- new items have such locals -/
def oNw (L : List Nat) (g h : wG) : Prop := ∀ k i F, (g_it g).length ≤ k → (g_it h).reverse[k]? = some (i, F) → L <+: F.1
/-- a step of a value: the locals stay -/
def oQ (nt : sp_NT) (N M : Nat) (res par : Nat → Int32) (ret : Nat) (E : wF) (f : Nat) (g h : wG) : Prop := oQb nt N M res par ret E f g h ∧ g_L h = g_L g ∧ oNw (g_L g) g h
theorem oNw.rf {L : List Nat} (e : g_it h = g_it g) : oNw L g h := fun k i F h1 h2 => by rw [e] at h2; have := oNth_lt h2; omega
theorem oNw.tr {L : List Nat} (a : oNw L g h) (b : oNw L h k) (le : ∃ e, g_it k = e ++ g_it h) : oNw L g k := by
  intro j i F h1 h2
  by_cases z : (g_it h).length ≤ j
  · exact b j i F z h2
  · obtain ⟨e, le⟩ := le
    rw [le, oNth_app _ _ (by omega)] at h2
    exact a j i F h1 h2
theorem oNw.one {L : List Nat} {i : wI} {F : wF} (e : g_it h = (i, F) :: g_it g) (hL : L <+: F.1) : oNw L g h := by
  intro j i' F' h1 h2
  have := oNth_lt h2
  have len : (g_it h).length = (g_it g).length + 1 := by rw [e]; rfl
  have z : j = (g_it g).length := by omega
  rw [z, e, oNth_new] at h2
  injection h2 with h2
  injection h2 with h3 h4
  rw [← h4]; exact hL
theorem oQ.rf (a : oI nt N M res par ret E g) : oQ nt N M res par ret E f g g := ⟨oQb.rf a, rfl, .rf rfl⟩
theorem oQ.tr (a : oQ nt N M res par ret E f g h) (b : oQ nt N M res par ret E f h k) : oQ nt N M res par ret E f g k :=
  ⟨a.1.tr b.1, b.2.1.trans a.2.1, a.2.2.tr (by have := b.2.2; rw [a.2.1] at this; exact this) b.1.2.1.1⟩
theorem oQ.mono {f' : Nat} (a : oQ nt N M res par ret E f g h) (e : f ≤ f') : oQ nt N M res par ret E f' g h := ⟨a.1.mono e, a.2⟩
theorem oQ.okk (a : oQ nt N M res par ret E f g h) {P : Prop} (hP : P) : oQ nt N M res par ret E f g (s_ok P h) := ⟨a.1.okk hP, a.2⟩
theorem oEs_f {i : wI} {F : wF} (hq : w_q g = false) : g_L (w_es i F g) = F.1 ∧ g_it (w_es i F g) = (i, (g_L g, g_st g)) :: g_it g := by
  unfold w_es; rw [hq]; exact ⟨rfl, rfl⟩
theorem oQ.es (hN : N ≤ 64) (a : oI nt N M res par ret E g) (hq : w_q g = false) {i : wI} {s : List Nat} (h0 : i.2.2.2.2 = []) (h1 : oTerm i = false) (t : oTy nt M res par ret (g_po g) i (g_L g, g_st g) (g_L g, s)) (hl : (g_L g).length ≤ g_mx g) (h9 : s.length < 3370) : oQ nt N M res par ret E f g (w_es i (g_L g, s) g) :=
  ⟨oQb.es hN a hq h0 h1 t hl h9, (oEs_f hq).1, .one (oEs_f hq).2 (List.prefix_refl _)⟩
theorem oQ.em (hN : N ≤ 64) (a : oI nt N M res par ret E g) (hq : w_q g = false) {i : wI} {off : Nat} {on : List Nat} (h0 : i.2.2.2.2 = []) (h1 : oTerm i = false) (t : oTy nt M res par ret (g_po g) i (g_L g, g_st g) (g_L g, on ++ (g_st g).drop off)) (h9 : (on ++ (g_st g).drop off).length < 3370) (ho : off ≤ (g_st g).length) : oQ nt N M res par ret E f g (w_em i off on g) := by
  refine ⟨oQb.em hN a hq h0 h1 t h9 ho, ?_, ?_⟩
  · unfold w_em; rw [hq]; exact (oEs_f hq).1
  · unfold w_em; rw [hq]; exact .one (oEs_f hq).2 (List.prefix_refl _)
theorem oQ.po (hN : N ≤ 64) (a : oI nt N M res par ret E g) {s : Nat} {v : Int64} (he : (s, v) ∈ oEnt nt N) : oQ nt N M res par ret E f g (s_ok ((w_pn s v (g_po g)).length ≤ 100) (s_po (w_pn s v (g_po g)) g)) := ⟨oQb.po hN a he, rfl, .rf rfl⟩
theorem oQ.pe (hN : N ≤ 64) (a : oI nt N M res par ret E g) (hq : w_q g = false) {tag s : Nat} {v : Int64} {off : Nat} {on : List Nat} (he : (s, v) ∈ oEnt nt N) (h1 : oTerm (tag, s, w_px s v (g_po g), v, []) = false) (t : oTy nt M res par ret (w_pn s v (g_po g)) (tag, s, w_px s v (g_po g), v, []) (g_L g, g_st g) (g_L g, on ++ (g_st g).drop off)) (h9 : (on ++ (g_st g).drop off).length < 3370) (ho : off ≤ (g_st g).length) : oQ nt N M res par ret E f g (w_pe tag s v off on g) := by
  unfold w_pe
  rw [hq]
  have b := oQ.po (f := f) hN a he
  exact b.tr (oQ.em hN b.1.1 hq rfl h1 t h9 ho)
theorem oQ.br (a : oI nt N M res par ret E g) (hq : w_q g = false) {op off l : Nat} (h1 : (153 ≤ op ∧ op ≤ 158 ∧ off = 1 ∧ ∃ r, g_st g = 1 :: r) ∨ (159 ≤ op ∧ op ≤ 164 ∧ off = 2 ∧ ∃ r, g_st g = 1 :: 1 :: r)) (hU : oU g l (g_L g, (g_st g).drop off)) (h9 : (g_st g).length < 3370) : oQ nt N M res par ret E f g (w_br op off l g) := by
  refine ⟨oQb.br a hq h1 hU h9, ?_, ?_⟩
  · unfold w_br w_em w_es; rw [hq]; rfl
  · unfold w_br w_em w_es; rw [hq]; exact .one rfl (List.prefix_refl _)
theorem oQ.go (a : oI nt N M res par ret E g) {l : Nat} (hU : w_q g = false → l < g_nl g ∧ w_fit (g_L g, g_st g) (g_lF g l) ∧ ∀ j, g_lat g l = some j → oAg g j (g_lF g l)) (h9 : (g_st g).length < 3370) : oQ nt N M res par ret E f g (w_go l g) := by
  refine ⟨oQb.go a hU h9, ?_, ?_⟩
  · unfold w_go w_em w_es; cases w_q g <;> rfl
  · cases hq : w_q g
    · unfold w_go w_em w_es; rw [hq]; exact .one rfl (List.prefix_refl _)
    · rw [w_go_q hq]; exact .rf rfl
theorem oQ.put (a : oI nt N M res par ret E g) {l : Nat} (hl : l < g_nl g) (h0 : g_lat g l = none) (hf : g_al g = true → w_fit (g_L g, g_st g) (g_lF g l)) (hL : (g_lF g l).1 = g_L g) : oQ nt N M res par ret E f g (w_put l g) := by
  refine ⟨oQb.put a hl h0 hf, ?_, .rf ?_⟩
  · unfold w_put
    cases g_al g
    · cases g_goes g l
      · rfl
      · exact hL
    · exact hL
  · unfold w_put
    cases g_al g
    · cases g_goes g l <;> rfl
    · rfl
end
