/-! parts of constructs -/
theorem sp_th_t {r : Bool × sp_SS} {g : sp_SS → Bool × sp_SS} (h : (sp_th r g).1 = true) : r.1 = true ∧ sp_th r g = g r.2 ∧ (g r.2).1 = true := by
  unfold sp_th at h ⊢
  cases e : r.1
  · rw [e] at h; simp only [cond_false] at h; rw [e] at h; exact absurd h (by decide)
  · rw [e] at h; exact ⟨rfl, rfl, h⟩
theorem sp_al_1 (c : Nat) (r : Bool × sp_SS) : (sp_al c r).1 = r.1 := rfl
section
variable {nt : sp_NT} {N M : Nat} {res par : Nat → Int32} {ret : Nat} {E : wF} {T : Nat → List Nat} {rs : Int32} {n m z : Nat} {D : Nat → Prop} {g g0 h k : wG} {gh : List oGh} {cx : List wC} {L0 s0 : List Nat} {rec : wT} {K f B : Nat}
theorem wE.f40 (hT : wTb nt N M res par) {c : Int32} (h : wE nt N f c) : wE nt N 40 c := ⟨h.1, h.2.1, (hT.d h.1).2⟩
theorem oSc_E (hT : wTb nt N M res par) {c : Int32} (h : wE nt N f c) (s : sp_SS) : (sp_sc nt f c s).2 = s := (oE_all hT f c h.l s).1
/-- the locals are cut -/
theorem oAg.sL {L' : List Nat} (hL : L' <+: g_L g) {j : Nat} {F : wF} (a : oAg g j F) : oAg (s_L L' g) j F := oAt.frame (al := g_al g) a (fun _ => ⟨hL, rfl⟩)
theorem oCode.sL {P : List (Nat × Int64) → wI → wF → wF → Prop} {E : wF} (hT : oTm P) {L' : List Nat} (hL : L' <+: g_L g) (c : oCode P E g) : oCode P E (s_L L' g) := by
  refine c.same hT ⟨⟨[], rfl⟩, Nat.le_refl _, fun _ _ => ⟨rfl, fun q => q, fun _ q => q⟩, Nat.le_refl _, Nat.le_refl _, ⟨[], rfl⟩, ⟨[], rfl⟩, fun j F q => q.sL hL⟩ rfl rfl rfl (fun l h1 h2 => ⟨h1, h2, rfl⟩) (fun q => ?_) rfl rfl
  have := c.2.2.2.2.2 q
  exact ⟨Nat.le_trans hL.length_le this.1, this.2⟩
theorem oY.sL {L' : List Nat} (a : oY nt N M res par ret E gh cx g) (hL : L' <+: g_L g) (ha : g_al g = true → ∀ e, e ∈ gh → h_L e <+: L') : oY nt N M res par ret E gh cx (s_L L' g) := by
  obtain ⟨a1, a2, a3, a4, a5, a6⟩ := a
  exact ⟨⟨a1.1, a1.2.1, fun o => (a1.2.2 o).sL (oTy_m nt M res par ret) hL⟩, a2.same (fun c e q => ⟨q.1, q.2.1, q.2.2.1, fun w => ⟨(q.2.2.2.1 w).1, (q.2.2.2.1 w).2.1, fun o j hj => ((q.2.2.2.1 w).2.2 o j hj).sL hL⟩, q.2.2.2.2⟩) (fun c e q => q), a3, a4, a5, ha⟩
theorem oZ.sL {L' : List Nat} (hL : L' <+: g_L g) (hm : m ≤ g_nl g) : oZ n m 0 D g (s_L L' g) :=
  ⟨⟨⟨[], rfl⟩, Nat.le_refl _, fun _ _ => ⟨rfl, fun q => q, fun _ => rfl⟩, Nat.le_refl _, Nat.le_refl _, ⟨[], rfl⟩, fun q => q, fun _ j F q => q.sL hL⟩, ⟨hm, Nat.le_refl _, fun _ _ q => q, Nat.le_refl _, Nat.le_refl _, by show 3 * g_us g + 3 * 0 + _ + g_by g ≤ _ + g_by g; exact Nat.le_refl _, Nat.le_refl _, Nat.le_refl _⟩, fun _ _ => rfl⟩
/-- fields that nothing looks at -/
theorem oY.nx (a : oY nt N M res par ret E gh cx g) (v : Nat) : oY nt N M res par ret E gh cx (s_nx v g) := ⟨a.1, a.2.1.same (fun _ _ q => q) (fun _ _ q => q), a.2.2⟩
theorem oJ.nx (a : oJ nt N M res par ret E gh cx n m z D L0 s0 g0 g) {v : Nat} (hv : L0.length ≤ v) : oJ nt N M res par ret E gh cx n m z D L0 s0 g0 (s_nx v g) := ⟨a.1.nx v, a.2.1, a.2.2.1, hv⟩
theorem oJ.sL {L' : List Nat} (a : oJ nt N M res par ret E gh cx n m z D L0 s0 g0 g) (w : oW N n D gh L0) (hL : L' <+: g_L g) (h0 : g_al g = true → L0 <+: L') : oJ nt N M res par ret E gh cx n m z D L0 s0 g0 (s_L L' g) := by
  have hm : m ≤ g_nl g := Nat.le_trans a.2.1.2.1.1 a.2.1.2.1.2.1
  exact a.tr0 (z1 := 0) ⟨a.1.sL hL (fun q e he => (w.2.2.2 e he).trans (h0 q)), oZ.sL hL hm⟩ (fun q => ⟨h0 q, (a.2.2.1 q).2⟩) a.2.2.2
theorem pre_take {L L' : List Nat} {n : Nat} (h : L <+: L') (hn : L.length ≤ n) : L <+: L'.take n := by
  obtain ⟨t, rfl⟩ := h
  rw [List.take_append]
  rw [List.take_of_length_le hn]
  exact List.prefix_append _ _
theorem pre_take_eq {L L' : List Nat} (h : L <+: L') : L'.take L.length = L := by
  obtain ⟨t, rfl⟩ := h
  rw [List.take_append, List.take_length, Nat.sub_self]; simp
/-- what a statement within a construct needs -/
def oSb (nt : sp_NT) (N : Nat) (T : Nat → List Nat) (rs : Int32) (f : Nat) (m : Int32) (s : sp_SS) (gh : List oGh) (nx : Nat) : Prop :=
  oSt nt N T rs gh ∧ oSi N gh ∧ (∀ e, e ∈ gh → ∀ v, v < N → h_I e v = true → s.2.1 v = true) ∧ (sp_sc nt f m s).1 = true ∧ sp_lf nt rs f m (oLo gh) (oWa gh) = true ∧ (∀ v, v < N → s.2.1 v = true → ¬ v ∈ oT T m ∧ ¬ oIsE T gh v) ∧ (∀ x, x ∈ oT T m → ¬ oIsE T gh x) ∧ nx + 2 * (oT T m).length + 2 * oRw T gh ≤ 240
/-- all labels are kept -/
def oKl (g k : wG) : Prop := g_nl g ≤ g_nl k ∧ (g_ov g = true → g_ov k = true) ∧ ∀ l, l < g_nl g → g_lat k l = g_lat g l ∧ g_lF k l = g_lF g l ∧ (g_goes g l = true → g_goes k l = true)
theorem oKl.rf (g : wG) : oKl g g := ⟨Nat.le_refl _, fun q => q, fun _ _ => ⟨rfl, rfl, fun q => q⟩⟩
theorem oKl.tr {g h k : wG} (a : oKl g h) (b : oKl h k) : oKl g k := ⟨Nat.le_trans a.1 b.1, fun q => b.2.1 (a.2.1 q), fun l hl => ⟨(b.2.2 l (Nat.lt_of_lt_of_le hl a.1)).1.trans (a.2.2 l hl).1, (b.2.2 l (Nat.lt_of_lt_of_le hl a.1)).2.1.trans (a.2.2 l hl).2.1, fun q => (b.2.2 l (Nat.lt_of_lt_of_le hl a.1)).2.2 ((a.2.2 l hl).2.2 q)⟩⟩
theorem oKl.v {g k : wG} {tg : List Nat} (a : wX (g_nl g) tg g k) : oKl g k := ⟨a.2.2.1, fun q => by rw [a.1.1]; exact q, fun l hl => ⟨(a.2.2.2.1 l hl).1, (a.2.2.2.1 l hl).2.1, (a.2.2.2.1 l hl).2.2.2⟩⟩
theorem oKl.ls {g k : wG} (a : oLs (g_nl g) g k) : oKl g k := ⟨a.2.1, a.2.2.2.2.2.2.1, fun l hl => ⟨(a.2.2.1 l hl).2.2 hl, (a.2.2.1 l hl).1, (a.2.2.1 l hl).2.1⟩⟩
theorem oKl.go (l : Nat) (g : wG) : oKl g (w_go l g) := by
  cases hq : w_q g
  · obtain ⟨f1, f2, f3, f4, f5, f6⟩ := w_go_f (l := l) hq
    refine ⟨Nat.le_of_eq f6.symm, fun q => by rw [((w_q_iff g).mp hq).2] at q; exact absurd q (by decide), fun k _ => ⟨by rw [f5], by rw [f4], fun q => ?_⟩⟩
    rw [f3]; show (if k = l then true else g_goes g k) = true
    split
    · rfl
    · exact q
  · rw [w_go_q hq]; exact oKl.rf g
theorem oKl.sl (b : Bool) (l : Nat) (g : wG) : oKl g (w_sl b l g) := by
  obtain ⟨x1, x2, x3, x4, x5, x6, x7, x8, x9⟩ := w_sl_n b l g
  obtain ⟨-, f2, f3, f4, f5, -, -, -, f9, f10⟩ := w_sl_f b l g
  exact ⟨Nat.le_of_eq x1.symm, fun q => by rw [f3]; exact q, fun k _ => ⟨by rw [x4], by rw [x3], fun q => by rw [x2]; exact q⟩⟩
/-- but for one that is put -/
theorem oKl.put (l : Nat) (g : wG) : g_nl g ≤ g_nl (w_put l g) ∧ (g_ov g = true → g_ov (w_put l g) = true) ∧ ∀ k, k < g_nl g → (k ≠ l → g_lat (w_put l g) k = g_lat g k) ∧ g_lF (w_put l g) k = g_lF g k ∧ (g_goes g k = true → g_goes (w_put l g) k = true) := by
  obtain ⟨f1, f2, f3, f4, f5, f6, f7, f8, f9, f10, f11, f12⟩ := oPut_f l g
  exact ⟨Nat.le_of_eq f7.symm, fun q => by rw [f2]; exact q, fun k _ => ⟨fun q => by rw [f10]; exact if_neg q, by rw [f8], fun q => by rw [f9]; exact q⟩⟩
/-- a statement within a construct, from a live point on -/
theorem oJ.sub (IH : oSc nt N M res par ret E T rs rec K) (w : oW N n D gh L0) {i : Int32} {s : sp_SS} (a : oJ nt N M res par ret E gh (g_cx g) n m z D L0 [] g0 g) (hq : w_q g = false) (hl : (g_L g).length = g_nx g) (hA : wA nt N f i) (hF : oFm nt N s.2.1 g) (hS : oSb nt N T rs f i s gh (g_nx g)) (hB : oB B g0) (hB2 : B + 70 * K + 170 ≤ 20000) (hD : ∀ x, oDn T i gh x → D x) (hn : n ≤ g_nl g) :
    oJ nt N M res par ret E gh (g_cx (rec i g)) n m z D L0 [] g0 (rec i g) ∧ g_nx g ≤ g_nx (rec i g) ∧ g_nx (rec i g) ≤ g_nx g + 2 * (oT T i).length ∧ (g_al (rec i g) = true → g_L g <+: g_L (rec i g)) ∧ (w_q (rec i g) = false → (g_L (rec i g)).length = g_nx (rec i g) ∧ oFm nt N (sp_sc nt f i s).2.2.1 (rec i g)) ∧ oPl (oDn T i gh) g (rec i g) ∧ oKl g (rec i g) := by
  obtain ⟨ha, ho⟩ := (w_q_iff g).mp hq
  have hm : m ≤ g_nl g := Nat.le_trans a.2.1.2.1.1 a.2.1.2.1.2.1
  obtain ⟨h1, h2, h3, h4, h5, h6, h7, h8⟩ := hS
  obtain ⟨p1, p2, p3, p4, p5, p6⟩ := IH.2 f i hA g s gh B ⟨hq, a.1, h1, h2, h3, ⟨(a.2.2.1 ha).2, hl⟩, hF, h4, h5, h6, h7, h8, hB.z a.2.1.2.1 a.1.2.2.2.1, hB2⟩
  have zz : oZ n m 0 D g (rec i g) := ⟨p2.1.low hn, oPz.of p2.2.1.pt.1 p2.2.1.pt.2 hm, p2.2.2.mono hD⟩
  refine ⟨⟨p1, a.2.1.tr zz, fun q => ⟨(a.2.2.1 ha).1.trans (p3 q).1, (p3 q).2⟩, Nat.le_trans a.2.2.2 p4⟩, p4, p5, fun q => (p3 q).1, p6, p2.2.2, oKl.ls p2.1⟩
/-- a statement's place that ends what is told in it -/
theorem oJ.aln (IH : oSc nt N M res par ret E T rs rec K) (w : oW N n D gh L0) {i : Int32} {s : sp_SS} (a : oJ nt N M res par ret E gh (g_cx g) n m z D L0 [] g0 g) (hl : w_q g = false → (g_L g).length = g_nx g ∧ oFm nt N s.2.1 g) (hA : wA nt N f i) (hS : oSb nt N T rs f i s gh (g_nx g)) (hB : oB B g0) (hB2 : B + 70 * K + 170 ≤ 20000) (hD : ∀ x, oDn T i gh x → D x) (hn : n ≤ g_nl g) :
    oJ nt N M res par ret E gh (g_cx (w_aln rec i g)) n m z D L0 [] g0 (w_aln rec i g) ∧ g_nx (w_aln rec i g) = g_nx g ∧ (w_q (w_aln rec i g) = false → w_q g = false ∧ g_L (w_aln rec i g) = g_L g) ∧ (w_q g = false → g_al (w_aln rec i g) = true → g_L (w_aln rec i g) = g_L g) ∧ oKl g (w_aln rec i g) ∧ oPl (oDn T i gh) g (w_aln rec i g) := by
  unfold w_aln
  simp only
  cases hq : w_q g
  · obtain ⟨l1, l2⟩ := hl hq
    obtain ⟨j, j1, j2, j3, j4, j5, j6⟩ := a.sub IH w hq l1 hA l2 hS hB hB2 hD hn
    have key : g_al (rec i g) = true → (g_L (rec i g)).take (g_nx g) = g_L g := fun q => by rw [← l1]; exact pre_take_eq (j3 q)
    have ha := ((w_q_iff g).mp hq).1
    refine ⟨oJ.nx (oJ.sL j w (List.take_prefix _ _) (fun q => by rw [key q]; exact (a.2.2.1 ha).1)) a.2.2.2, rfl, fun q => ⟨rfl, ?_⟩, fun _ q => key q, j6, j5⟩
    have : w_q (rec i g) = false := q
    exact key ((w_q_iff _).mp this).1
  · rw [IH.1 i g hq]
    refine ⟨oJ.nx (oJ.sL a w (List.take_prefix _ _) (fun q => pre_take (a.2.2.1 q).1 a.2.2.2)) a.2.2.2, rfl, fun q => ?_, fun q => absurd q (by decide), oKl.rf g, fun _ _ => rfl⟩
    have : w_q g = false := q
    rw [hq] at this; exact absurd this (by decide)
/-! constructs: what stands at the beginning -/
variable {i : Int32} {s : sp_SS}
def oBg (nt : sp_NT) (N M : Nat) (res par : Nat → Int32) (ret : Nat) (E : wF) (T : Nat → List Nat) (rs : Int32) (K f : Nat) (i : Int32) (g0 : wG) (s : sp_SS) (gh : List oGh) (B : Nat) : Prop :=
  oPr nt N M res par ret E T rs (K + 1) f i g0 s gh B ∧ g_ac g0 + 1 ≤ 60000 ∧ N ≤ 64 ∧ wTb nt N M res par ∧ oTr nt N T ∧ wA nt N f i
theorem oBg.w (b : oBg nt N M res par ret E T rs K f i g0 s gh B) : oW N (g_nl g0) (oDn T i gh) gh (g_L g0) := by
  obtain ⟨⟨p1, p2, p3, p4, p5, p6, p7, p8, p9, p10, p11, p12, p13, p14⟩, b2, b3, b4, b5, b6⟩ := b
  refine ⟨p2.2.1.lb, fun e he h3 v hv hi => ?_, b3, fun e he => p2.2.2.2.2.2 ((w_q_iff g0).mp p1).1 e he⟩
  have := p10 v hv (p5 e he v hv hi)
  intro q
  rcases q with q | q
  · exact this.1 q
  · exact this.2 q
/-- behind labels that are new -/
theorem oBg.j {c c' : Nat} {F : wF} (b : oBg nt N M res par ret E T rs K f i g0 s gh B) (y : oY nt N M res par ret E gh (g_cx g0) h) (l : oLab F c c' (s_ac g0) h) : oJ nt N M res par ret E gh (g_cx g0) (g_nl g0) (g_nl g0 + c) 0 (oDn T i gh) (g_L g0) [] h h := by
  obtain ⟨⟨p1, p2, p3, p4, p5, p6, p7, p8, p9, p10, p11, p12, p13, p14⟩, b2, b3, b4, b5, b6⟩ := b
  obtain ⟨⟨x1, x2, x3, x4, x5, x6, x7, x8, x9, x10, x11, x12, x13⟩, n1, -⟩ := l
  refine ⟨y, oZ.rf (by rw [n1]; exact Nat.le_refl _), fun _ => ⟨by rw [x4]; exact List.prefix_refl _, by rw [x5]; exact p6.1⟩, by rw [x6]; exact Nat.le_of_eq p6.2⟩
/-- the labels -/
theorem oBg.lbs {F : wF} (hF : F.2.length < 3370) (c : Nat) (hc : c ≤ 70) (b : oBg nt N M res par ret E T rs K f i g0 s gh B) : oY nt N M res par ret E gh (g_cx g0) (w_lbs F c (s_ac g0)) ∧ oLab F c c (s_ac g0) (w_lbs F c (s_ac g0)) ∧ oB (B + c) (w_lbs F c (s_ac g0)) := by
  obtain ⟨⟨p1, p2, p3, p4, p5, p6, p7, p8, p9, p10, p11, p12, p13, p14⟩, b2, b3, b4, b5, b6⟩ := b
  have y0 : oY nt N M res par ret E gh (g_cx g0) (s_ac g0) := p2.s_ac b2
  have B0 : oB B (s_ac g0) := ⟨p13.1, by have := p13.2.1; show g_n1 g0 ≤ g_fm g0 + g_by g0 + 3 * (g_ac g0 + 1) + B; omega, by show g_ac g0 + 1 ≤ 60001; omega⟩
  obtain ⟨y, l⟩ := y0.lbs hF c B0 (by omega)
  exact ⟨y, l, l.oB B0 (Nat.le_refl _)⟩
/-- a value at a live point of a construct -/
theorem oJ.V (hN : N ≤ 64) (hT : wTb nt N M res par) (w : oW N n D gh L0) {c : Int32} {s : sp_SS} (a : oJ nt N M res par ret E gh (g_cx g) n m z D L0 [] g0 g) (hq : w_q g = false) (hE : wE nt N f c) (hF : oFm nt N s.2.1 g) (hc : (sp_sc nt f c s).1 = true) (hB : oB B g0) (hB2 : B + 160 ≤ 20000) :
    (wP (g_nl g) (w_tl (nT nt c)) g (wV nt 40 c 0 0 g) ∧ oQ nt N M res par ret E 40 g (wV nt 40 c 0 0 g)) ∧ (wP (g_nl g) [] g (wV nt 40 c 1 0 g) ∧ oQ nt N M res par ret E 40 g (wV nt 40 c 1 0 g)) ∧ (nT nt c = 1 → ∀ l, oU g l (g_L g, []) → (wCd (g_nl g) l g (wV nt 40 c 2 l g) ∧ oQ nt N M res par ret E 40 g (wV nt 40 c 2 l g)) ∧ (wCd (g_nl g) l g (wV nt 40 c 3 l g) ∧ oQ nt N M res par ret E 40 g (wV nt 40 c 3 l g))) := by
  obtain ⟨ha, ho⟩ := (w_q_iff g).mp hq
  have est := (a.2.2.1 ha).2
  have R := (wV_sh hT 40 c (hE.f40 hT)).2 g (g_nl g) hq (Nat.le_refl _)
  have O := oV_all (ret := ret) (E := E) hN hT 40 c (hE.f40 hT) g B hq a.1.1 (oVs.sc hT hF hE hc) ⟨⟨hB.z a.2.1.2.1 a.1.2.2.2.1, by omega, by have := a.1.2.2.1; omega⟩, by omega, by decide⟩ (by rw [est]; simp)
  rw [est] at R O
  have e0 : w_tl (nT nt c) ++ [] = w_tl (nT nt c) := List.append_nil _
  rw [e0] at R
  refine ⟨⟨R.1, O.1⟩, ⟨R.2.1, O.2.1⟩, fun ht l hl => ?_⟩
  exact ⟨⟨(R.2.2 ht l hl.1).1, (O.2.2 ht l hl).1⟩, ⟨(R.2.2 ht l hl.1).2, (O.2.2 ht l hl).2⟩⟩
end
