/-! statements without contexts: 61, 65, 74, 85 -/
section
variable {nt : sp_NT} {N M : Nat} {res par : Nat → Int32} {ret : Nat} {E : wF} {T : Nat → List Nat} {rs : Int32} {n m z : Nat} {D : Nat → Prop} {g g0 g1 h k : wG} {gh eh : List oGh} {cx : List wC} {L0 s0 : List Nat} {rec : wT} {K f B hh : Nat} {i : Int32} {s : sp_SS}
theorem oQb.tk (a : oI nt N M res par ret E g) (c : Nat) : oQb nt N M res par ret E f g (s_tk c g) := by
  have le : oLe g (s_tk c g) := ⟨⟨[], rfl⟩, Nat.le_refl _, fun _ _ => ⟨rfl, fun q => q, fun _ q => q⟩, Nat.le_max_left _ _, Nat.le_refl _, ⟨[], rfl⟩, ⟨[], rfl⟩, fun _ _ q => q⟩
  refine ⟨⟨a.1, a.2.1, fun ho => ?_⟩, le, ⟨Nat.le_refl _, fun _ _ q => q, Nat.le_refl _, Nat.le_refl _, Nat.le_refl _, Nat.le_refl _⟩, Nat.le_refl _, Nat.le_max_left _ _⟩
  have c' := a.2.2 ho
  exact c'.same (oTy_m nt M res par ret) le rfl rfl rfl (fun l hl hg => ⟨hl, hg, rfl⟩) (fun q => ⟨Nat.le_trans (c'.2.2.2.2.2 q).1 (Nat.le_max_left _ _), (c'.2.2.2.2.2 q).2⟩) rfl rfl
theorem oQb.ts (hN : N ≤ 64) (a : oI nt N M res par ret E g) (hq : w_q g = false) {t : Nat} {ty r : List Nat} (hl : (g_L g).length = g_nx g) (hnx : g_nx g < 250) (hr : r.length < 3370)
    (ht : (w_num t ∧ ty = (w_tl t).reverse ∧ g_st g = w_tl t ++ r) ∨ (w_arr5 t ∧ ∃ a, ty = [a] ∧ g_st g = a :: r ∧ (w_arr5 a ∨ a = 10 ∨ a = 12))) : oQb nt N M res par ret E f g (w_ts t ty g) ∧ g_L (w_ts t ty g) = g_L g ++ ty ∧ g_st (w_ts t ty g) = r ∧ (∃ it, g_it (w_ts t ty g) = (it, (g_L g, g_st g)) :: g_it g) := by
  have e1 : (w_tl t).length ≤ (g_st g).length ∧ (g_st g).drop (w_tl t).length = r ∧ ty.length = (w_tl t).length := by
    rcases ht with ⟨-, h2, h3⟩ | ⟨h1, b, h2, h3, -⟩
    · rw [h2, h3]; simp
    · have : w_tl t = [t] := w_tl_1 (Or.inr h1)
      rw [this, h2, h3]; simp
  obtain ⟨e1, e2, e3⟩ := e1
  have ty1 : oTy nt M res par ret (g_po g) (3, t, g_nx g, 0, []) (g_L g, g_st g) (g_L g ++ ty, r) := by
    refine oTy.of ?_ (by decide) (by decide) (by decide)
    rcases ht with ⟨h1, h2, h3⟩ | ⟨h1, b, h2, h3, h4⟩
    · exact Or.inl ⟨h1, h3, Or.inr ⟨hl.symm, by show _ ++ ty = _ ++ (w_tl t).reverse; rw [h2]⟩⟩
    · exact Or.inr ⟨h1, b, h3, Or.inr ⟨h4, hl.symm, by show _ ++ ty = _ ++ [b]; rw [h2]⟩⟩
  have b := oQb.tk (f := f) a (w_tl t).length
  have q1 : w_q (s_tk (w_tl t).length g) = false := hq
  have es := oQb.es (f := f) hN b.1 q1 (i := (3, t, g_nx g, 0, [])) (F := (g_L g ++ ty, r)) rfl rfl ty1 (by
    show (g_L g ++ ty).length ≤ max (g_mx g) (g_nx g + (w_tl t).length)
    rw [List.length_append, hl, e3]; exact Nat.le_max_right _ _) hr
  unfold w_ts
  rw [e2]
  refine ⟨(b.tr es).okk (fun _ => ⟨e1, hnx⟩), ?_, ?_, ?_⟩
  · exact (oEs_f (i := (3, t, g_nx g, 0, [])) (F := (g_L g ++ ty, r)) q1).1
  · show g_st (w_es _ _ _) = r
    unfold w_es; rw [q1]; rfl
  · exact ⟨_, (oEs_f (i := (3, t, g_nx g, 0, [])) (F := (g_L g ++ ty, r)) q1).2⟩
theorem w_ts_f (t : Nat) (ty : List Nat) (g : wG) : g_ov (w_ts t ty g) = g_ov g ∧ g_al (w_ts t ty g) = g_al g ∧ g_ac (w_ts t ty g) = g_ac g ∧ g_pl (w_ts t ty g) = g_pl g ∧ g_nx (w_ts t ty g) = g_nx g + (w_tl t).length ∧ g_cx (w_ts t ty g) = g_cx g ∧ g_nl (w_ts t ty g) = g_nl g ∧ g_lF (w_ts t ty g) = g_lF g ∧ g_lat (w_ts t ty g) = g_lat g ∧ g_goes (w_ts t ty g) = g_goes g ∧ g_rg (w_ts t ty g) = g_rg g ∧ w_q (w_ts t ty g) = w_q g := by
  cases hq : w_q g
  · have q1 : w_q (s_tk (w_tl t).length g) = false := hq
    unfold w_ts w_es; rw [q1]
    exact ⟨rfl, rfl, rfl, rfl, rfl, rfl, rfl, rfl, rfl, rfl, rfl, hq⟩
  · have q1 : w_q (s_tk (w_tl t).length g) = true := hq
    unfold w_ts w_es; rw [q1]
    exact ⟨rfl, rfl, rfl, rfl, rfl, rfl, rfl, rfl, rfl, rfl, rfl, hq⟩
theorem oM.ts (w : oW N n D gh L0) (we : ∀ e, e ∈ eh → h_L e <+: L0) {s r ty : List Nat} {t : Nat} (a : oM nt N M res par ret E gh n m z D L0 hh eh s g1 g) (hq : w_q g = false) (hl : (g_L g).length = g_nx g) (hnx : g_nx g < 250) (hr : r.length < 3370)
    (ht : (w_num t ∧ ty = (w_tl t).reverse ∧ s = w_tl t ++ r) ∨ (w_arr5 t ∧ ∃ a, ty = [a] ∧ s = a :: r ∧ (w_arr5 a ∨ a = 10 ∨ a = 12))) : oM nt N M res par ret E gh n m z D L0 hh eh r g1 (w_ts t ty g) ∧ oLs (g_nl g) g (w_ts t ty g) ∧ g_L (w_ts t ty g) = g_L g ++ ty ∧ (g_L (w_ts t ty g)).length = g_nx (w_ts t ty g) := by
  obtain ⟨f1, f2, f3, f4, f5, f6, f7, f8, f9, f10, f11, f12⟩ := w_ts_f t ty g
  obtain ⟨ha, ho⟩ := (w_q_iff g).mp hq
  obtain ⟨ct, j⟩ := a.ac
  obtain ⟨lv1, lv2⟩ := a.live ha
  obtain ⟨b, bL, bs, it, bi⟩ := oQb.ts (f := 41) (r := r) w.2.2.1 j.1.1 hq hl hnx hr (by rw [lv2]; exact ht)
  have ls : oLs (g_nl g) g (w_ts t ty g) := oLs.of b.2.1 (fun x => by rw [f1]; exact x) (fun l _ _ => by rw [f9])
  have nw : oNw (g_L g) g (w_ts t ty g) := oNw.one bi (List.prefix_refl _)
  have e3 : ty.length = (w_tl t).length := by
    rcases ht with ⟨-, h2, -⟩ | ⟨h1, b, h2, -⟩
    · rw [h2]; simp
    · have : w_tl t = [t] := w_tl_1 (Or.inr h1)
      rw [this, h2]; rfl
  refine ⟨a.step w.2.2.1 (fun ct j => ?_) f6 ls (fun e he => nw.le ((we e he).trans lv1)) f4, ls, bL, by rw [bL, List.length_append, hl, f5, e3]⟩
  have hm : m ≤ g_nl g := Nat.le_trans j.2.1.2.1.1 j.2.1.2.1.2.1
  have al := j.1.2.2.2.2.2 ha
  exact j.tr0 (z1 := 0) (j.1.step (Nat.le_refl _) w b f1 f3 (fun l _ _ => by rw [f9]) (oPl.eq f4) (fun e he => nw.le (al e he)) (fun _ e he => by rw [bL]; exact (al e he).trans (List.prefix_append _ _)) hm) (fun _ => ⟨by rw [bL]; exact lv1.trans (List.prefix_append _ _), bs⟩) (by rw [f5]; have := j.2.2.2; omega)
theorem no12 {L : List Nat} {t : Nat} (h : ¬ 12 ∈ L) (ht : t ≤ 8) : ¬ 12 ∈ L ++ (w_tl t).reverse := by
  rw [List.mem_append]
  intro q
  rcases q with q | q
  · exact h q
  · rw [List.mem_reverse] at q
    unfold w_tl at q
    split at q
    · cases q
    · split at q
      · rcases List.mem_cons.mp q with z | z
        · exact absurd z (by decide)
        · have := List.mem_singleton.mp z; omega
      · have := List.mem_singleton.mp q; omega
/-- a variable's place is set -/
theorem oM.pl (w : oW N n D gh L0) (a : oM nt N M res par ret E gh n m z D L0 hh [] s0 g1 g) {v p : Nat} (hv : v < 4000) (hD : D v) : oM nt N M res par ret E gh n m z D L0 hh [] s0 g1 (s_pl v p g) ∧ oLs (g_nl g) g (s_pl v p g) := by
  obtain ⟨hc, ch, ct, e1, e2, j, c⟩ := a
  have hm : m ≤ g_nl g := Nat.le_trans j.2.1.2.1.1 j.2.1.2.1.2.1
  have ls : oLs (g_nl g) g (s_pl v p g) := oLs.rf _ g
  have lsn : oLs n g (s_pl v p g) := oLs.rf _ g
  have pl : oPl D g (s_pl v p g) := fun j q => by
    show (if j = v then some p else g_pl g j) = g_pl g j
    refine if_neg (fun e => q ?_)
    rw [e, if_pos hv]; exact hD
  obtain ⟨y1, y2, y3, y4, y5, y6⟩ := j.1
  refine ⟨⟨hc, ch, ct, e1, e2, j.tr0 (z1 := 0) ⟨⟨y1, y2.le lsn w.1 (fun e _ => oNw.rf rfl) pl w.2.1 (by have := w.2.2.1; omega), y3, y4, y5, y6⟩, lsn, oPz.rf (g := g) hm, pl⟩ j.2.2.1 j.2.2.2, ?_⟩, ls⟩
  rw [c.nil0]; trivial
theorem oM.pn (a : oM nt N M res par ret E gh n m z D L0 hh eh s0 g1 g) (p : Int32) : oM nt N M res par ret E gh n m z D L0 hh eh s0 g1 (s_pn p g) := by
  obtain ⟨hc, ch, ct, e1, e2, j, c⟩ := a
  exact ⟨hc, ch, ct, e1, e2, ⟨⟨j.1.1, j.1.2.1.same (fun _ _ q => q) (fun _ _ q => q), j.1.2.2⟩, j.2⟩, c.same (fun _ _ q => q) (fun _ _ q => q)⟩
/-- a code behind which nothing goes on -/
theorem oM.term (w : oW N n D gh L0) (we : ∀ e, e ∈ eh → h_L e <+: L0) {s : List Nat} (a : oM nt N M res par ret E gh n m z D L0 hh eh s g1 g) (hq : w_q g = false) {i : wI} {off : Nat} {on : List Nat} (h0 : i.2.2.2.2 = []) (h1 : oTerm i = true) (t : oTy nt M res par ret (g_po g) i (g_L g, s) (g_L g, on ++ s.drop off)) (ho : off ≤ s.length) (h9 : (on ++ s.drop off).length < 3370) (s' : List Nat) (hd : on.length ≤ off := by exact Nat.zero_le _) :
    oM nt N M res par ret E gh n m z D L0 hh eh s' g1 (s_al false (w_em i off on g)) ∧ oLs (g_nl g) g (s_al false (w_em i off on g)) := by
  obtain ⟨ha, hov⟩ := (w_q_iff g).mp hq
  obtain ⟨ct, j⟩ := a.ac
  obtain ⟨lv1, lv2⟩ := a.live ha
  have c := j.1.1.2.2 hov
  have hl := (c.2.2.2.2.2 ha).1
  rw [← lv2] at t ho h9
  have b : oQb nt N M res par ret E 41 g (s_al false (w_em i off on g)) := by
    unfold w_em w_es
    rw [hq]
    simp only [cond_false]
    refine oQb.gen j.1.1 hq (i := i) (F := (g_L g, on ++ (g_st g).drop off)) ⟨⟨j.1.1.1, t.1, hl, h9⟩, ho⟩ rfl rfl rfl rfl (fun k => by rw [h0]; simp; rfl) rfl rfl rfl (fun _ => by show (on ++ (g_st g).drop off).length ≤ _; rw [List.length_append, List.length_drop]; omega) rfl rfl (by rw [h1]; rfl) rfl rfl t (fun q hq => by rw [h0] at hq; cases hq) hl ?_
    have b := g_by_cons i (g_L g, g_st g) (g_it g)
    show 3 * w_cg (g_goes g) (g_nl g) + g_by g ≤ 3 * w_cg (g_goes g) (g_nl g) + (w_by_ false w_z ((i, (g_L g, g_st g)) :: g_it g)).length
    unfold g_by; omega
  have F : g_ov (s_al false (w_em i off on g)) = g_ov g ∧ g_lat (s_al false (w_em i off on g)) = g_lat g ∧ g_ac (s_al false (w_em i off on g)) = g_ac g ∧ g_pl (s_al false (w_em i off on g)) = g_pl g ∧ g_cx (s_al false (w_em i off on g)) = g_cx g ∧ g_it (s_al false (w_em i off on g)) = (i, (g_L g, g_st g)) :: g_it g ∧ g_nx (s_al false (w_em i off on g)) = g_nx g := by
    unfold w_em w_es; rw [hq]; exact ⟨rfl, rfl, rfl, rfl, rfl, rfl, rfl⟩
  have al0 : g_al (s_al false (w_em i off on g)) = false := rfl
  generalize s_al false (w_em i off on g) = h at *
  obtain ⟨f1, f2, f3, f4, f5, f6, f7⟩ := F
  have ls : oLs (g_nl g) g h := oLs.of b.2.1 (fun x => by rw [f1]; exact x) (fun l _ _ => by rw [f2])
  have nw : oNw (g_L g) g h := oNw.one f6 (List.prefix_refl _)
  refine ⟨a.step w.2.2.1 (fun ct j => ?_) f5 ls (fun e he => nw.le ((we e he).trans lv1)) f4, ls⟩
  have hm : m ≤ g_nl g := Nat.le_trans j.2.1.2.1.1 j.2.1.2.1.2.1
  have al := j.1.2.2.2.2.2 ha
  exact j.tr0 (z1 := 0) (j.1.step (Nat.le_refl _) w b f1 f3 (fun l _ _ => by rw [f2]) (oPl.eq f4) (fun e he => nw.le (al e he)) (fun q => by rw [al0] at q; exact absurd q (by decide)) hm) (fun q => by rw [al0] at q; exact absurd q (by decide)) (by rw [f7]; exact j.2.2.2)
/-- an expression's place in a statement -/
theorem oM.V (hT : wTb nt N M res par) (w : oW N n D gh L0) (we : ∀ e, e ∈ eh → h_L e <+: L0) {c : Int32} {s : sp_SS} (a : oM nt N M res par ret E gh n m z D L0 hh eh [] g1 g) (hq : w_q g = false) (hE : wE nt N f c) (hF : oFm nt N s.2.1 g) (hc : (sp_sc nt f c s).1 = true) (hB : oB B g1) (hB2 : B + 160 ≤ 20000) :
    (oM nt N M res par ret E gh n m z D L0 hh eh (w_tl (nT nt c)) g1 (wV nt 40 c 0 0 g) ∧ oLs (g_nl g) g (wV nt 40 c 0 0 g) ∧ wP (g_nl g) (w_tl (nT nt c)) g (wV nt 40 c 0 0 g))
    ∧ (nT nt c = 1 → ∀ l L, oPd L [] l g → L = g_L g → (oM nt N M res par ret E gh n m z D L0 hh eh [] g1 (wV nt 40 c 2 l g) ∧ oLs (g_nl g) g (wV nt 40 c 2 l g) ∧ wCd (g_nl g) l g (wV nt 40 c 2 l g) ∧ g_L (wV nt 40 c 2 l g) = g_L g) ∧ (oM nt N M res par ret E gh n m z D L0 hh eh [] g1 (wV nt 40 c 3 l g) ∧ oLs (g_nl g) g (wV nt 40 c 3 l g) ∧ wCd (g_nl g) l g (wV nt 40 c 3 l g) ∧ g_L (wV nt 40 c 3 l g) = g_L g)) := by
  obtain ⟨ha, ho⟩ := (w_q_iff g).mp hq
  obtain ⟨ct, j⟩ := a.ac
  have est := (j.2.2.1 ha).2
  have R := (wV_sh hT 40 c (hE.f40 hT)).2 g (g_nl g) hq (Nat.le_refl _)
  have O := oV_all (ret := ret) (E := E) w.2.2.1 hT 40 c (hE.f40 hT) g B hq j.1.1 (oVs.sc hT hF hE hc) ⟨⟨hB.z j.2.1.2.1 j.1.2.2.2.1, by omega, by have := j.1.2.2.1; omega⟩, by omega, by decide⟩ (by rw [est]; simp)
  rw [est] at R O
  have e0 : w_tl (nT nt c) ++ [] = w_tl (nT nt c) := List.append_nil _
  rw [e0] at R
  have v := a.val (by decide) w we hq R.1 O.1
  refine ⟨⟨v.1, v.2, R.1⟩, fun ht l L hl hL => ?_⟩
  have hu : oU g l (g_L g, []) := ⟨hl.1, by rw [hl.2.1, hL], fun j y => by rw [← hL]; exact hl.2.2 ho j y⟩
  have c2 := a.cond (by decide) w we hq (R.2.2 ht l hl.1).1 (O.2.2 ht l hu).1
  have c3 := a.cond (by decide) w we hq (R.2.2 ht l hl.1).2 (O.2.2 ht l hu).2
  exact ⟨⟨c2.1, c2.2, (R.2.2 ht l hl.1).1, (O.2.2 ht l hu).1.2.1⟩, ⟨c3.1, c3.2, (R.2.2 ht l hl.1).2, (O.2.2 ht l hu).2.2.1⟩⟩
/-- behind labels -/
theorem oBg.mm {c c' : Nat} {F : wF} (b : oBg nt N M res par ret E T rs K f i g0 s gh B) (y : oY nt N M res par ret E gh (g_cx g0) h) (l : oLab F c c' (s_ac g0) h) : oM nt N M res par ret E gh (g_nl g0) (g_nl g0 + c) 0 (oDn T i gh) (g_L g0) 0 [] [] h h := by
  have j := b.j y l
  exact oM.of j l.1.2.2.2.2.2.2.2.2.2.2.1
theorem oBg.mst (b : oBg nt N M res par ret E T rs K f i g0 s gh B) : oM nt N M res par ret E gh (g_nl g0) (g_nl g0) 0 (oDn T i gh) (g_L g0) 0 [] [] (s_ac g0) (s_ac g0) ∧ oB B (s_ac g0) := ⟨oM.of b.st.1 rfl, b.st.2⟩
theorem oBg.fin2 {F : wF} {c c' : Nat} (b : oBg nt N M res par ret E T rs K f i g0 s gh B) (l : oLab F c c' (s_ac g0) g1) (a : oM nt N M res par ret E gh (g_nl g0) (g_nl g0 + c) z (oDn T i gh) (g_L g0) 0 [] [] g1 h) (hzc : z ≤ c)
    (hz : c + w_cg (g_goes h) (g_nl g0) ≤ z + w_cg (g_goes h) (g_nl g0 + c)) (hc : c' + 2 * w_cg (g_goes h) (g_nl g0) ≤ 3 + 2 * w_cg (g_goes h) (g_nl g0 + c)) (hnx : g_nx h = g_nx g0) (hL : w_q h = false → g_L h = g_L g0) (hI : ∀ v, (sp_sc nt f i s).2.2.1 v = true → s.2.1 v = true) : oPs nt N M res par ret E T f i g0 s gh h := by
  have pl1 : g_pl g1 = g_pl g0 := l.1.2.2.2.2.2.2.2.2.2.1
  exact b.fin l a.j hzc hz hc ⟨Nat.le_of_eq hnx.symm, by rw [hnx]; exact Nat.le_add_right _ _⟩ (fun q => ⟨by rw [hL q, hnx]; exact b.1.2.2.2.2.2.1.2, (b.fm (g1 := g1) pl1 a.zz.2.2 (by rw [hL q])).mono hI⟩)
theorem ob61 (b : oBg nt N M res par ret E T rs K (f + 1) i g0 s gh B) (e : nK nt i = 61) : oPs nt N M res par ret E T (f + 1) i g0 s gh (s_pl (nA nt i).toNatClampNeg (g_nx (wV nt 40 (nB nt i) 0 0 (s_ac g0))) (w_ts (nT nt (nA nt i)) (w_tl (nT nt (nA nt i))).reverse (wV nt 40 (nB nt i) 0 0 (s_ac g0)))) := by
  have b' := b
  obtain ⟨⟨p1, p2, p3, p4, p5, p6, p7, p8, p9, p10, p11, p12, p13, p14⟩, b2, hN, hT, hTr, hA⟩ := b'
  obtain ⟨m0, B0⟩ := b.mst
  obtain ⟨a1, a2, wb, tb, ta⟩ := wE_decl hT hA.1 hA.2.2 e
  have h40 := hT.2.2
  have pa := sp_pa_k e (a := nA nt i) (by decide) (nd_n1 a1)
  have Ta := hTr.a h40 hA.1 pa
  have va : (nA nt i).toNatClampNeg ∈ oT T i := Ta _ (hTr.self h40 a1)
  have vl : (nA nt i).toNatClampNeg < N := sp_nd_lt h40 a1
  have ln : 1 ≤ (oT T i).length := List.length_pos_of_mem va
  rw [oc61 e] at p8
  obtain ⟨c1, c2, c3⟩ := sp_th_t p8
  have q0 : w_q (s_ac g0) = false := p1
  obtain ⟨m1, ls1, P1⟩ := (m0.V hT b.w (fun e he => by cases he) q0 wb p7 c1 B0 (by omega)).1
  have P1' := P1
  obtain ⟨⟨⟨x1, x2, x3, x4, x5, x6, x7⟩, xr⟩, P2, P3, P4⟩ := P1'
  have t8 : nT nt (nA nt i) ≤ 8 := (hT.t a1).1
  generalize wV nt 40 (nB nt i) 0 0 (s_ac g0) = g2 at *
  have x2 : g_nx g2 = g_nx g0 := x2
  have P3 : g_L g2 = g_L g0 := P3
  have two := w_tl_2l (nT nt (nA nt i))
  have ht : (w_num (nT nt (nA nt i)) ∧ (w_tl (nT nt (nA nt i))).reverse = (w_tl (nT nt (nA nt i))).reverse ∧ w_tl (nT nt (nB nt i)) = w_tl (nT nt (nA nt i)) ++ []) ∨ (w_arr5 (nT nt (nA nt i)) ∧ ∃ a, (w_tl (nT nt (nA nt i))).reverse = [a] ∧ w_tl (nT nt (nB nt i)) = a :: [] ∧ (w_arr5 a ∨ a = 10 ∨ a = 12)) := by
    rw [tb]
    by_cases q : nT nt (nA nt i) ≤ 4
    · exact Or.inl ⟨⟨ta, q⟩, rfl, (List.append_nil _).symm⟩
    · have a5 : w_arr5 (nT nt (nA nt i)) := ⟨by omega, t8⟩
      have e5 : w_tl (nT nt (nA nt i)) = [nT nt (nA nt i)] := w_tl_1 (Or.inr a5)
      exact Or.inr ⟨a5, _, by rw [e5]; rfl, e5, Or.inl a5⟩
  obtain ⟨m2, ls2, L2, nl2⟩ := m1.ts (r := []) b.w (fun e he => by cases he) P2 (by rw [P3, x2]; exact p6.2) (by omega) (by decide) ht
  obtain ⟨f1, f2, f3, f4, f5, f6, f7, f8, f9, f10, f11, f12⟩ := w_ts_f (nT nt (nA nt i)) (w_tl (nT nt (nA nt i))).reverse g2
  generalize w_ts (nT nt (nA nt i)) (w_tl (nT nt (nA nt i))).reverse g2 = g3 at *
  obtain ⟨m3, ls3⟩ := m2.pl (p := g_nx g2) b.w (v := (nA nt i).toNatClampNeg) (by omega) (Or.inl va)
  have nx3 : g_nx (s_pl (nA nt i).toNatClampNeg (g_nx g2) g3) = g_nx g0 + (w_tl (nT nt (nA nt i))).length := by show g_nx g3 = _; rw [f5, x2]
  refine b.fin (oLab.rf ([], []) (s_ac g0)) m3.j (Nat.le_refl _) (Nat.le_refl _) (Nat.add_le_add_right (Nat.zero_le 3) _) ⟨by omega, by omega⟩ (fun _ => ⟨nl2, ?_⟩)
  rw [oc61 e, c2]
  have es : (sp_sc nt f (nB nt i) s).2 = s := oSc_E hT wb s
  rw [es]
  refine ⟨fun v hv hi => ?_, by show ¬ 12 ∈ g_L g3; rw [L2, P3]; exact no12 p7.2 (hT.t a1).1⟩
  have hi : (if v = (nA nt i).toNatClampNeg then true else s.2.1 v) = true := hi
  by_cases y : v = (nA nt i).toNatClampNeg
  · refine ⟨g_nx g2, by show (if v = _ then some _ else _) = _; rw [if_pos y], ?_⟩
    show (g_L g3)[g_nx g2]? = _
    rw [L2, P3, x2, List.getElem?_append_right (Nat.le_of_eq p6.2), p6.2, Nat.sub_self, y]
    show (w_tl (nT nt (nA nt i))).reverse[0]? = some (nT nt (nA nt i))
    unfold w_tl
    rw [if_neg (by omega)]
    split <;> rfl
  · rw [if_neg y] at hi
    obtain ⟨p, y1, y2⟩ := p7.1 v hv hi
    refine ⟨p, ?_, ?_⟩
    · show (if v = _ then some _ else g_pl g3 v) = _
      rw [if_neg y, f4, x7]; exact y1
    · show (g_L g3)[p]? = _
      rw [L2, P3, List.getElem?_append_left (List.getElem?_eq_some_iff.mp y2).1]; exact y2
theorem ob85 (IH : oSc nt N M res par ret E T rs rec K) (b : oBg nt N M res par ret E T rs K (f + 1) i g0 s gh B) (e : nK nt i = 85) (p q : Int32) : oPs nt N M res par ret E T (f + 1) i g0 s gh (s_pn q (rec (nB nt i) (s_pn p (s_ac g0)))) := by
  have b' := b
  obtain ⟨⟨p1, p2, p3, p4, p5, p6, p7, p8, p9, p10, p11, p12, p13, p14⟩, b2, hN, hT, hTr, hA⟩ := b'
  obtain ⟨m0, B0⟩ := b.mst
  obtain ⟨-, -, wb⟩ := wE_line hT hA.1 hA.2.2 e
  have h40 := hT.2.2
  have pb := sp_pb_k e (a := nB nt i) (by decide) (nd_n1 wb.1)
  have Tb := hTr.b h40 hA.1 pb
  have Tl := hTr.lb h40 hA.1 pb
  rw [oc85 e] at p8
  have lf : sp_lf nt rs f (nB nt i) (oLo gh) (oWa gh) = true := by
    rw [ol85 e] at p9; exact p9
  have q0 : w_q (s_pn p (s_ac g0)) = false := p1
  obtain ⟨m1, n1, n2, -, v1, -, -⟩ := (m0.pn p).sub (s := s) IH b.w (fun e he => by cases he) q0 p6.2 wb p7 (b.sb0 (nx := g_nx g0) Tb p8 lf (by omega)) B0 (by omega) (oDn_sub Tb) (Nat.le_refl _)
  have n1 : g_nx g0 ≤ g_nx (rec (nB nt i) (s_pn p (s_ac g0))) := n1
  have n2 : g_nx (rec (nB nt i) (s_pn p (s_ac g0))) ≤ g_nx g0 + 2 * (oT T (nB nt i)).length := n2
  refine b.fin (oLab.rf ([], []) (s_ac g0)) (m1.pn q).j (Nat.le_refl _) (Nat.le_refl _) (Nat.add_le_add_right (Nat.zero_le 3) _) ⟨n1, by show g_nx (rec (nB nt i) (s_pn p (s_ac g0))) ≤ _; omega⟩ (fun w => ?_)
  rw [oc85 e]
  exact v1 w
theorem ob74 (b : oBg nt N M res par ret E T rs K (f + 1) i g0 s gh B) (e : nK nt i = 74) : oPs nt N M res par ret E T (f + 1) i g0 s gh (s_al false (w_em (16, 191, 0, 0, []) 1 [] (w_pe 15 71 0 1 [10] (wV nt 40 (nA nt i) 0 0 (s_ac g0))))) := by
  have b' := b
  obtain ⟨⟨p1, p2, p3, p4, p5, p6, p7, p8, p9, p10, p11, p12, p13, p14⟩, b2, hN, hT, hTr, hA⟩ := b'
  obtain ⟨m0, B0⟩ := b.mst
  obtain ⟨wa, ta⟩ := wE_throw hT hA.1 hA.2.2 e
  rw [oc74 e] at p8
  obtain ⟨c1, c2, c3⟩ := sp_th_t p8
  have q0 : w_q (s_ac g0) = false := p1
  obtain ⟨m1, ls1, P1⟩ := (m0.V hT b.w (fun e he => by cases he) q0 wa p7 c1 B0 (by omega)).1
  obtain ⟨ct, j1⟩ := m1.ac
  have e1 : w_tl (nT nt (nA nt i)) = [1] := by rw [ta]; rfl
  rw [e1] at m1 P1
  have x2 : g_nx (wV nt 40 (nA nt i) 0 0 (s_ac g0)) = g_nx g0 := P1.1.1.2.1
  have q1 := P1.2.1
  generalize wV nt 40 (nA nt i) 0 0 (s_ac g0) = g2 at *
  have q2 : oP nt N M res par ret E 41 (g_nl g2) [10] g2 (w_pe 15 71 0 1 [10] g2) := by
    have lv := (m1.live ((w_q_iff g2).mp q1).1).2
    have t : oTy nt M res par ret (w_pn 71 0 (g_po g2)) (15, 71, w_px 71 0 (g_po g2), 0, []) (g_L g2, g_st g2) (g_L g2, [10] ++ (g_st g2).drop 1) := by
      rw [lv]
      exact ⟨⟨rfl, Or.inr (Or.inl ⟨rfl, [], rfl, rfl⟩)⟩, fun _ => w_px_pf _ _ _, fun q => absurd (show (15 : Nat) = 1 from q) (by decide), fun _ q => absurd (show (71 : Nat) = 5 from q) (by decide), (fun q => absurd (show (15 : Nat) = 16 from q) (by decide)), oShp0 rfl (by decide)⟩
    have qq := oQ.pe (f := 41) hN j1.1.1 q1 (tag := 15) (s := 71) (v := 0) (off := 1) (on := [10]) (List.mem_cons_self ..) rfl t (by rw [lv]; decide) (by rw [lv]; decide)
    have pp := (wP_rf (n := g_nl g2) q1 lv).pe 15 71 0 1 [10]
    exact ⟨by simpa using pp, qq⟩
  obtain ⟨m2, ls2⟩ := m1.val (by decide) b.w (fun e he => by cases he) q1 q2.1 q2.2
  have q3 := q2.1.2.1
  have x3 := q2.1.1.1.2.1
  generalize w_pe 15 71 0 1 [10] g2 = g3 at *
  obtain ⟨m3, ls3⟩ := m2.term (off := 1) (on := []) b.w (fun e he => by cases he) q3 (i := (16, 191, 0, 0, [])) rfl rfl ⟨Or.inr (Or.inl ⟨rfl, [], rfl⟩), fun q => (q.elim (fun q => absurd q (by decide)) (fun q => absurd q (by decide))), fun q => absurd q (by decide), fun q => absurd q (by decide), (fun _ _ q => absurd q (by decide)), oShp0 rfl (by decide)⟩ (by decide) (by decide) []
  have nx4 : g_nx (s_al false (w_em (16, 191, 0, 0, []) 1 [] g3)) = g_nx g0 := by
    rw [← x2, ← x3]; unfold w_em w_es; rw [q3]; rfl
  exact b.fin (oLab.rf ([], []) (s_ac g0)) m3.j (Nat.le_refl _) (Nat.le_refl _) (Nat.add_le_add_right (Nat.zero_le 3) _) ⟨by omega, by omega⟩ (fun q => by
    have := ((w_q_iff _).mp q).1
    exact absurd (show false = true from this) (by decide))
theorem ob65 (IH : oSc nt N M res par ret E T rs rec K) (b : oBg nt N M res par ret E T rs K (f + 1) i g0 s gh B) (e : nK nt i = 65) : oPs nt N M res par ret E T (f + 1) i g0 s gh (w_sl false (g_nl g0 + 1) (w_put (g_nl g0 + 1) (w_aln rec (nB nt (nB nt i)) (w_sl false (g_nl g0) (w_put (g_nl g0) (w_go (g_nl g0 + 1) (w_aln rec (nA nt (nB nt i)) (wV nt 40 (nA nt i) 3 (g_nl g0) (w_lbs (g_L g0, []) 2 (s_ac g0)))))))))) := by
  have b' := b
  obtain ⟨⟨p1, p2, p3, p4, p5, p6, p7, p8, p9, p10, p11, p12, p13, p14⟩, b2, hN, hT, hTr, hA⟩ := b'
  obtain ⟨wa, ta, nb, db, kb⟩ := wE_ifelse hT hA.1 hA.2.2 e
  have h40 := hT.2.2
  cases f with
  | zero => have := (hT.d nb).1; omega
  | succ f =>
  obtain ⟨w1, w2⟩ := wE_branch hT nb db kb
  have pb := sp_pb_k e (a := nB nt i) (by decide) (nd_n1 nb)
  have Tb := hTr.b h40 hA.1 pb
  have Tl := hTr.lb h40 hA.1 pb
  have pba := sp_pa_k kb (a := nA nt (nB nt i)) (by decide) (nd_n1 w1.1)
  have pbb := sp_pb_k kb (a := nB nt (nB nt i)) (by decide) (nd_n1 w2.1)
  have T1 := hTr.a h40 nb pba
  have T2 := hTr.b h40 nb pbb
  have Tl2 := hTr.lab h40 nb pba pbb
  have dj := hTr.dj h40 nb pba pbb
  rw [oc65 e] at p8
  obtain ⟨c1, c2, c3⟩ := sp_th_t p8
  rw [oSc_E hT wa s] at c2 c3
  rw [if_neg (nd_n1 nb), oc66 kb] at c3
  rw [if_neg (nd_n1 nb), oc66 kb] at c2
  obtain ⟨d1, d2, d3⟩ := sp_th_t c3
  rw [d2] at c2
  rw [sp_al_1] at d1 d3
  have lf : sp_lf nt rs f (nA nt (nB nt i)) (oLo gh) (oWa gh) = true ∧ sp_lf nt rs f (nB nt (nB nt i)) (oLo gh) (oWa gh) = true := by
    rw [ol65 e, ol66 kb] at p9
    simpa using p9
  have gr1 := oS_gr hT hTr f (nA nt (nB nt i)) w1.1 w1.2.2 (Or.inl w1.2.1) s
  have al1 := gr1.al (r := sp_sc nt f (nA nt (nB nt i)) s)
  obtain ⟨y1, l1, B1⟩ := b.lbs (F := (g_L g0, [])) (by show (0 : Nat) < 3370; decide) 2 (by omega)
  have m1 := b.mm y1 l1
  have l1' := l1
  obtain ⟨⟨x1, x2, x3, x4, x5, x6, x7, x8, x9, x10, x11, x12, x13⟩, n1, lo, la, us1, un1, fm1⟩ := l1'
  obtain ⟨la1, la2, la3⟩ := la (g_nl g0) (Nat.le_refl _) (by show g_nl g0 < g_nl g0 + 2; omega)
  obtain ⟨lb1, lb2, lb3⟩ := la (g_nl g0 + 1) (Nat.le_succ _) (by show g_nl g0 + 1 < g_nl g0 + 2; omega)
  generalize w_lbs (g_L g0, []) 2 (s_ac g0) = g1 at *
  have n1 : g_nl g1 = g_nl g0 + 2 := n1
  have q1 : w_q g1 = false := by unfold w_q; rw [x2, x3]; exact p1
  have x4 : g_L g1 = g_L g0 := x4
  have x6 : g_nx g1 = g_nx g0 := x6
  have x10 : g_pl g1 = g_pl g0 := x10
  have ownA : oOw (g_L g0) [] (g_nl g0) g1 := ⟨by omega, la1, la3⟩
  have ownB : oOw (g_L g0) [] (g_nl g0 + 1) g1 := ⟨by omega, lb1, lb3⟩
  have fm1 : oFm nt N s.2.1 g1 := b.fm (g1 := g1) x10 (oPl.rf _ _) (by rw [x4])
  have no : ∀ d : oGh, d ∈ ([] : List oGh) → h_L d <+: g_L g0 := fun d hd => by cases hd
  obtain ⟨m2, ls2, C2, CL⟩ := ((m1.V hT b.w no q1 wa fm1 c1 B1 (by omega)).2 ta (g_nl g0) (g_L g0) ownA.pd x4.symm).2
  have L2 : g_L (wV nt 40 (nA nt i) 3 (g_nl g0) g1) = g_L g0 := CL.trans x4
  have nx2 : g_nx (wV nt 40 (nA nt i) 3 (g_nl g0) g1) = g_nx g0 := C2.1.1.2.1.trans x6
  generalize wV nt 40 (nA nt i) 3 (g_nl g0) g1 = g2 at *
  have ownA2 := ownA.ls ls2
  have ownB2 := ownB.ls ls2
  have liv : ∀ {g' : wG}, oM nt N M res par ret E gh (g_nl g0) (g_nl g0 + 2) 0 (oDn T i gh) (g_L g0) 0 [] [] g1 g' → g_L g' = g_L g0 → g_nx g' = g_nx g0 → (g_L g').length = g_nx g' ∧ oFm nt N s.2.1 g' := fun a h1 h2 => ⟨by rw [h1, h2]; exact p6.2, b.fm (g1 := g1) x10 a.zz.2.2 (by rw [h1])⟩
  obtain ⟨m3, n3, v3, v3', ls3, -⟩ := m2.aln (s := s) IH b.w no (fun q => liv m2 L2 nx2) w1 (b.sb0 (fun x q => Tb x (T1 x q)) d1 lf.1 (by omega)) B1 (by omega) (oDn_sub (fun x q => Tb x (T1 x q))) (by have := ownA2.1; omega)
  have L3 : w_q (w_aln rec (nA nt (nB nt i)) g2) = false → g_L (w_aln rec (nA nt (nB nt i)) g2) = g_L g0 := fun q => by
    obtain ⟨z1, z2⟩ := v3 q
    rw [z2]; exact L2
  have nx3 : g_nx (w_aln rec (nA nt (nB nt i)) g2) = g_nx g0 := n3.trans nx2
  generalize w_aln rec (nA nt (nB nt i)) g2 = g3 at *
  have ownA3 := ownA2.ls ls3
  have ownB3 := ownB2.ls ls3
  obtain ⟨m4, ls4⟩ := m3.go (l := g_nl g0 + 1) b.w no (by decide) ownB3.pd (fun q => by rw [L3 q]; exact List.prefix_refl _)
  have nx4 : g_nx (w_go (g_nl g0 + 1) g3) = g_nx g0 := (oGo_f _ _).2.2.2.1.trans nx3
  have ownA4 := ownA3.ls ls4
  have ownB4 := ownB3.ls ls4
  generalize w_go (g_nl g0 + 1) g3 = g4 at *
  obtain ⟨m5, L5, -, -⟩ := m4.put b.w (Nat.le_refl _) ownA4 (List.prefix_refl _) (fun q => m4.live q) (fun d hd => by cases hd)
  have nx5 : g_nx (w_put (g_nl g0) g4) = g_nx g0 := (oPut_f _ _).2.2.2.2.1.trans nx4
  have ownB5 := ownB4.put (k := g_nl g0) (by omega)
  generalize w_put (g_nl g0) g4 = g5 at *
  have us1 : g_us g1 = g_us g0 + 2 := us1
  obtain ⟨m6, ls6⟩ := m5.sl (l := g_nl g0) b.w (by have := m5.us; omega)
  have F6 := w_sl_n false (g_nl g0) g5
  have G6 := w_sl_f false (g_nl g0) g5
  have nx6 : g_nx (w_sl false (g_nl g0) g5) = g_nx g0 := (G6.2.2.2.2.2.2.2.2.2 0 []).1.2.1.trans nx5
  have L6 : w_q (w_sl false (g_nl g0) g5) = false → g_L (w_sl false (g_nl g0) g5) = g_L g0 := fun q => by rw [G6.2.2.2.1]; exact L5 (by rw [← G6.2.1]; exact ((w_q_iff _).mp q).1)
  have go6 : g_goes (w_sl false (g_nl g0) g5) = g_goes g5 := F6.2.1
  have ownB6 := ownB5.ls ls6
  have nl6 : g_nl g0 < g_nl (w_sl false (g_nl g0) g5) := Nat.lt_of_succ_lt ownB6.1
  generalize w_sl false (g_nl g0) g5 = g6 at *
  have liv6 : w_q g6 = false → (g_L g6).length = g_nx g6 ∧ oFm nt N (sp_al s.1 (sp_sc nt f (nA nt (nB nt i)) s)).2.2.1 g6 := fun q => ⟨by rw [L6 q, nx6]; exact p6.2, (b.fm (g1 := g1) x10 m6.zz.2.2 (by rw [L6 q])).mono al1.2⟩
  obtain ⟨m7, n7, v7, v7', ls7, -⟩ := m6.aln IH b.w no liv6 w2 (b.sb (fun x q => Tb x (T2 x q)) d3 lf.2 (fun v q => Or.inl (al1.2 v q)) (fun v q y => al1.1.2.2.2.2 v (fun w => y (Tb v (T1 v w))) q) (by omega)) B1 (by omega) (oDn_sub (fun x q => Tb x (T2 x q))) (by omega)
  have nx7 : g_nx (w_aln rec (nB nt (nB nt i)) g6) = g_nx g0 := n7.trans nx6
  have ownB7 := ownB6.ls ls7
  have go7 : g_goes g5 (g_nl g0) = true → g_goes (w_aln rec (nB nt (nB nt i)) g6) (g_nl g0) = true := fun q => (ls7.2.2.1 _ nl6).2.1 (by rw [go6]; exact q)
  generalize w_aln rec (nB nt (nB nt i)) g6 = g7 at *
  obtain ⟨m8, L8, -, -⟩ := m7.put b.w (Nat.le_succ _) ownB7 (List.prefix_refl _) (fun q => m7.live q) (fun d hd => by cases hd)
  have nx8 : g_nx (w_put (g_nl g0 + 1) g7) = g_nx g0 := (oPut_f _ _).2.2.2.2.1.trans nx7
  have go8 : g_goes g5 (g_nl g0) = true → g_goes (w_put (g_nl g0 + 1) g7) (g_nl g0) = true := fun q => by rw [(oPut_f _ _).2.2.2.2.2.2.2.2.1]; exact go7 q
  generalize w_put (g_nl g0 + 1) g7 = g8 at *
  have hz1 : (bif g_goes g5 (g_nl g0) then 0 else 1) ≤ 1 := by cases g_goes g5 (g_nl g0) <;> decide
  obtain ⟨m9, ls9⟩ := m8.sl (l := g_nl g0 + 1) b.w (by have := m8.us; omega)
  have F9 := w_sl_n false (g_nl g0 + 1) g8
  have G9 := w_sl_f false (g_nl g0 + 1) g8
  have e1 := w_cg_s (g_goes g8) (g_nl g0)
  have e2 := w_cg_s (g_goes g8) (g_nl g0 + 1)
  refine b.fin2 l1 m9 ?_ ?_ ?_ ((G9.2.2.2.2.2.2.2.2.2 0 []).1.2.1.trans nx8) (fun q => by rw [G9.2.2.2.1]; exact L8 (by rw [← G9.2.1]; exact ((w_q_iff _).mp q).1)) (fun v q => ?_)
  · cases g_goes g8 (g_nl g0 + 1) <;> simp only [cond_true, cond_false] <;> omega
  · rw [F9.2.1]
    show 2 + w_cg (g_goes g8) (g_nl g0) ≤ _ + w_cg (g_goes g8) (g_nl g0 + 1 + 1)
    rw [e2, e1]
    cases y : g_goes g5 (g_nl g0)
    · cases g_goes g8 (g_nl g0 + 1) <;> cases g_goes g8 (g_nl g0) <;> simp only [cond_true, cond_false] <;> omega
    · rw [go8 y]; cases g_goes g8 (g_nl g0 + 1) <;> simp only [cond_true, cond_false] <;> omega
  · rw [F9.2.1]
    show 2 + 2 * w_cg (g_goes g8) (g_nl g0) ≤ 3 + 2 * w_cg (g_goes g8) (g_nl g0 + 1 + 1)
    rw [e2, e1]; omega
  · rw [oc65 e, c2] at q
    have gr2 := oS_gr hT hTr f (nB nt (nB nt i)) w2.1 w2.2.2 (Or.inl w2.2.1) (sp_al s.1 (sp_sc nt f (nA nt (nB nt i)) s)).2
    exact al1.2 v ((gr2.al (r := sp_sc nt f (nB nt (nB nt i)) _)).2 v q)
end
