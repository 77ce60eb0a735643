/-! a switch of CodeWriterModel: its item -/
theorem w_comes_f : ∀ (l : List (Int32 × Nat)) (g : wG), g_it (w_comes l g) = g_it g ∧ g_al (w_comes l g) = g_al g ∧ g_ov (w_comes l g) = g_ov g ∧ g_L (w_comes l g) = g_L g ∧ g_st (w_comes l g) = g_st g ∧ g_nl (w_comes l g) = g_nl g ∧ g_lF (w_comes l g) = g_lF g ∧ g_lat (w_comes l g) = g_lat g ∧ wU g (w_comes l g) := by
  intro l
  induction l with
  | nil => intro g; exact ⟨rfl, rfl, rfl, rfl, rfl, rfl, rfl, rfl, rfl, rfl, rfl, rfl, rfl, rfl⟩
  | cons q r ih => intro g; exact ih (w_come q.2 g)
theorem w_comes_ok : ∀ (l : List (Int32 × Nat)) (g : wG), g_ok (w_comes l g) → ∀ q, q ∈ l → q.2 < g_nl g ∧ w_fit (g_L g, g_st g) (g_lF g q.2) := by
  intro l
  induction l with
  | nil => intro g _ q hq; cases hq
  | cons a r ih =>
    intro g h q hq
    have m : wM (w_come a.2 g) (w_comes r (w_come a.2 g)) := wM.comes r (wM.rf _)
    rcases List.mem_cons.mp hq with rfl | hq
    · exact (m.1 h).2
    · exact ih (w_come a.2 g) h q hq
section
variable {nt : sp_NT} {N M : Nat} {w : Bool} {ba pf rf lf c : Nat} {lm : Nat → Nat} {lv : Nat → Bool} {x : mj_X} {g G : wG}
/-- an item is whole, whatever came to labels since -/
theorem Z1.fin2 {i : wI} (hit : g_it G = (i, (g_L g, g_st g)) :: g_it g) (hq : w_q g = false) (h : Z1 nt N M w ba pf rf lf c lm lv (w_by_ w w_z ((i, (g_L g, g_st g)) :: g_it g)) (w_fxs w w_z ((i, (g_L g, g_st g)) :: g_it g)) x g G) : Q1 nt N M w ba pf rf lf c lm lv x G := by
  obtain ⟨⟨he, hlm⟩, h⟩ := Z1.pk (B' := []) (F' := []) h hq
  refine ⟨he, hlm, ?_⟩
  rcases h with ⟨ha, hov, h⟩ | h
  · left
    refine ⟨hov, ?_⟩
    rw [hit]
    obtain ⟨z1_, z2, z3, ⟨fr, l1, l2, l3, l4, l5, l6, l7, l8, l9, l10, l11, l12, l13⟩, z5, ⟨n1, n2, n3, n4, n5, n6⟩, z7⟩ := h
    refine ⟨z1_, z2, z3, ⟨fr, l1, l2, l3, l4, l5, l6, l7, l8, fun l hl hv => ?_, l10, l11, fun l k hl hk => ?_, l13⟩, z5, ⟨n1, n2, n3, n4, fun e h => ?_, ?_⟩, z7⟩
    · obtain ⟨q1, q2, q3, q4⟩ := l9 l hl hv
      refine ⟨q1, q2, ?_, q4⟩
      rw [q3]
      cases hh : G.2.2.2.2.2.2.2.2.1.2.1 l with
      | none => rfl
      | some k => show nI _ = nI _; rw [w_at_cons w _ _ (l12 l k hl hh)]
    · have := l12 l k hl hk; simp only [List.length_cons]; omega
    · have := n5 e h; simp only [List.length_cons]; omega
    · refine n6.mono (fun k e _ he h => ?_)
      rw [w_at_cons w _ _ (n5 e he)]; exact h
  · exact Or.inr h
/-- the code, the gap, the way for all others -/
theorem m_tabH {d cc : Nat} (hd : 4 ≤ d) {i : wI} {F : wF} {oth : Nat} {a1 a2 a4 s0 : Int32} {a5 : Int64} {rest : List Int32} (h : Q1 nt N M w ba pf rf lf c lm lv x g) (h0 : x.1 0 34 = 0) (hq : w_q g = false) (hcc : s0 = 0 ∧ cc = 171 ∨ s0 = 1 ∧ cc = 170) (hok : g_ok (w_es i F g)) (hs : nI (g_st g).length + ((0 : Int32) - 1) = nI F.2.length) (hl : oth < g_nl g) (hv : lv oth = true) (hfit : w_fit (g_L (w_es i F g), g_st (w_es i F g)) (g_lF (w_es i F g) oth))
    (henc : w_enc w w_z (w_by_ w w_z (g_it g)).length i = [o8 (nI cc)] ++ (w_pad (w_by_ w w_z (g_it g)).length ++ (o32 0 ++ rest))) (o7 : Option Value) :
    ∃ x2, rX1_table d (191, [some (.ref 0), some (.int a1), some (.int a2), some (.int (nI (lm oth))), some (.int a4), some (.long a5), none, o7, none, none, none, none, none, none], [.int s0], x) = (if s0 = 0 then mj_rV (kX1 d 49 [.ref 0, .int a2, .int (4 : Int32)] x2) (fun x3 => rX1_table d (432, [some (.ref 0), some (.int a1), some (.int a2), some (.int (nI (lm oth))), some (.int a4), some (.long a5), none, some (.int s0), some (.int (x.1 0 32)), some (.int (0 : Int32)), none, none, none, none], [], x3))
        else mj_g (0 : Int32) 4000 (mj_g (x2.1 75 (0 : Int32).toNatClampNeg) 4000 (mj_rV (kX1 d 49 [.ref 0, .int (x2.1 3 (x2.1 75 (0 : Int32).toNatClampNeg).toNatClampNeg), .int (4 : Int32)] x2) fun x4 => mj_g (a2 - (1 : Int32)) 4000 (mj_g (x4.1 75 (a2 - (1 : Int32)).toNatClampNeg) 4000 (mj_rV (kX1 d 49 [.ref 0, .int (x4.1 3 (x4.1 75 (a2 - (1 : Int32)).toNatClampNeg).toNatClampNeg), .int (4 : Int32)] x4) fun x5 => mj_g (0 : Int32) 4000 (mj_g (x5.1 75 (0 : Int32).toNatClampNeg) 4000 (rX1_table d (312, [some (.ref 0), some (.int a1), some (.int a2), some (.int (nI (lm oth))), some (.int a4), some (.long a5), none, some (.int s0), some (.int (x.1 0 32)), some (.int (0 : Int32)), some (.long (x5.1 3 (x5.1 75 (0 : Int32).toNatClampNeg).toNatClampNeg).toInt64), none, none, none], [], x5))))))))
      ∧ zfr (zw ba pf lf) x x2 ∧ Z1 nt N M w ba pf rf lf c lm lv (((w_by_ w w_z (g_it g) ++ [o8 (nI cc)]) ++ w_pad (w_by_ w w_z (g_it g)).length) ++ o32 0) (((w_by_ w w_z (g_it g)).length + 4 - (w_by_ w w_z (g_it g)).length % 4, (w_by_ w w_z (g_it g)).length, oth, true) :: w_fxs w w_z (g_it g)) x2 g (w_come oth (w_es i F g)) := by
  obtain ⟨k1, k2, k3, k4, k5, k6, k7, k8, k9, k10, k11, k12, k13⟩ := w_es_f (i := i) (F := F) hq
  have knl : g_nl (w_es i F g) = g_nl g := congrArg Prod.fst k11
  have hlenG : (w_by_ w w_z (g_it (w_es i F g))).length = (w_by_ w w_z (g_it g)).length + (1 + ((3 - (w_by_ w w_z (g_it g)).length % 4) + (4 + rest.length))) := by
    rw [k1]
    show (w_by_ w w_z (g_it g) ++ w_enc w w_z (w_by_ w w_z (g_it g)).length i).length = _
    rw [henc]
    simp only [List.length_append, List.length_cons, List.length_nil, w_pad, List.length_replicate, o32]
  have hF := w_fxs_len w w_z (g_it g)
  generalize hp : (w_by_ w w_z (g_it g)).length = p at *
  have start : ∃ x1, rX1_table d (191, [some (.ref 0), some (.int a1), some (.int a2), some (.int (nI (lm oth))), some (.int a4), some (.long a5), none, o7, none, none, none, none, none, none], [.int s0], x) = rX1_table d (219, [some (.ref 0), some (.int a1), some (.int a2), some (.int (nI (lm oth))), some (.int a4), some (.long a5), none, some (.int s0), some (.int (x.1 0 32)), none, none, none, none, none], [], x1) ∧ zfr (zw ba pf lf) x x1 ∧ Z1 nt N M w ba pf rf lf c lm lv (w_by_ w w_z (g_it g) ++ [o8 (nI cc)]) (w_fxs w w_z (g_it g)) x1 g (w_es i F g) := by
    obtain ⟨x1, e1, f1, r1⟩ := m_code (d := d) (cc := nI cc) (a2 := 1) (a3 := 0) (by omega) h hok (fun _ => hs) (w_enc_pos _ _ _ _)
    refine ⟨x1, ?_, f1, r1⟩
    rw [bX1_table_191]
    rcases hcc with ⟨c1, c2⟩ | ⟨c1, c2⟩
    · subst c2
      rw [if_pos c1, show (171 : Int32) = nI 171 from rfl, e1, mj_rV_k]
    · subst c2
      rw [if_neg (by rw [c1]; decide), show (170 : Int32) = nI 170 from rfl, e1, mj_rV_k]
  obtain ⟨x1, e1, f1, r1⟩ := start
  obtain ⟨x2, e2, f2, r2⟩ := m_pad (d := d) (a1 := a1) (a2 := a2) (a3 := nI (lm oth)) (a4 := a4) (a5 := a5) (a7 := s0) (a8 := x.1 0 32) (by omega) hq (3 - p % 4) _ x1 (by omega) (by rw [List.length_append, hp]; simp only [List.length_cons, List.length_nil]; omega) (fun h0 => by rw [List.length_append, hp]; simp only [List.length_cons, List.length_nil]; omega) (fun j hj => by rw [List.length_append, hp]; simp only [List.length_cons, List.length_nil]; omega) r1 (by rw [List.length_append, hp, hlenG]; simp only [List.length_cons, List.length_nil]; omega)
  obtain ⟨x3, e3, f3, r3⟩ := r2.come (d := d) (by omega) hq (by rw [knl]; exact hl) hv hfit
  have hBl : ((w_by_ w w_z (g_it g) ++ [o8 (nI cc)]) ++ List.replicate (3 - p % 4) 0).length = p + 4 - p % 4 := by simp only [List.length_append, List.length_cons, List.length_nil, List.length_replicate, hp]; omega
  obtain ⟨x4, e4, f4, r4⟩ := m_fix (d := d) (p := p) (l := oth) (from_ := x.1 0 32) (by omega) true r3 hq (by show oth < g_nl (w_es i F g); rw [knl]; exact hl) (fun hb => by rw [hBl] at hb; omega) (fun _ => by
    rcases h.2.2 with q | q
    · have := q.2.2.1.2.2.1; rw [hp] at this; exact this
    · exact absurd h0 (by rw [q.1.1]; decide)) (by
    show _ ≤ (w_by_ w w_z (g_it (w_es i F g))).length
    rw [hBl, hlenG]; simp only [cond_true]; omega)
  refine ⟨x4, ?_, ((f1.tr f2).tr f3).tr f4, ?_⟩
  · rw [e1, e2, bX1_table_243, e3, mj_rV_k, show (1 : Int32) = sp_b true from rfl, e4, mj_rV_k]
  · rw [hBl] at r4
    exact r4
/-- a switch's item, once the cases are in order -/
theorem m_tabX {d n : Nat} (hd : 6 ≤ d) {sl : List Int32} {lab : Int32 → Nat} {oth : Nat} {a1 a4 : Int32} {o6 o7 : Option Value} (h : Q1 nt N M w ba pf rf lf c lm lv x g) (h0 : x.1 0 34 = 0) (hq : w_q g = false) (hn : sl.length = n) (hn4 : n < 4000) (hstr : ∀ i j, i < j → j < n → (nA nt (sl.getD i 0)).toInt < (nA nt (sl.getD j 0)).toInt) (hz : z_so x sl) (hnd : ∀ a, a ∈ sl → sp_nd N a = true) (h74 : ∀ a, a ∈ sl → x.1 74 a.toNatClampNeg = nI (lm (lab a))) (hlb : ∀ a, a ∈ sl → lab a < g_nl g ∧ lv (lab a) = true) (ho1 : oth < g_nl g) (ho2 : lv oth = true)
    (hok : g_ok (w_comes (w_swi oth (sl.map (fun a => (nA nt a, lab a)))).2.2.2.2 (w_em (w_swi oth (sl.map (fun a => (nA nt a, lab a)))) 1 [] g))) :
    J1 nt N M w ba pf rf lf c (rX1_table d (6, [some (.ref 0), some (.int a1), some (.int (nI n)), some (.int (nI (lm oth))), some (.int a4), some (.int (-1)), o6, o7, none, none, none, none, none, none], [], x)) x lm lv g (s_al false (w_comes (w_swi oth (sl.map (fun a => (nA nt a, lab a)))).2.2.2.2 (w_em (w_swi oth (sl.map (fun a => (nA nt a, lab a)))) 1 [] g))) := by
  have hT := h.T
  have ex := h.2.2.resolve_right (fun q => absurd h0 (by rw [q.1.1]; decide))
  have B65 : (w_by_ w w_z (g_it g)).length ≤ 65535 := ex.2.2.1.2.2.2.1
  have hks : sl.map (fun a => (nA nt a, lab a)) = (List.range n).map (fun i => (nA nt (sl.getD i 0), lab (sl.getD i 0))) := by
    apply List.ext_getElem?
    intro i
    by_cases q : i < n
    · rw [List.getElem?_map, List.getElem?_map, List.getElem?_range q, List.getElem?_eq_getElem (by omega)]
      simp [List.getD, List.getElem?_eq_getElem (show i < sl.length by omega)]
    · rw [List.getElem?_eq_none (by simp; omega), List.getElem?_eq_none (by simp; omega)]
  have hmem : ∀ i, i < n → sl.getD i 0 ∈ sl := by
    intro i hi
    have hi : i < sl.length := by omega
    rw [List.getD, List.getElem?_eq_getElem hi]
    exact List.getElem_mem hi
  have hso : ∀ i, i < n → x.1 75 i = sl.getD i 0 := by
    intro i hi
    have hi : i < sl.length := by omega
    have := hz i (sl[i]) (List.getElem?_eq_getElem hi)
    rw [this, List.getD, List.getElem?_eq_getElem hi]; rfl
  generalize hki : (fun i => nA nt (sl.getD i 0)) = key at *
  have hkey : ∀ i, key i = nA nt (sl.getD i 0) := fun i => by rw [← hki]
  -- what an array read gives, in every later state
  have rd : ∀ (y : mj_X) (i : Nat), zfr (zw ba pf lf) x y → i < n → mj_g (y.1 75 i) 4000 = id ∧ y.1 3 (y.1 75 i).toNatClampNeg = key i ∧ y.1 74 (y.1 75 i).toNatClampNeg = nI (lm (lab (sl.getD i 0))) := by
    intro y i f hi
    rw [f.2 75 i rfl, hso i hi, f.2 3 _ rfl, f.2 74 _ rfl, hT.2.1, h74 _ (hmem i hi), hkey]
    refine ⟨?_, rfl, rfl⟩
    funext r
    exact mj_g_k (sp_nd_in hT.2.2.2.2 (hnd _ (hmem i hi)) (Nat.le_refl _)) r
  have hem : ∀ i : wI, w_em i 1 [] g = s_ok (1 ≤ (g_st g).length) (w_es i (g_L g, [] ++ (g_st g).drop 1) g) := fun i => by unfold w_em; rw [hq]; rfl
  have mC : ∀ (l : List (Int32 × Nat)) (X : wG), wM X (w_comes l X) := fun l X => wM.comes l (wM.rf X)
  rw [hem] at hok ⊢
  have hok1 := (mC _ _).1 hok
  have hst : 1 ≤ (g_st g).length := hok1.2
  have hokE := hok1.1
  have hfits := w_comes_ok _ _ hok
  have hs1 : nI (g_st g).length + ((0 : Int32) - 1) = nI ((g_L g, [] ++ (g_st g).drop 1) : wF).2.length := by
    rw [show (0 : Int32) - 1 = nI 0 - nI 1 from rfl, nI_st hst]
    show nI _ = nI ([] ++ (g_st g).drop 1).length
    rw [List.nil_append, List.length_drop, Nat.zero_add]
  have hI0 : x.1 0 32 = nI (w_by_ w w_z (g_it g)).length := ex.2.2.1.2.2.1
  have hF := w_fxs_len w w_z (g_it g)
  -- the end
  have fin : ∀ (i : wI) (y : mj_X), zfr (zw ba pf lf) x y → Z1 nt N M w ba pf rf lf c lm lv (w_by_ w w_z ((i, (g_L g, g_st g)) :: g_it g)) (w_fxs w w_z ((i, (g_L g, g_st g)) :: g_it g)) y g (w_comes i.2.2.2.2 (w_es i (g_L g, [] ++ (g_st g).drop 1) g)) → J1 nt N M w ba pf rf lf c (some (none, mj_wI y 0 35 0)) x lm lv g (s_al false (w_comes i.2.2.2.2 (s_ok (1 ≤ (g_st g).length) (w_es i (g_L g, [] ++ (g_st g).drop 1) g)))) := by
    intro i y f hz1
    have q := Z1.fin2 (i := i) (by rw [(w_comes_f _ _).1]; exact (w_es_f hq).1) hq hz1
    have eG : ∀ (l : List (Int32 × Nat)) (P : Prop) (X : wG), ∃ P', w_comes l (s_ok P X) = s_P P' (w_comes l X) := by
      intro l
      induction l with
      | nil => intro P X; exact ⟨_, rfl⟩
      | cons a r ih =>
        intro P X
        have : w_come a.2 (s_ok P X) = s_P (g_ok (w_come a.2 (s_ok P X))) (w_come a.2 X) := rfl
        show ∃ P', w_comes r (w_come a.2 (s_ok P X)) = s_P P' (w_comes r (w_come a.2 X))
        rw [this]
        have gen : ∀ (l : List (Int32 × Nat)) (P : Prop) (X : wG), ∃ P', w_comes l (s_P P X) = s_P P' (w_comes l X) := by
          intro l
          induction l with
          | nil => intro P X; exact ⟨P, rfl⟩
          | cons b l ih2 =>
            intro P X
            have : w_come b.2 (s_P P X) = s_P (g_ok (w_come b.2 (s_P P X))) (w_come b.2 X) := rfl
            show ∃ P', w_comes l (w_come b.2 (s_P P X)) = s_P P' (w_comes l (w_come b.2 X))
            rw [this]; exact ih2 _ _
        exact gen r _ _
    obtain ⟨P', hP'⟩ := eG i.2.2.2.2 (1 ≤ (g_st g).length) (w_es i (g_L g, [] ++ (g_st g).drop 1) g)
    rw [hP']
    have q2 : Q1 nt N M w ba pf rf lf c lm lv y (s_P P' (w_comes i.2.2.2.2 (w_es i (g_L g, [] ++ (g_st g).drop 1) g))) := q
    exact ⟨lm, lv, _, rfl, q2.al0, fun _ _ => ⟨rfl, rfl⟩, f.w _ rfl⟩
  -- within the item
  have within : ∀ (X : wG) (l : List (Int32 × Nat)) (q : Int32 × Nat), (∀ a, a ∈ l ++ [q] → a.2 < g_nl X ∧ w_fit (g_L X, g_st X) (g_lF X a.2)) → q.2 < g_nl (w_comes l X) ∧ w_fit (g_L (w_comes l X), g_st (w_comes l X)) (g_lF (w_comes l X) q.2) := by
    intro X l q hx
    obtain ⟨-, -, -, c4, c5, c6, c7, -⟩ := w_comes_f l X
    rw [c4, c5, c6, c7]
    exact hx q (by simp)
  -- a search
  have look : w_dense (sl.map (fun a => (nA nt a, lab a))) = false → ∀ a5 : Int64, J1 nt N M w ba pf rf lf c (rX1_table d (191, [some (.ref 0), some (.int a1), some (.int (nI n)), some (.int (nI (lm oth))), some (.int a4), some (.long a5), none, o7, none, none, none, none, none, none], [.int 0], x)) x lm lv g (s_al false (w_comes (w_swi oth (sl.map (fun a => (nA nt a, lab a)))).2.2.2.2 (s_ok (1 ≤ (g_st g).length) (w_es (w_swi oth (sl.map (fun a => (nA nt a, lab a)))) (g_L g, [] ++ (g_st g).drop 1) g)))) := by
    intro hd0 a5
    have ei : w_swi oth (sl.map (fun a => (nA nt a, lab a))) = (23, 0, 0, 0, (0, oth) :: sl.map (fun a => (nA nt a, lab a))) := by unfold w_swi; rw [hd0]; rfl
    rw [ei] at hokE hfits ⊢
    have hkl : (sl.map (fun a => (nA nt a, lab a))).length = n := by rw [List.length_map, hn]
    have hksj : ∀ j, j < n → (sl.map (fun a => (nA nt a, lab a)))[j]? = some (key j, lab (sl.getD j 0)) := by
      intro j hj
      rw [hks, List.getElem?_map, List.getElem?_range hj, hkey]; rfl
    generalize hksg : sl.map (fun a => (nA nt a, lab a)) = ks at *
    have hG := (w_es_f (i := (23, 0, 0, 0, (0, oth) :: ks)) (F := (g_L g, [] ++ (g_st g).drop 1)) hq)
    have hnlG : g_nl (w_es (23, 0, 0, 0, (0, oth) :: ks) (g_L g, [] ++ (g_st g).drop 1) g) = g_nl g := congrArg Prod.fst hG.2.2.2.2.2.2.2.2.2.2.1
    have hby : w_by_ w w_z (g_it (w_es (23, 0, 0, 0, (0, oth) :: ks) (g_L g, [] ++ (g_st g).drop 1) g)) = ((((w_by_ w w_z (g_it g) ++ [o8 (nI 171)]) ++ w_pad (w_by_ w w_z (g_it g)).length) ++ o32 0) ++ o32 (nI n)) ++ w_lke (w_z (w_by_ w w_z (g_it g)).length) ks := by
      rw [hG.1]
      show w_by_ w w_z (g_it g) ++ ([o8 171] ++ (w_pad (w_by_ w w_z (g_it g)).length ++ (o32 0 ++ (o32 (nI ks.length) ++ w_lke (w_z (w_by_ w w_z (g_it g)).length) ks)))) = _
      rw [hkl]; simp only [List.append_assoc]; rfl
    obtain ⟨x2, e2, f2, r2⟩ := m_tabH (d := d) (cc := 171) (i := (23, 0, 0, 0, (0, oth) :: ks)) (F := (g_L g, [] ++ (g_st g).drop 1)) (oth := oth) (a1 := a1) (a2 := nI n) (a4 := a4) (s0 := 0) (a5 := a5) (rest := o32 (nI ks.length) ++ w_lke (w_z (w_by_ w w_z (g_it g)).length) ks) (by omega) h h0 hq (Or.inl ⟨rfl, rfl⟩) hokE hs1 ho1 ho2 (hfits (0, oth) (by simp)).2 rfl o7
    rw [e2, if_pos rfl]
    generalize hG0 : w_es (23, 0, 0, 0, (0, oth) :: ks) (g_L g, [] ++ (g_st g).drop 1) g = G0 at *
    have hlen : (w_by_ w w_z (g_it G0)).length = (w_by_ w w_z (g_it g)).length + 12 - (w_by_ w w_z (g_it g)).length % 4 + 8 * n := by
      rw [hby]
      simp only [List.length_append, List.length_cons, List.length_nil, w_pad, List.length_replicate, o32, w_lke_len, hkl]; omega
    have hB2 : ((((w_by_ w w_z (g_it g) ++ [o8 (nI 171)]) ++ w_pad (w_by_ w w_z (g_it g)).length) ++ o32 0)).length = (w_by_ w w_z (g_it g)).length + 8 - (w_by_ w w_z (g_it g)).length % 4 := by
      simp only [List.length_append, List.length_cons, List.length_nil, w_pad, List.length_replicate, o32]; omega
    have itC : ∀ l, g_it (w_comes l (w_come oth G0)) = g_it G0 := fun l => (w_comes_f l _).1
    obtain ⟨x3, e3, f3, r3⟩ := m_op4 (d := d) (by omega) (nI n) r2 (fun _ => by show _ < (w_by_ w w_z (g_it G0)).length; rw [hB2, hlen]; omega)
    rw [e3, mj_rV_k]
    generalize hBh : ((((w_by_ w w_z (g_it g) ++ [o8 (nI 171)]) ++ w_pad (w_by_ w w_z (g_it g)).length) ++ o32 0) ++ o32 (nI n)) = Bh at *
    have hBhl : Bh.length = (w_by_ w w_z (g_it g)).length + 12 - (w_by_ w w_z (g_it g)).length % 4 := by
      rw [← hBh, List.length_append, hB2]; simp only [o32, List.length_cons, List.length_nil]; omega
    generalize hpg : (w_by_ w w_z (g_it g)).length = p at *
    generalize hF2 : (p + 4 - p % 4, p, oth, true) :: w_fxs w w_z (g_it g) = F2 at *
    have hF2l : F2.length = (w_fxs w w_z (g_it g)).length + 1 := by rw [← hF2]; rfl
    have main := m_lkL (d := d) (n := n) (I := fun j y => zfr (zw ba pf lf) x y ∧ Z1 nt N M w ba pf rf lf c lm lv (Bh ++ w_lke (w_z p) (ks.take j)) (w_fes p (p + 16 - p % 4) 8 (ks.take j) F2) y g (w_comes (ks.take j) (w_come oth G0))) (a1 := a1) (a3 := nI (lm oth)) (a4 := a4) (a7 := 0) (a8 := x.1 0 32) (a5 := a5) (key := key) (lab := fun j => nI (lm (lab (sl.getD j 0)))) hn4
      (fun j y hI hj => ⟨(rd y j hI.1 hj).1, (rd y j hI.1 hj).2.1⟩) (fun j y hj hI => by
        obtain ⟨fy, zy⟩ := hI
        have htk : ks.take (j + 1) = ks.take j ++ [(key j, lab (sl.getD j 0))] := by rw [List.take_succ, hksj j hj]; rfl
        have hmj := hlb _ (hmem j hj)
        have hlj : (ks.take j).length = j := by rw [List.length_take]; omega
        have hBj : (Bh ++ w_lke (w_z p) (ks.take j)).length = p + 12 - p % 4 + 8 * j := by rw [List.length_append, hBhl, w_lke_len, hlj]
        obtain ⟨y1, t1, g1, z1'⟩ := m_op4 (d := d) (by omega) (key j) zy (fun _ => by rw [itC, hBj, hlen]; omega)
        have fy1 := fy.tr g1
        obtain ⟨b1, b2⟩ := within (w_come oth G0) (ks.take j) (key j, lab (sl.getD j 0)) (fun a ha => hfits a (List.mem_cons_of_mem _ (by rw [← htk] at ha; exact List.mem_of_mem_take ha)))
        obtain ⟨y2, t2, g2, z2'⟩ := z1'.come (d := d) (by omega) hq b1 hmj.2 b2
        have fy2 := fy1.tr g2
        obtain ⟨y3, t3, g3, z3'⟩ := m_fix (d := d) (p := p) (l := lab (sl.getD j 0)) (from_ := x.1 0 32) (by omega) true z2' hq b1 (fun hb => by
          rw [List.length_append, hBj] at hb
          simp only [o32, List.length_cons, List.length_nil] at hb
          rw [w_fes_len, hlj, hF2l]; omega) (fun _ => hI0) (by
          show _ ≤ (w_by_ w w_z (g_it (w_comes (ks.take j) (w_come oth G0)))).length
          rw [itC, List.length_append, hBj, hlen]; simp only [cond_true, o32, List.length_cons, List.length_nil]; omega)
        refine ⟨y1, y2, y3, t1, ⟨(rd y1 j fy1 hj).1, (rd y1 j fy1 hj).2.2⟩, t2, ⟨(rd y2 j fy2 hj).1, (rd y2 j fy2 hj).2.2⟩, t3, fy2.tr g3, ?_⟩
        rw [htk, w_lke_snoc, w_fes_snoc, w_comes_snoc, hlj]
        have e1 : (Bh ++ w_lke (w_z p) (ks.take j) ++ o32 (key j)).length = p + 16 - p % 4 + 8 * j := by rw [List.length_append, hBj]; simp only [o32, List.length_cons, List.length_nil]; omega
        rw [e1] at z3'
        have e2 : Bh ++ (w_lke (w_z p) (ks.take j) ++ (o32 (key j) ++ o32 (w_z p (lab (sl.getD j 0))))) = Bh ++ w_lke (w_z p) (ks.take j) ++ o32 (key j) ++ o32 0 := by simp only [List.append_assoc]; rfl
        rw [e2]
        exact z3') n 0 x3 (by omega) ⟨f2.tr f3, by rw [List.take_zero]; show Z1 nt N M w ba pf rf lf c lm lv (Bh ++ []) F2 x3 g (w_come oth G0); rw [List.append_nil]; exact r3⟩
    obtain ⟨x', m1', m2', m3'⟩ := main
    have m1'' : rX1_table d (432, [some (.ref 0), some (.int a1), some (.int (nI n)), some (.int (nI (lm oth))), some (.int a4), some (.long a5), none, some (.int (0 : Int32)), some (.int (x.1 0 32)), some (.int (0 : Int32)), none, none, none, none], [], x3) = some (none, mj_wI x' 0 35 0) := m1'
    rw [m1'', ← hG0]
    refine fin (23, 0, 0, 0, (0, oth) :: ks) x' m2' ?_
    rw [List.take_of_length_le (by omega)] at m3'
    rw [hG0]
    have eB : w_by_ w w_z ((((23, 0, 0, 0, (0, oth) :: ks) : wI), (g_L g, g_st g)) :: g_it g) = Bh ++ w_lke (w_z p) ks := by rw [← hG.1]; exact hby
    have eF : w_fxs w w_z ((((23, 0, 0, 0, (0, oth) :: ks) : wI), (g_L g, g_st g)) :: g_it g) = w_fes p (p + 16 - p % 4) 8 ks F2 := by rw [← hF2, ← hpg]; rfl
    rw [eB, eF]
    exact m3'
  -- a table
  have dens : 0 < n → w_dense (sl.map (fun a => (nA nt a, lab a))) = true → ∀ a5 : Int64, J1 nt N M w ba pf rf lf c (rX1_table d (191, [some (.ref 0), some (.int a1), some (.int (nI n)), some (.int (nI (lm oth))), some (.int a4), some (.long a5), none, o7, none, none, none, none, none, none], [.int 1], x)) x lm lv g (s_al false (w_comes (w_swi oth (sl.map (fun a => (nA nt a, lab a)))).2.2.2.2 (s_ok (1 ≤ (g_st g).length) (w_es (w_swi oth (sl.map (fun a => (nA nt a, lab a)))) (g_L g, [] ++ (g_st g).drop 1) g)))) := by
    intro hn0 hd1 a5
    have hkl : (sl.map (fun a => (nA nt a, lab a))).length = n := by rw [List.length_map, hn]
    have hksr : sl.map (fun a => (nA nt a, lab a)) = (List.range n).map (fun i => (key i, lab (sl.getD i 0))) := by rw [hks]; congr 1; funext i; rw [hkey]
    have hh : (sl.map (fun a => (nA nt a, lab a))).head? = some (key 0, lab (sl.getD 0 0)) := by rw [hksr, List.head?_eq_getElem?, List.getElem?_map, List.getElem?_range hn0]; rfl
    have hl : (sl.map (fun a => (nA nt a, lab a))).getLast? = some (key (n - 1), lab (sl.getD (n - 1) 0)) := by rw [hksr, List.getLast?_eq_getElem?, List.getElem?_map, List.length_map, List.length_range, List.getElem?_range (by omega)]; rfl
    have hsp : w_span (sl.map (fun a => (nA nt a, lab a))) = ((key (n - 1)).toInt - (key 0).toInt + 1).toNat := by unfold w_span; rw [hh, hl]
    have ei : w_swi oth (sl.map (fun a => (nA nt a, lab a))) = (22, 0, 0, 0, (0, oth) :: w_tab oth (((key (n - 1)).toInt - (key 0).toInt + 1).toNat) (key 0).toInt ((List.range n).map (fun i => (key i, lab (sl.getD i 0))))) := by
      unfold w_swi; rw [hd1, hsp, hh, hksr]; rfl
    rw [ei] at hokE hfits ⊢
    have hstr' : ∀ i j, i < j → j < n → (key i).toInt < (key j).toInt := fun i j h1 h2 => by rw [hkey, hkey]; exact hstr i j h1 h2
    have h0n : (key 0).toInt ≤ (key (n - 1)).toInt := by
      by_cases q : n - 1 = 0
      · rw [q]; exact Int.le_refl _
      · exact Int.le_of_lt (hstr' 0 (n - 1) (by omega) (by omega))
    have hb0 := i32_b (key 0)
    have hbn := i32_b (key (n - 1))
    obtain ⟨cnt, hcnt⟩ : ∃ cnt : Nat, (cnt : Int) = (key (n - 1)).toInt - (key 0).toInt + 1 := ⟨((key (n - 1)).toInt - (key 0).toInt + 1).toNat, by omega⟩
    have hcn : ((key (n - 1)).toInt - (key 0).toInt + 1).toNat = cnt := by omega
    rw [hcn] at hokE hfits ⊢
    have hinv := w_kk_inv (key := key) hn0 hstr'
    have hkk : ∀ j, j < cnt → w_kk key (key 0).toInt j < n := by
      intro j hj
      obtain ⟨i1, i2, -⟩ := hinv j (by omega)
      by_cases q : w_kk key (key 0).toInt j < n
      · exact q
      · have := i2 (n - 1) (by omega); omega
    have hkl2 : w_kk key (key 0).toInt (cnt - 1) = n - 1 := by
      obtain ⟨i1, i2, i3⟩ := hinv (cnt - 1) (by omega)
      have hlt := hkk (cnt - 1) (by omega)
      by_cases q : w_kk key (key 0).toInt (cnt - 1) = n - 1
      · exact q
      · have a := i3 _ (Nat.le_refl _) hlt
        have b := hstr' (w_kk key (key 0).toInt (cnt - 1)) (n - 1) (by omega) (by omega)
        omega
    have hT : ∀ j, j < cnt → (w_tab oth cnt (key 0).toInt ((List.range n).map (fun i => (key i, lab (sl.getD i 0)))))[j]? = some (if (key (w_kk key (key 0).toInt j)).toInt = (key 0).toInt + j then (key (w_kk key (key 0).toInt j), lab (sl.getD (w_kk key (key 0).toInt j) 0)) else (Int32.ofInt ((key 0).toInt + j), oth)) := fun j hj => w_tab_get (lab := fun i => lab (sl.getD i 0)) hj (hkk j hj)
    have hTl := w_tab_len (o := oth) cnt (key 0).toInt ((List.range n).map (fun i => (key i, lab (sl.getD i 0))))
    generalize hTg : w_tab oth cnt (key 0).toInt ((List.range n).map (fun i => (key i, lab (sl.getD i 0)))) = T at *
    have hcnt1 : 1 ≤ cnt := by omega
    have hT0 : T.head? = some (key 0, lab (sl.getD 0 0)) := by
      rw [List.head?_eq_getElem?, hT 0 (by omega)]
      have : w_kk key (key 0).toInt 0 = 0 := rfl
      rw [this, if_pos (by simp)]
    have hTe : T.getLast? = some (key (n - 1), lab (sl.getD (n - 1) 0)) := by
      rw [List.getLast?_eq_getElem?, hTl, hT (cnt - 1) (by omega), hkl2, if_pos (by omega)]
    have hG := (w_es_f (i := (22, 0, 0, 0, (0, oth) :: T)) (F := (g_L g, [] ++ (g_st g).drop 1)) hq)
    have hby : w_by_ w w_z (g_it (w_es (22, 0, 0, 0, (0, oth) :: T) (g_L g, [] ++ (g_st g).drop 1) g)) = (((((w_by_ w w_z (g_it g) ++ [o8 (nI 170)]) ++ w_pad (w_by_ w w_z (g_it g)).length) ++ o32 0) ++ o32 (key 0)) ++ o32 (key (n - 1))) ++ w_ent (w_z (w_by_ w w_z (g_it g)).length) T := by
      rw [hG.1]
      show w_by_ w w_z (g_it g) ++ ([o8 170] ++ (w_pad (w_by_ w w_z (g_it g)).length ++ (o32 0 ++ (o32 (match T.head? with | some q => q.1 | none => 0) ++ (o32 (match T.getLast? with | some q => q.1 | none => 0) ++ w_ent (w_z (w_by_ w w_z (g_it g)).length) T))))) = _
      rw [hT0, hTe]; simp only [List.append_assoc]; rfl
    obtain ⟨x2, e2, f2, r2⟩ := m_tabH (d := d) (cc := 170) (i := (22, 0, 0, 0, (0, oth) :: T)) (F := (g_L g, [] ++ (g_st g).drop 1)) (oth := oth) (a1 := a1) (a2 := nI n) (a4 := a4) (s0 := 1) (a5 := a5) (rest := o32 (match T.head? with | some q => q.1 | none => 0) ++ (o32 (match T.getLast? with | some q => q.1 | none => 0) ++ w_ent (w_z (w_by_ w w_z (g_it g)).length) T)) (by omega) h h0 hq (Or.inr ⟨rfl, rfl⟩) hokE hs1 ho1 ho2 (hfits (0, oth) (by simp)).2 rfl o7
    rw [e2, if_neg (by decide)]
    have n1 : nI n - (1 : Int32) = nI (n - 1) := nI_sub (b := 1) (by omega)
    have z0 : (0 : Int32).toNatClampNeg = 0 := rfl
    generalize hG0 : w_es (22, 0, 0, 0, (0, oth) :: T) (g_L g, [] ++ (g_st g).drop 1) g = G0 at *
    have hlen : (w_by_ w w_z (g_it G0)).length = (w_by_ w w_z (g_it g)).length + 16 - (w_by_ w w_z (g_it g)).length % 4 + 4 * cnt := by
      rw [hby]
      simp only [List.length_append, List.length_cons, List.length_nil, w_pad, List.length_replicate, o32, w_ent_len, hTl]; omega
    have hB2 : ((((w_by_ w w_z (g_it g) ++ [o8 (nI 170)]) ++ w_pad (w_by_ w w_z (g_it g)).length) ++ o32 0)).length = (w_by_ w w_z (g_it g)).length + 8 - (w_by_ w w_z (g_it g)).length % 4 := by
      simp only [List.length_append, List.length_cons, List.length_nil, w_pad, List.length_replicate, o32]; omega
    have itC : ∀ l, g_it (w_comes l (w_come oth G0)) = g_it G0 := fun l => (w_comes_f l _).1
    have r0 := rd x2 0 f2 (by omega)
    rw [show mj_g (0 : Int32) 4000 = id from funext fun r => rfl, z0, r0.1, r0.2.1]
    obtain ⟨x3, e3, f3, r3⟩ := m_op4 (d := d) (by omega) (key 0) r2 (fun _ => by show _ < (w_by_ w w_z (g_it G0)).length; rw [hB2, hlen]; omega)
    have f23 := f2.tr f3
    have r1 := rd x3 (n - 1) f23 (by omega)
    show J1 nt N M w ba pf rf lf c (mj_rV (kX1 d 49 [.ref 0, .int (key 0), .int (4 : Int32)] x2) _) x lm lv g _
    rw [e3, mj_rV_k, n1, nI_nd (by omega), nI_cl (by omega), r1.1, r1.2.1]
    have hB3 : (((((w_by_ w w_z (g_it g) ++ [o8 (nI 170)]) ++ w_pad (w_by_ w w_z (g_it g)).length) ++ o32 0) ++ o32 (key 0))).length = (w_by_ w w_z (g_it g)).length + 12 - (w_by_ w w_z (g_it g)).length % 4 := by
      rw [List.length_append, hB2]; simp only [o32, List.length_cons, List.length_nil]; omega
    obtain ⟨x4, e4, f4, r4⟩ := m_op4 (d := d) (by omega) (key (n - 1)) r3 (fun _ => by show _ < (w_by_ w w_z (g_it G0)).length; rw [hB3, hlen]; omega)
    have f24 := f23.tr f4
    have r5 := rd x4 0 f24 (by omega)
    show J1 nt N M w ba pf rf lf c (mj_rV (kX1 d 49 [.ref 0, .int (key (n - 1)), .int (4 : Int32)] x3) _) x lm lv g _
    rw [e4, mj_rV_k, r5.1, r5.2.1]
    show J1 nt N M w ba pf rf lf c (rX1_table d (312, _, [], x4)) x lm lv g _
    generalize hBh : (((((w_by_ w w_z (g_it g) ++ [o8 (nI 170)]) ++ w_pad (w_by_ w w_z (g_it g)).length) ++ o32 0) ++ o32 (key 0)) ++ o32 (key (n - 1))) = Bh at *
    have hBhl : Bh.length = (w_by_ w w_z (g_it g)).length + 16 - (w_by_ w w_z (g_it g)).length % 4 := by
      rw [← hBh, List.length_append, hB3]; simp only [o32, List.length_cons, List.length_nil]; omega
    generalize hpg : (w_by_ w w_z (g_it g)).length = p at *
    generalize hF2 : (p + 4 - p % 4, p, oth, true) :: w_fxs w w_z (g_it g) = F2 at *
    have hF2l : F2.length = (w_fxs w w_z (g_it g)).length + 1 := by rw [← hF2]; rfl
    have eqv : ∀ i j, j < cnt → ((key i).toInt64 = w_vv (key 0) j ↔ (key i).toInt = (key 0).toInt + j) := by
      intro i j hj
      rw [← Int64.toInt_inj, Int32.toInt_toInt64, w_vv_i (key 0) j (by omega)]
    have main := m_dnL (d := d) (n := n) (cnt := cnt) (I := fun j y => zfr (zw ba pf lf) x y ∧ Z1 nt N M w ba pf rf lf c lm lv (Bh ++ w_ent (w_z p) (T.take j)) (w_fes p (p + 16 - p % 4) 4 (T.take j) F2) y g (w_comes (T.take j) (w_come oth G0))) (a1 := a1) (oth := nI (lm oth)) (a4 := a4) (a7 := 1) (a8 := x.1 0 32) (a5 := a5) (key := key) (lab := fun j => nI (lm (lab (sl.getD j 0)))) (kk := w_kk key (key 0).toInt) (vv := w_vv (key 0)) hn0 hn4 (fun _ => rfl)
      (fun j hj => by rw [Int64.le_iff_toInt_le, Int32.toInt_toInt64, w_vv_i (key 0) j (by omega)]; omega) (by rw [Int64.lt_iff_toInt_lt, Int32.toInt_toInt64, w_vv_i (key 0) cnt (by omega)]; omega) hkk
      (fun j hj => by
        show (if (key (w_kk key (key 0).toInt j)).toInt = (key 0).toInt + j then _ else _) = _
        by_cases q : (key (w_kk key (key 0).toInt j)).toInt = (key 0).toInt + j
        · rw [if_pos q, if_pos ((eqv _ j hj).mpr q)]
        · rw [if_neg q, if_neg (fun e => q ((eqv _ j hj).mp e))])
      (fun j y i hI hi => rd y i hI.1 hi) (fun j y hj hI => by
        obtain ⟨fy, zy⟩ := hI
        have hTj := hT j hj
        -- the entry
        have ent : ∃ q : Int32 × Nat, T[j]? = some q ∧ (if (key (w_kk key (key 0).toInt j)).toInt64 = w_vv (key 0) j then nI (lm (lab (sl.getD (w_kk key (key 0).toInt j) 0))) else nI (lm oth)) = nI (lm q.2) ∧ q.2 < g_nl g ∧ lv q.2 = true := by
          by_cases q : (key (w_kk key (key 0).toInt j)).toInt = (key 0).toInt + j
          · rw [if_pos q] at hTj
            exact ⟨_, hTj, by rw [if_pos ((eqv _ j hj).mpr q)], hlb _ (hmem _ (hkk j hj))⟩
          · rw [if_neg q] at hTj
            exact ⟨_, hTj, by rw [if_neg (fun e => q ((eqv _ j hj).mp e))], ho1, ho2⟩
        obtain ⟨q, q1, q2, q3, q4⟩ := ent
        rw [q2]
        have htk : T.take (j + 1) = T.take j ++ [q] := by rw [List.take_succ, q1]; rfl
        have hlj : (T.take j).length = j := by rw [List.length_take]; omega
        have hBj : (Bh ++ w_ent (w_z p) (T.take j)).length = p + 16 - p % 4 + 4 * j := by rw [List.length_append, hBhl, w_ent_len, hlj]
        obtain ⟨b1, b2⟩ := within (w_come oth G0) (T.take j) q (fun a ha => hfits a (List.mem_cons_of_mem _ (by rw [← htk] at ha; exact List.mem_of_mem_take ha)))
        obtain ⟨y2, t2, g2, z2'⟩ := zy.come (d := d) (by omega) hq b1 q4 b2
        obtain ⟨y3, t3, g3, z3'⟩ := m_fix (d := d) (p := p) (l := q.2) (from_ := x.1 0 32) (by omega) true z2' hq b1 (fun hb => by
          rw [hBj] at hb
          rw [w_fes_len, hlj, hF2l]; omega) (fun _ => hI0) (by
          show _ ≤ (w_by_ w w_z (g_it (w_comes (T.take j) (w_come oth G0)))).length
          rw [itC, hBj, hlen]; simp only [cond_true]; omega)
        refine ⟨y2, y3, t2, t3, (fy.tr g2).tr g3, ?_⟩
        rw [htk, w_ent_snoc, w_fes_snoc, w_comes_snoc, hlj]
        rw [hBj] at z3'
        have e2 : Bh ++ (w_ent (w_z p) (T.take j) ++ o32 (w_z p q.2)) = Bh ++ w_ent (w_z p) (T.take j) ++ o32 0 := by simp only [List.append_assoc]; rfl
        rw [e2]
        exact z3') cnt 0 x4 none none (by omega) ⟨f24, by rw [List.take_zero]; show Z1 nt N M w ba pf rf lf c lm lv (Bh ++ []) F2 x4 g (w_come oth G0); rw [List.append_nil]; exact r4⟩
    obtain ⟨x', m1', m2', m3'⟩ := main
    have m1'' : rX1_table d (312, [some (.ref 0), some (.int a1), some (.int (nI n)), some (.int (nI (lm oth))), some (.int a4), some (.long a5), none, some (.int (1 : Int32)), some (.int (x.1 0 32)), some (.int (0 : Int32)), some (.long (key 0).toInt64), none, none, none], [], x4) = some (none, mj_wI x' 0 35 0) := m1'
    rw [m1'']
    rw [← hG0]
    refine fin (22, 0, 0, 0, (0, oth) :: T) x' m2' ?_
    rw [List.take_of_length_le (by omega)] at m3'
    rw [hG0]
    have eB : w_by_ w w_z ((((22, 0, 0, 0, (0, oth) :: T) : wI), (g_L g, g_st g)) :: g_it g) = Bh ++ w_ent (w_z p) T := by rw [← hG.1]; exact hby
    have eF : w_fxs w w_z ((((22, 0, 0, 0, (0, oth) :: T) : wI), (g_L g, g_st g)) :: g_it g) = w_fes p (p + 16 - p % 4) 4 T F2 := by rw [← hF2, ← hpg]; rfl
    rw [eB, eF]
    exact m3'
  rw [bX1_table_6, if_pos rfl]
  by_cases hn0 : n = 0
  · have e0 : sl = [] := List.length_eq_zero_iff.mp (by omega)
    rw [if_pos (by rw [hn0]; decide), bX1_table_149, if_pos (by rw [hn0]; decide)]
    exact look (by rw [e0]; rfl) _
  · have n1 : nI n - (1 : Int32) = nI (n - 1) := nI_sub (b := 1) (by omega)
    have z0 : (0 : Int32).toNatClampNeg = 0 := rfl
    have r0 := rd x 0 (zfr.rf _ x) (by omega)
    have r1 := rd x (n - 1) (zfr.rf _ x) (by omega)
    have h0n : (key 0).toInt ≤ (key (n - 1)).toInt := by
      by_cases q : n - 1 = 0
      · rw [q]; exact Int.le_refl _
      · rw [hkey, hkey]; exact Int.le_of_lt (hstr 0 (n - 1) (by omega) (by omega))
    have hsp : w_span (sl.map (fun a => (nA nt a, lab a))) = ((key (n - 1)).toInt - (key 0).toInt + 1).toNat := by
      have hksr : sl.map (fun a => (nA nt a, lab a)) = (List.range n).map (fun i => (key i, lab (sl.getD i 0))) := by rw [hks]; congr 1; funext i; rw [hkey]
      unfold w_span
      rw [hksr, List.head?_eq_getElem?, List.getElem?_map, List.getElem?_range (by omega), List.getLast?_eq_getElem?, List.getElem?_map, List.length_map, List.length_range, List.getElem?_range (by omega)]
      rfl
    have hde : w_dense (sl.map (fun a => (nA nt a, lab a))) = Nat.ble (13 + ((key (n - 1)).toInt - (key 0).toInt + 1).toNat) (3 + 5 * n) := by
      unfold w_dense
      rw [hsp, List.length_map, hn]
      cases hsl : sl with
      | nil => rw [hsl] at hn; simp at hn; omega
      | cons _ _ => rfl
    rw [if_neg (show ¬ nI n ≤ (0 : Int32) from nI_ge (a := 0) (by omega) (by omega)), n1, nI_nd (by omega), nI_cl (by omega), r1.1, r1.2.1, show mj_g (0 : Int32) 4000 = id from funext fun r => rfl, z0, r0.1, r0.2.1]
    show J1 nt N M w ba pf rf lf c (rX1_table d (149, _, [.long (((key (n - 1)).toInt64 - (key 0).toInt64) + (1 : Int64))], x)) x lm lv g _
    rw [bX1_table_149, if_neg (show ¬ nI n ≤ (0 : Int32) from nI_ge (a := 0) (by omega) (by omega))]
    have hdi := w_dense_i (a := key 0) (b := key (n - 1)) hn4 h0n
    by_cases q : 13 + ((key (n - 1)).toInt - (key 0).toInt + 1).toNat ≤ 3 + 5 * n
    · rw [if_neg (by rw [hdi]; exact fun e => e q)]
      exact dens (by omega) (by rw [hde]; exact Nat.ble_eq_true_of_le q) _
    · rw [if_pos (by rw [hdi]; exact q)]
      exact look (by rw [hde, ← Bool.not_eq_true, Nat.ble_eq]; exact q) _
end
