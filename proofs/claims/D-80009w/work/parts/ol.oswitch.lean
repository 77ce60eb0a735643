/-! switches, all well: the table -/
theorem oTab_mem (o : Nat) : ∀ (n : Nat) (v : Int) (ks : List (Int32 × Nat)), ks.Pairwise (fun a b => a.1.toInt < b.1.toInt) → (∀ q, q ∈ ks → v ≤ q.1.toInt ∧ q.1.toInt < v + n) → ∀ q, q ∈ ks → ∃ p, p ∈ w_tab o n v ks ∧ p.2 = q.2 := by
  intro n
  induction n with
  | zero => intro v ks _ h q hq; have := h q hq; omega
  | succ n ih =>
    intro v ks hp h q hq
    cases ks with
    | nil => cases hq
    | cons a r =>
      obtain ⟨hp1, hp2⟩ := List.pairwise_cons.mp hp
      have ha := h a (List.mem_cons_self ..)
      by_cases e : a.1.toInt = v
      · have ew : w_tab o (n + 1) v (a :: r) = (a.1, a.2) :: w_tab o n (v + 1) r := by
          conv => lhs; unfold w_tab
          exact if_pos e
        rw [ew]
        rcases List.mem_cons.mp hq with z | z
        · exact ⟨_, List.mem_cons_self .., by rw [z]⟩
        · obtain ⟨p, p1, p2⟩ := ih (v + 1) r hp2 (fun x hx => by have := hp1 x hx; have := h x (List.mem_cons_of_mem _ hx); omega) q z
          exact ⟨p, List.mem_cons_of_mem _ p1, p2⟩
      · have ew : w_tab o (n + 1) v (a :: r) = (Int32.ofInt v, o) :: w_tab o n (v + 1) (a :: r) := by
          conv => lhs; unfold w_tab
          exact if_neg e
        rw [ew]
        obtain ⟨p, p1, p2⟩ := ih (v + 1) (a :: r) hp (fun x hx => by
          have := h x hx
          rcases List.mem_cons.mp hx with z | z
          · rw [z]; rw [z] at this; omega
          · have := hp1 x z; omega) q hq
        exact ⟨p, List.mem_cons_of_mem _ p1, p2⟩
theorem oTab_or (o : Nat) : ∀ (n : Nat) (v : Int) (ks : List (Int32 × Nat)), ∀ p, p ∈ w_tab o n v ks → p.2 = o ∨ ∃ q, q ∈ ks ∧ p.2 = q.2 := by
  intro n
  induction n with
  | zero => intro v ks p h; cases h
  | succ n ih =>
    intro v ks p h
    cases ks with
    | nil =>
      have ew : w_tab o (n + 1) v [] = (Int32.ofInt v, o) :: w_tab o n (v + 1) [] := rfl
      rw [ew] at h
      rcases List.mem_cons.mp h with z | z
      · rw [z]; exact Or.inl rfl
      · exact ih _ _ p z
    | cons a r =>
      by_cases e : a.1.toInt = v
      · have ew : w_tab o (n + 1) v (a :: r) = (a.1, a.2) :: w_tab o n (v + 1) r := by
          conv => lhs; unfold w_tab
          exact if_pos e
        rw [ew] at h
        rcases List.mem_cons.mp h with z | z
        · exact Or.inr ⟨a, List.mem_cons_self .., by rw [z]⟩
        · rcases ih _ _ p z with y | ⟨q, q1, q2⟩
          · exact Or.inl y
          · exact Or.inr ⟨q, List.mem_cons_of_mem _ q1, q2⟩
      · have ew : w_tab o (n + 1) v (a :: r) = (Int32.ofInt v, o) :: w_tab o n (v + 1) (a :: r) := by
          conv => lhs; unfold w_tab
          exact if_neg e
        rw [ew] at h
        rcases List.mem_cons.mp h with z | z
        · rw [z]; exact Or.inl rfl
        · exact ih _ _ p z
theorem pw_last {α : Type} (f : α → Int) : ∀ (l : List α) (a : α), l.Pairwise (fun a b => f a < f b) → l.getLast? = some a → ∀ q, q ∈ l → f q ≤ f a := by
  intro l
  induction l with
  | nil => intro a _ h; simp at h
  | cons x r ih =>
    intro a hp h q hq
    obtain ⟨h1, h2⟩ := List.pairwise_cons.mp hp
    cases r with
    | nil =>
      have : x = a := by simpa using h
      rw [List.mem_singleton.mp hq, this]; exact Int.le_refl _
    | cons y r =>
      rw [List.getLast?_cons_cons] at h
      have := ih a h2 h
      rcases List.mem_cons.mp hq with z | z
      · rw [z]
        have := h1 y (List.mem_cons_self ..)
        have := ih a h2 h y (List.mem_cons_self ..)
        omega
      · exact this q z
/-- all keys' labels are in the item, and what else comes of it -/
theorem oSwi_mem {o : Nat} {ks : List (Int32 × Nat)} (hs : ks.Pairwise (fun a b => a.1.toInt < b.1.toInt)) : (∃ p, p ∈ (w_swi o ks).2.2.2.2 ∧ p.2 = o) ∧ (∀ q, q ∈ ks → ∃ p, p ∈ (w_swi o ks).2.2.2.2 ∧ p.2 = q.2) ∧ (∀ p, p ∈ (w_swi o ks).2.2.2.2 → p.2 = o ∨ ∃ q, q ∈ ks ∧ p.2 = q.2) := by
  unfold w_swi
  cases d : w_dense ks
  · simp only [cond_false]
    refine ⟨⟨_, List.mem_cons_self .., rfl⟩, fun q hq => ⟨q, List.mem_cons_of_mem _ hq, rfl⟩, fun p hp => ?_⟩
    rcases List.mem_cons.mp hp with z | z
    · rw [z]; exact Or.inl rfl
    · exact Or.inr ⟨p, z, rfl⟩
  · simp only [cond_true]
    refine ⟨⟨_, List.mem_cons_self .., rfl⟩, fun q hq => ?_, fun p hp => ?_⟩
    · cases ks with
      | nil => cases hq
      | cons a r =>
        obtain ⟨b, hb⟩ : ∃ b, (a :: r).getLast? = some b := by
          cases e : (a :: r).getLast? with
          | none => simp at e
          | some b => exact ⟨b, rfl⟩
        have lo : ∀ x, x ∈ a :: r → a.1.toInt ≤ x.1.toInt := fun x hx => by
          rcases List.mem_cons.mp hx with z | z
          · rw [z]; exact Int.le_refl _
          · exact Int.le_of_lt ((List.pairwise_cons.mp hs).1 x z)
        have hi := pw_last (fun x : Int32 × Nat => x.1.toInt) (a :: r) b hs hb
        have sp : w_span (a :: r) = (b.1.toInt - a.1.toInt + 1).toNat := by unfold w_span; rw [hb]; rfl
        obtain ⟨p, p1, p2⟩ := oTab_mem o (w_span (a :: r)) a.1.toInt (a :: r) hs (fun x hx => ⟨lo x hx, by have := hi x hx; have := lo x hx; rw [sp]; have := hi a (List.mem_cons_self ..); omega⟩) q hq
        exact ⟨p, List.mem_cons_of_mem _ p1, p2⟩
    · rcases List.mem_cons.mp hp with z | z
      · rw [z]; exact Or.inl rfl
      · exact oTab_or _ _ _ _ p z
theorem w_ent_len4 (o : Nat → Int32) : ∀ l : List (Int32 × Nat), (w_ent o l).length = 4 * l.length := by
  intro l
  induction l with
  | nil => rfl
  | cons a r ih =>
    show (o32 _ ++ w_ent o r).length = _
    rw [List.length_append, ih]; simp [o32]; omega
theorem w_lke_len8 (o : Nat → Int32) : ∀ l : List (Int32 × Nat), (w_lke o l).length = 8 * l.length := by
  intro l
  induction l with
  | nil => rfl
  | cons a r ih =>
    show (o32 _ ++ (o32 _ ++ w_lke o r)).length = _
    rw [List.length_append, List.length_append, ih]; simp [o32]; omega
theorem oSwi_by (o : Nat) (ks : List (Int32 × Nat)) (F : wF) (l : List (wI × wF)) : (w_by_ false w_z l).length + 4 * (w_swi o ks).2.2.2.2.length ≤ (w_by_ false w_z ((w_swi o ks, F) :: l)).length := by
  show _ ≤ (w_by_ false w_z l ++ w_enc false w_z (w_by_ false w_z l).length (w_swi o ks)).length
  rw [List.length_append]
  unfold w_swi
  cases w_dense ks
  · show _ ≤ _ + ([o8 171] ++ (w_pad _ ++ (o32 _ ++ (o32 _ ++ w_lke _ ks)))).length
    simp only [cond_false, List.length_append, w_lke_len8, List.length_cons]
    simp [o32]; omega
  · show _ ≤ _ + ([o8 170] ++ (w_pad _ ++ (o32 _ ++ (o32 _ ++ (o32 _ ++ w_ent _ (w_tab o (w_span ks) _ ks)))))).length
    simp only [cond_true, List.length_append, w_ent_len4, List.length_cons]
    simp [o32]; omega
theorem oComes_f : ∀ (l : List (Int32 × Nat)) (g : wG), (g_it (w_comes l g) = g_it g ∧ g_al (w_comes l g) = g_al g ∧ g_ov (w_comes l g) = g_ov g ∧ g_L (w_comes l g) = g_L g ∧ g_st (w_comes l g) = g_st g ∧ g_nx (w_comes l g) = g_nx g ∧ g_mx (w_comes l g) = g_mx g ∧ g_ms (w_comes l g) = g_ms g ∧ g_ac (w_comes l g) = g_ac g ∧ g_pl (w_comes l g) = g_pl g ∧ g_cx (w_comes l g) = g_cx g ∧ g_rg (w_comes l g) = g_rg g ∧ g_po (w_comes l g) = g_po g)
    ∧ g_nl (w_comes l g) = g_nl g ∧ g_lat (w_comes l g) = g_lat g ∧ g_lF (w_comes l g) = g_lF g ∧ g_lc (w_comes l g) = g_lc g ∧ (∀ k, g_goes (w_comes l g) k = true ↔ (∃ q, q ∈ l ∧ q.2 = k) ∨ g_goes g k = true)
    ∧ (g_ok g → (∀ q, q ∈ l → q.2 < g_nl g ∧ w_fit (g_L g, g_st g) (g_lF g q.2)) → g_ok (w_comes l g)) ∧ ∀ n, w_cg (g_goes (w_comes l g)) n ≤ w_cg (g_goes g) n + l.length := by
  intro l
  induction l with
  | nil => intro g; exact ⟨⟨rfl, rfl, rfl, rfl, rfl, rfl, rfl, rfl, rfl, rfl, rfl, rfl, rfl⟩, rfl, rfl, rfl, rfl, fun k => ⟨Or.inr, fun q => q.elim (fun ⟨_, h, _⟩ => by cases h) id⟩, fun h _ => h, fun n => Nat.le_refl _⟩
  | cons q r ih =>
    intro g
    obtain ⟨a1, a2, a3, a4, a5, a6, a7, a8⟩ := ih (w_come q.2 g)
    refine ⟨a1, a2, a3, a4, a5, fun k => ?_, fun h1 h2 => ?_, fun n => ?_⟩
    · refine (a6 k).trans ?_
      have : g_goes (w_come q.2 g) k = (if k = q.2 then true else g_goes g k) := rfl
      rw [this]
      refine ⟨fun z => ?_, fun z => ?_⟩
      · rcases z with ⟨p, p1, p2⟩ | z
        · exact Or.inl ⟨p, List.mem_cons_of_mem _ p1, p2⟩
        · by_cases e : k = q.2
          · exact Or.inl ⟨q, List.mem_cons_self .., e.symm⟩
          · rw [if_neg e] at z; exact Or.inr z
      · rcases z with ⟨p, p1, p2⟩ | z
        · rcases List.mem_cons.mp p1 with y | y
          · right; rw [if_pos (by rw [← p2, y])]
          · exact Or.inl ⟨p, y, p2⟩
        · right; split
          · rfl
          · exact z
    · exact a7 ⟨h1, h2 q (List.mem_cons_self ..)⟩ (fun p hp => h2 p (List.mem_cons_of_mem _ hp))
    · have b := a8 n
      have c : w_cg (g_goes (w_come q.2 g)) n ≤ w_cg (g_goes g) n + 1 := by
        have := w_cg_one (go := g_goes g) q.2 n
        have : w_cg (g_goes (w_come q.2 g)) n ≤ w_cg (g_goes g) n + (if q.2 < n then 1 else 0) := this
        split at this <;> omega
      simp only [List.length_cons]
      show w_cg (g_goes (w_comes r (w_come q.2 g))) n ≤ _
      omega
section
variable {nt : sp_NT} {N M : Nat} {res par : Nat → Int32} {ret : Nat} {E : wF} {T : Nat → List Nat} {rs : Int32} {n m z : Nat} {D : Nat → Prop} {g g0 g1 h k : wG} {gh eh gv gt : List oGh} {cx cv ct : List wC} {L0 s0 : List Nat} {rec : wT} {K f B hh : Nat} {i : Int32} {s : sp_SS}
/-- the switch's item -/
theorem oM.swi (w : oW N n D gh L0) (we : ∀ e, e ∈ eh → h_L e <+: L0) (a : oM nt N M res par ret E gh n m z D L0 hh eh [1] g1 g) (hq : w_q g = false) {o : Nat} {ks : List (Int32 × Nat)} (hks : List.Pairwise (fun a b : Int32 × Nat => a.1.toInt < b.1.toInt) ks) (hO : ∀ q, q ∈ (w_swi o ks).2.2.2.2 → oOw (g_L g) [] q.2 g) (s' : List Nat) :
    oM nt N M res par ret E gh n m z D L0 hh eh s' g1 (s_al false (w_comes (w_swi o ks).2.2.2.2 (w_em (w_swi o ks) 1 [] g))) ∧ oLs (g_nl g) g (s_al false (w_comes (w_swi o ks).2.2.2.2 (w_em (w_swi o ks) 1 [] g))) ∧ (∀ q, q ∈ (w_swi o ks).2.2.2.2 → g_goes (s_al false (w_comes (w_swi o ks).2.2.2.2 (w_em (w_swi o ks) 1 [] g))) q.2 = true) ∧ g_nx (s_al false (w_comes (w_swi o ks).2.2.2.2 (w_em (w_swi o ks) 1 [] g))) = g_nx g ∧ g_pl (s_al false (w_comes (w_swi o ks).2.2.2.2 (w_em (w_swi o ks) 1 [] g))) = g_pl g := by
  obtain ⟨ha, hov⟩ := (w_q_iff g).mp hq
  obtain ⟨ct, j⟩ := a.ac
  obtain ⟨lv1, lv2⟩ := a.live ha
  have c := j.1.1.2.2 hov
  have hl := (c.2.2.2.2.2 ha).1
  have tm : oTerm (w_swi o ks) = true := by unfold w_swi; cases w_dense ks <;> rfl
  have k1 : (w_swi o ks).1 = 22 ∨ (w_swi o ks).1 = 23 := by unfold w_swi; cases w_dense ks; exact Or.inr rfl; exact Or.inl rfl
  have byl := oSwi_by o ks (g_L g, g_st g) (g_it g)
  have shp : oShp (w_swi o ks) := ⟨fun q => by omega, fun q => by omega, fun _ => ⟨o, ks, hks, rfl⟩⟩
  generalize w_swi o ks = i at *
  have ty0 : w_ty i (g_L g, g_st g) (g_L g, (g_st g).drop 1) := by
    obtain ⟨t, r⟩ := i
    rcases k1 with k1 | k1
    · have k1 : t = 22 := k1
      subst k1; exact ⟨rfl, by show g_st g = 1 :: (g_st g).drop 1; rw [lv2]; rfl⟩
    · have k1 : t = 23 := k1
      subst k1; exact ⟨rfl, by show g_st g = 1 :: (g_st g).drop 1; rw [lv2]; rfl⟩
  have ty : oTy nt M res par ret (g_po g) i (g_L g, g_st g) (g_L g, (g_st g).drop 1) := by
    refine ⟨ty0, fun q => ?_, fun q => ?_, fun q => ?_, fun q => ?_, shp⟩ <;> omega
  have d1 : (g_st g).drop 1 = [] := by rw [lv2]; rfl
  have em : w_em i 1 [] g = s_ok (1 ≤ (g_st g).length) (s_ok (w_ty i (g_L g, g_st g) (g_L g, (g_st g).drop 1) ∧ (g_L g).length ≤ g_mx g ∧ ((g_st g).drop 1).length < 3370) ((i, (g_L g, g_st g)) :: g_it g, g_al g, g_ov g, (g_L g, (g_st g).drop 1), (g_nx g, g_mx g, max (g_ms g) ((g_st g).drop 1).length, g_ac g), (w_told (g_it g).length (g_pn g) (g_ln g), -1), g.2.2.2.2.2.2)) := by
    unfold w_em w_es; rw [hq]; rfl
  have oke : g_ok (w_em i 1 [] g) := by rw [em]; exact ⟨⟨j.1.1.1, ty0, hl, by rw [d1]; decide⟩, by rw [lv2]; decide⟩
  have fe : g_it (w_em i 1 [] g) = (i, (g_L g, g_st g)) :: g_it g ∧ g_ov (w_em i 1 [] g) = g_ov g ∧ g_L (w_em i 1 [] g) = g_L g ∧ g_st (w_em i 1 [] g) = [] ∧ g_nx (w_em i 1 [] g) = g_nx g ∧ g_mx (w_em i 1 [] g) = g_mx g ∧ g_ms (w_em i 1 [] g) = max (g_ms g) ((g_st g).drop 1).length ∧ g_ac (w_em i 1 [] g) = g_ac g ∧ g_pl (w_em i 1 [] g) = g_pl g ∧ g_cx (w_em i 1 [] g) = g_cx g ∧ g_rg (w_em i 1 [] g) = g_rg g ∧ g_po (w_em i 1 [] g) = g_po g ∧ g_nl (w_em i 1 [] g) = g_nl g ∧ g_lat (w_em i 1 [] g) = g_lat g ∧ g_lF (w_em i 1 [] g) = g_lF g ∧ g_lc (w_em i 1 [] g) = g_lc g ∧ g_goes (w_em i 1 [] g) = g_goes g := by
    rw [em]; exact ⟨rfl, rfl, rfl, d1, rfl, rfl, rfl, rfl, rfl, rfl, rfl, rfl, rfl, rfl, rfl, rfl, rfl⟩
  obtain ⟨e1, e2, e3, e4, e5, e6, e7, e8, e9, e10, e11, e12, e13, e14, e15, e16, e17⟩ := fe
  obtain ⟨⟨a1, a2, a3, a4, a5, a6, a7, a8, a9, a10, a11, a12, a13⟩, b1, b2, b3, b4, b5, b6, b7⟩ := oComes_f i.2.2.2.2 (w_em i 1 [] g)
  have okc := b6 oke (fun q hq => by
    obtain ⟨x1, x2, x3⟩ := hO q hq
    rw [e13, e3, e4, e15, x3]; exact ⟨x1, w_fit.rf _⟩)
  have bb := b7 (g_nl g)
  rw [e17] at b5 bb
  generalize w_em i 1 [] g = ge at *
  generalize w_comes i.2.2.2.2 ge = gc at *
  have F1 : g_it (s_al false gc) = (i, (g_L g, g_st g)) :: g_it g := a1.trans e1
  have b : oQb nt N M res par ret E 41 g (s_al false gc) := by
    refine oQb.gen j.1.1 hq (i := i) (F := (g_L g, [])) okc F1 (by show (g_L gc, g_st gc) = _; rw [a4, a5, e3, e4]) (b1.trans e13) (b2.trans e14) b5 (b3.trans e15) (a7.trans e6) (by show g_ms gc = _; rw [a8, e7, d1]) (fun _ => Nat.zero_le _) (a13.trans e12) (a12.trans e11) (by show false = _; rw [tm]; rfl) (b4.trans e16) (a9.trans e8) (by rw [← d1]; exact ty) (fun q hq => ?_) hl ?_
    · obtain ⟨x1, x2, x3⟩ := hO q hq
      exact ⟨⟨x1, rfl, fun j y => by rw [x2] at y; simp at y⟩, by rw [x3]; exact w_fit.rf _⟩
    · show 3 * w_cg (g_goes gc) (g_nl g) + g_by g ≤ 3 * w_cg (g_goes g) (g_nl g) + g_by (s_al false gc)
      unfold g_by; rw [F1]; omega
  have fr : g_ov (s_al false gc) = g_ov g ∧ g_ac (s_al false gc) = g_ac g ∧ g_lat (s_al false gc) = g_lat g ∧ g_pl (s_al false gc) = g_pl g ∧ g_cx (s_al false gc) = g_cx g ∧ g_nx (s_al false gc) = g_nx g := ⟨a3.trans e2, a9.trans e8, b2.trans e14, a10.trans e9, a11.trans e10, a6.trans e5⟩
  have gg : ∀ q, q ∈ i.2.2.2.2 → g_goes (s_al false gc) q.2 = true := fun q hq => (b5 q.2).mpr (Or.inl ⟨q, hq, rfl⟩)
  have al0 : g_al (s_al false gc) = false := rfl
  generalize s_al false gc = h at *
  obtain ⟨f1, f2, f3, f4, f5, f6⟩ := fr
  have ls : oLs (g_nl g) g h := oLs.of b.2.1 (fun x => by rw [f1]; exact x) (fun l _ _ => by rw [f3])
  have nw : oNw (g_L g) g h := oNw.one F1 (List.prefix_refl _)
  refine ⟨a.step w.2.2.1 (fun ct j => ?_) f5 ls (fun e he => nw.le ((we e he).trans lv1)) f4, ls, gg, f6, f4⟩
  have hm : m ≤ g_nl g := Nat.le_trans j.2.1.2.1.1 j.2.1.2.1.2.1
  have al := j.1.2.2.2.2.2 ha
  exact j.tr0 (z1 := 0) (j.1.step (Nat.le_refl _) w b f1 f2 (fun l _ _ => by rw [f3]) (oPl.eq f4) (fun e he => nw.le (al e he)) (fun q => by rw [al0] at q; exact absurd q (by decide)) hm) (fun q => by rw [al0] at q; exact absurd q (by decide)) (by rw [f6]; exact j.2.2.2)
end
