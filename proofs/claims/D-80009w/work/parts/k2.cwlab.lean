/-! CodeWriter: labels and jumps -/
def yz (k j : Nat) : Bool := match k with
  | 0 => [37, 38].elem j
  | 36 => true
  | 37 => true
  | _ => false
theorem yz_yw {pf lf : Nat} {x y : mj_X} (f : yfr yz 0 x y) (e2 : y.2 = x.2) : yfr (yw pf lf) pf x y := ⟨fun k j hz => f.1 k j (by
  unfold yw at hz
  unfold yz
  split
  · simp at hz ⊢; omega
  · simp at hz
  · simp at hz
  · rfl), fun k j _ => by rw [e2]⟩
section
variable {nt : sp_NT} {N : Nat} {P : yP} {X : List (Nat × Bool)} {b : Nat} {lm lm' : Nat → Nat} {lv lv' : Nat → Bool} {x y : mj_X} {g h G H : wG}
theorem e_label {d nl u : Nat} (hd : 1 ≤ d) (a : yL X nl lm lv x u) (hu : u ≤ 49980) : ∃ i x', kX0 d 64 [.ref 0] x = some (some (.int (nI i)), x') ∧ yL ((i, true) :: X) nl lm lv x' (u + 1) ∧ yfr yz 0 x x' ∧ x'.2 = x.2 ∧ x'.1 36 i = -1 ∧ x'.1 37 i = 0 ∧ ∀ j, j ≠ i → x'.1 36 j = x.1 36 j ∧ x'.1 37 j = x.1 37 j := by
  obtain ⟨d, rfl⟩ : ∃ c, d = c + 1 := ⟨d - 1, by omega⟩
  obtain ⟨fr, L, l1, l2, l3, l4, l5, l6, l7, l8, l9⟩ := a
  rw [eX0_label]
  cases fr with
  | nil =>
    have l3 : x.1 0 38 = -1 := l3
    have l6 : L ≤ u + 0 := l6
    have hX : ∀ p, p ∈ X → p.1 ≠ L := fun p hp e => by have := l5 p.1 (by simp only [List.nil_append]; exact List.mem_map_of_mem hp); omega
    rw [if_pos l3, l1, nI_1, bX0_label_35, mj_g_k (mj_in_nI (by omega) (by omega)), mj_g_k (mj_in_nI (by omega) (by omega)), nI_clamp (by omega)]
    refine ⟨L, _, rfl, ⟨[], L + 1, rfl, by omega, l3, ?_, ?_, by simp only [List.length_nil]; omega, ?_, l8, ?_⟩, (((yfr.rf _ _ _).w _ rfl).w _ rfl).w _ rfl, rfl, ?_, ?_, fun j hj => ⟨?_, ?_⟩⟩
    · show (L :: X.map Prod.fst).Nodup
      refine List.nodup_cons.mpr ⟨fun q => ?_, l4⟩
      obtain ⟨p, p1, p2⟩ := List.mem_map.mp q
      exact hX p p1 p2
    · intro f hf
      rcases List.mem_cons.mp hf with rfl | hf
      · exact Nat.lt_succ_self _
      · have := l5 f hf; omega
    · intro l hl hv
      obtain ⟨q1, q2⟩ := l7 l hl hv
      refine ⟨by omega, fun q => ?_⟩
      rcases List.mem_cons.mp q with q | q
      · have q : lm l = L := q
        omega
      · exact q2 q
    · intro p hp
      show upd (x.1 37) L 0 p.1 = 0
      rcases List.mem_cons.mp hp with rfl | hp
      · exact pk_us
      · rw [pk_un (hX p hp)]; exact l9 p hp
    · exact pk_us
    · exact pk_us
    · exact pk_un hj
    · exact pk_un hj
  | cons f r =>
    obtain ⟨c1, c2⟩ := l3
    have hf := l5 f (by simp)
    have nd := List.nodup_cons.mp (show (f :: (r ++ X.map Prod.fst)).Nodup from l4)
    have fX : ∀ p, p ∈ X → p.1 ≠ f := fun p hp e => nd.1 (by rw [← e]; exact List.mem_append.mpr (Or.inr (List.mem_map_of_mem hp)))
    rw [if_neg (by rw [c1]; exact nI_nm1 (by omega)), c1, mj_g_k (mj_in_nI (by omega) (by omega)), nI_clamp (by omega), bX0_label_35, mj_g_k (mj_in_nI (by omega) (by omega)), mj_g_k (mj_in_nI (by omega) (by omega)), nI_clamp (by omega)]
    refine ⟨f, _, rfl, ⟨r, L, l1, l2, ?_, ?_, ?_, by simp only [List.length_cons] at l6; omega, ?_, l8, ?_⟩, (((yfr.rf _ _ _).w _ rfl).w _ rfl).w _ rfl, rfl, ?_, ?_, fun j hj => ⟨?_, ?_⟩⟩
    · show y_ch (upd (x.1 36) f (-1)) (x.1 36 f) r
      exact c2.un (fun q => nd.1 (List.mem_append.mpr (Or.inl q)))
    · show (r ++ f :: X.map Prod.fst).Nodup
      exact (List.perm_middle.nodup_iff).mpr l4
    · intro j hj
      exact l5 j ((List.perm_middle.mem_iff).mp hj)
    · intro l hl hv
      obtain ⟨q1, q2⟩ := l7 l hl hv
      exact ⟨q1, fun q => q2 ((List.perm_middle.mem_iff).mp q)⟩
    · intro p hp
      show upd (x.1 37) f 0 p.1 = 0
      rcases List.mem_cons.mp hp with rfl | hp
      · exact pk_us
      · rw [pk_un (fX p hp)]; exact l9 p hp
    · exact pk_us
    · exact pk_us
    · exact pk_un hj
    · exact pk_un hj
/-- a held label becomes one of S -/
theorem yL.adopt {nl u i : Nat} {f : Bool} (a : yL ((i, f) :: X) nl lm lv x u) : yL X (nl + 1) (fun l => if l = nl then i else lm l) (fun l => if l = nl then true else lv l) x u := by
  obtain ⟨fr, L, l1, l2, l3, l4, l5, l6, l7, l8, l9⟩ := a
  have nd : (i :: (fr ++ X.map Prod.fst)).Nodup := (List.perm_middle.nodup_iff).mp l4
  obtain ⟨n1, n2⟩ := List.nodup_cons.mp nd
  have mem : ∀ j, j ∈ fr ++ X.map Prod.fst → j ∈ fr ++ ((i, f) :: X).map Prod.fst := fun j hj => (List.perm_middle.mem_iff).mpr (List.mem_cons_of_mem _ hj)
  have memi : i ∈ fr ++ ((i, f) :: X).map Prod.fst := (List.perm_middle.mem_iff).mpr (List.mem_cons_self ..)
  refine ⟨fr, L, l1, l2, l3, n2, fun j hj => l5 j (mem j hj), l6, fun l hl hv => ?_, fun l l' hl hl' hv hv' he => ?_, fun p hp => l9 p (List.mem_cons_of_mem _ hp)⟩
  · have hv : (if l = nl then true else lv l) = true := hv
    show (if l = nl then i else lm l) < L ∧ (if l = nl then i else lm l) ∉ _
    by_cases q : l = nl
    · rw [if_pos q]; exact ⟨l5 i memi, n1⟩
    · rw [if_neg q] at hv ⊢
      obtain ⟨q1, q2⟩ := l7 l (by omega) hv
      exact ⟨q1, fun z => q2 (mem _ z)⟩
  · have hv : (if l = nl then true else lv l) = true := hv
    have hv' : (if l' = nl then true else lv l') = true := hv'
    have he : (if l = nl then i else lm l) = (if l' = nl then i else lm l') := he
    by_cases q : l = nl
    · by_cases q' : l' = nl
      · omega
      · rw [if_pos q, if_neg q'] at he
        rw [if_neg q'] at hv'
        exact absurd (show lm l' ∈ fr ++ ((i, f) :: X).map Prod.fst by rw [← he]; exact memi) (l7 l' (by omega) hv').2
    · rw [if_neg q] at hv he
      by_cases q' : l' = nl
      · rw [if_pos q'] at he
        exact absurd (show lm l ∈ fr ++ ((i, f) :: X).map Prod.fst by rw [he]; exact memi) (l7 l (by omega) hv).2
      · rw [if_neg q'] at hv' he
        exact l8 l l' (by omega) (by omega) hv hv' he
/-- a label of S is held apart from it -/
theorem yL.drop {nl u l : Nat} (a : yL X nl lm lv x u) (hl : l < nl) (hv : lv l = true) (h0 : x.1 37 (lm l) = 0) : yL ((lm l, false) :: X) nl lm (fun k => if k = l then false else lv k) x u := by
  obtain ⟨fr, L, l1, l2, l3, l4, l5, l6, l7, l8, l9⟩ := a
  obtain ⟨q1, q2⟩ := l7 l hl hv
  refine ⟨fr, L, l1, l2, l3, (List.perm_middle.nodup_iff).mpr (List.nodup_cons.mpr ⟨q2, l4⟩), fun j hj => ?_, l6, fun k hk hv' => ?_, fun k k' hk hk' hv1 hv2 he => ?_, fun p hp => ?_⟩
  · rcases List.mem_cons.mp ((List.perm_middle.mem_iff).mp hj) with rfl | hj
    · exact q1
    · exact l5 j hj
  · have hv' : (if k = l then false else lv k) = true := hv'
    by_cases e : k = l
    · rw [if_pos e] at hv'; cases hv'
    · rw [if_neg e] at hv'
      obtain ⟨p1, p2⟩ := l7 k hk hv'
      refine ⟨p1, fun z => ?_⟩
      rcases List.mem_cons.mp ((List.perm_middle.mem_iff).mp z) with z | z
      · exact e (l8 k l hk hl hv' hv z)
      · exact p2 z
  · have hv1 : (if k = l then false else lv k) = true := hv1
    have hv2 : (if k' = l then false else lv k') = true := hv2
    by_cases e : k = l
    · rw [if_pos e] at hv1; cases hv1
    · by_cases e' : k' = l
      · rw [if_pos e'] at hv2; cases hv2
      · rw [if_neg e] at hv1; rw [if_neg e'] at hv2; exact l8 k k' hk hk' hv1 hv2 he
  · rcases List.mem_cons.mp hp with rfl | hp
    · exact h0
    · exact l9 p hp
/-- a held label that nothing jumps to is free -/
theorem yL.free {nl u u' i : Nat} {f : Bool} (a : yL ((i, f) :: X) nl lm lv x u) (hu : u ≤ u' + 1) : yL X nl lm lv (mj_wI (mj_wI x 36 i (x.1 0 38)) 0 38 (nI i)) u' := by
  obtain ⟨fr, L, l1, l2, l3, l4, l5, l6, l7, l8, l9⟩ := a
  have nd : (i :: (fr ++ X.map Prod.fst)).Nodup := (List.perm_middle.nodup_iff).mp l4
  have n1 := (List.nodup_cons.mp nd).1
  have mem : ∀ j, j ∈ (i :: fr) ++ X.map Prod.fst ↔ j ∈ fr ++ ((i, f) :: X).map Prod.fst := fun j => ((List.perm_middle (l₁ := fr) (a := i) (l₂ := X.map Prod.fst)).mem_iff).symm
  refine ⟨i :: fr, L, l1, l2, ⟨rfl, ?_⟩, nd, fun j hj => l5 j ((mem j).mp hj), by simp only [List.length_cons]; omega, fun l hl hv => ?_, l8, fun p hp => l9 p (List.mem_cons_of_mem _ hp)⟩
  · show y_ch (upd (x.1 36) i (x.1 0 38)) (upd (x.1 36) i (x.1 0 38) i) fr
    rw [pk_us]
    exact l3.un (fun q => n1 (List.mem_append.mpr (Or.inl q)))
  · obtain ⟨q1, q2⟩ := l7 l hl hv
    exact ⟨q1, fun z => q2 ((mem _).mp z)⟩
/-- writes to a held label's place leave the free ones alone -/
theorem yL.at36 {nl u i : Nat} {v : Int32} (a : yL X nl lm lv x u) (hi : (∃ l, l < nl ∧ lv l = true ∧ lm l = i) ∨ ∃ p, p ∈ X ∧ p.1 = i) : yL X nl lm lv (mj_wI x 36 i v) u := by
  obtain ⟨fr, L, l1, l2, l3, l4, l5, l6, l7, l8, l9⟩ := a
  have hf : i ∉ fr := by
    rcases hi with ⟨l, q1, q2, rfl⟩ | ⟨p, q1, rfl⟩
    · exact fun z => (l7 l q1 q2).2 (List.mem_append.mpr (Or.inl z))
    · exact fun z => (List.nodup_append.mp l4).2.2 _ z _ (List.mem_map_of_mem q1) rfl
  exact ⟨fr, L, l1, l2, l3.un hf, l4, l5, l6, l7, l8, l9⟩
theorem yL.at37 {nl u l : Nat} {v : Int32} (a : yL X nl lm lv x u) (hl : l < nl) (hv : lv l = true) : yL X nl lm lv (mj_wI x 37 (lm l) v) u := by
  obtain ⟨fr, L, l1, l2, l3, l4, l5, l6, l7, l8, l9⟩ := a
  refine ⟨fr, L, l1, l2, l3, l4, l5, l6, l7, l8, fun p hp => ?_⟩
  show upd (x.1 37) (lm l) v p.1 = 0
  rw [pk_un (fun e => (l7 l hl hv).2 (by rw [← e]; exact List.mem_append.mpr (Or.inr (List.mem_map_of_mem hp))))]
  exact l9 p hp
theorem yL.lt {nl u l : Nat} (a : yL X nl lm lv x u) (hl : l < nl) (hv : lv l = true) : lm l < 49990 := by
  obtain ⟨fr, L, l1, l2, l3, l4, l5, l6, l7, l8, l9⟩ := a
  have := (l7 l hl hv).1; omega
/-- what the exact relation reads of S -/
def ySame (g G : wG) : Prop := g_ov G = g_ov g ∧ g_al G = g_al g ∧ g_it G = g_it g ∧ g_nl G = g_nl g ∧ g_lat G = g_lat g ∧ g_goes G = g_goes g ∧ g_us G = g_us g ∧ g_po G = g_po g ∧ g_ln G = g_ln g ∧ g_pn G = g_pn g
theorem y1.same (a : y1 P X lm lv x g) (s : ySame g G) : y1 P X lm lv x G := by
  obtain ⟨s1, s2, s3, s4, s5, s6, s7, s8, s9, s10⟩ := s
  unfold y1 yV at *
  rw [s1, s2, s3, s4, s5, s6, s7, s8, s9, s10]; exact a
theorem y_po.same {pf : Nat} (h18 : y.1 18 = x.1 18) (h19 : y.1 19 = x.1 19) (h2 : y.2 = x.2) : ∀ l : List (Nat × Int64), y_po pf x l → y_po pf y l := by
  intro l
  induction l with
  | nil => intro _; trivial
  | cons a r ih => intro h; refine ⟨?_, ih h.2⟩; rw [h18, h19, h2]; exact h.1
/-! a label is put -/
theorem Y1.al0 (a : Y1 nt N P X b lm lv x g) : Y1 nt N P X b lm lv (mj_wI x 0 30 0) (s_al false g) := by
  have f : yfr (yw (p_pf P) (p_lf P)) (p_pf P) x (mj_wI x 0 30 0) := (yfr.rf _ _ _).w _ rfl
  refine ⟨a.1.fr f, a.2.1, a.2.2.1, ?_⟩
  rcases a.2.2.2 with ⟨h0, hL, o1, o2, o3, o4, o5, o6, o7, ⟨p1, p2, p3, p4⟩, o9⟩ | ⟨⟨m1, m2, m3⟩, hL, ho⟩
  · exact Or.inl ⟨h0, hL, o1, o2, rfl, o4, o5, o6, o7, ⟨p1, p2, p3, (by refine y_po.same (x := x) ?_ ?_ ?_ _ p4 <;> rfl)⟩, o9⟩
  · exact Or.inr ⟨⟨m1, ⟨false, rfl⟩, m3⟩, hL, ho.mono ((wM.rf g).s_al _)⟩
/-! a new label -/
theorem c_lb {d : Nat} (hd : 1 ≤ d) {F : wF} (a : Y1 nt N P X b lm lv x g) (h29 : x.1 0 29 = 0) (hok : g_ok (w_lb F g)) : ∃ i x', kX0 d 64 [.ref 0] x = some (some (.int (nI i)), x') ∧ Y1 nt N P X b (fun l => if l = g_nl g then i else lm l) (fun l => if l = g_nl g then true else lv l) x' (w_lb F g) ∧ yfr (yw (p_pf P) (p_lf P)) (p_pf P) x x' ∧ x'.1 0 29 = 0 ∧ yT x g x' (w_lb F g) := by
  obtain ⟨hL, o1, o2, o3, o4, ⟨b1, b2, b3, b4⟩, o6, ⟨v1, v2, v3, v4⟩, o8_, o9⟩ := a.ex h29
  have hus : g_us g < 45000 := ((hok.2).2 (Nat.le_trans (w_by_nw w_z w_z (p_w P) (g_it g)) b2)).1
  have hb := a.2.1
  have hb2 := a.2.2.1
  obtain ⟨i, x', e, hL', f, f2, h36, h37, hj⟩ := e_label hd hL (by omega)
  have ef := f.1
  have fy := yz_yw (pf := p_pf P) (lf := p_lf P) f f2
  have him : ∀ l, l < g_nl g → lv l = true → lm l ≠ i := by
    obtain ⟨fr, L, l1, l2, l3, l4, l5, l6, l7, l8, l9⟩ := hL'
    exact fun l hl hv z => (l7 l hl hv).2 (by rw [z]; exact List.mem_append.mpr (Or.inr (List.mem_cons_self ..)))
  have hiX : ∀ p, p ∈ X → p.1 ≠ i := by
    obtain ⟨fr, L, l1, l2, l3, l4, l5, l6, l7, l8, l9⟩ := hL'
    have := (List.nodup_cons.mp (List.nodup_append.mp l4).2.1).1
    exact fun p hp z => this (by show i ∈ X.map Prod.fst; rw [← z]; exact List.mem_map_of_mem hp)
  refine ⟨i, x', e, ⟨a.1.fr fy, hb, hb2, Or.inl ⟨(ef 0 29 rfl).trans h29, ?_, ?_⟩⟩, fy, (ef 0 29 rfl).trans h29, yT.rf rfl (ef 0 48 rfl) (ef 0 47 rfl)⟩
  · have := hL'.adopt
    show yL X (g_nl g + 1) _ _ x' (g_us g + 1 + X.length)
    rw [show g_us g + 1 + X.length = g_us g + X.length + 1 by omega]; exact this
  · have E : ∀ k, k ≠ 0 → k ≠ 36 → k ≠ 37 → x'.1 k = x.1 k := fun k h1 h2 h3 => funext fun j => ef k j (by unfold yz; split; exact absurd rfl h1; exact absurd rfl h2; exact absurd rfl h3; rfl)
    refine ⟨o1, hus, (ef 0 30 rfl).trans o3, (ef 0 31 rfl).trans o4, ⟨(ef 0 28 rfl).trans b1, b2, b3, by rw [E 28 (by decide) (by decide) (by decide)]; exact b4⟩, ?_, ⟨fun l hl hv => ?_, fun l hl hg => ?_, fun l j hl hj' => ?_, fun p hp hf => ?_⟩, ?_, ?_⟩
    · obtain ⟨p1, p2, p3, p4⟩ := o6
      refine ⟨(ef 0 42 rfl).trans p1, p2, fun q hq => Nat.lt_succ_of_lt (p3 q hq), ?_⟩
      rw [E 40 (by decide) (by decide) (by decide), E 41 (by decide) (by decide) (by decide), E 42 (by decide) (by decide) (by decide)]
      refine p4.mono (fun k q _ hq hh => ?_)
      have := p3 q hq
      show _ ∧ _ ∧ _ = nI (if q.2.2.1 = g_nl g then i else lm q.2.2.1)
      rw [if_neg (by omega)]; exact hh
    · have hl : l < g_nl g + 1 := hl
      have hv : (if l = g_nl g then true else lv l) = true := hv
      show x'.1 36 (if l = g_nl g then i else lm l) = z_lo (p_w P) (g_it g) (if l = g_nl g then none else g_lat g l) ∧ x'.1 37 (if l = g_nl g then i else lm l) = sp_b (if l = g_nl g then false else g_goes g l)
      by_cases q : l = g_nl g
      · rw [if_pos q, if_pos q, if_pos q]; exact ⟨h36, h37⟩
      · rw [if_neg q] at hv
        rw [if_neg q, if_neg q, if_neg q]
        have hj' := hj (lm l) (him l (by omega) hv)
        rw [hj'.1, hj'.2]; exact v1 l (by omega) hv
    · have hl : l < g_nl g + 1 := hl
      have hg : (if l = g_nl g then false else g_goes g l) = true := hg
      show (if l = g_nl g then true else lv l) = true
      by_cases q : l = g_nl g
      · rw [if_pos q]
      · rw [if_neg q] at hg ⊢; exact v2 l (by omega) hg
    · have hl : l < g_nl g + 1 := hl
      have hj' : (if l = g_nl g then none else g_lat g l) = some j := hj'
      by_cases q : l = g_nl g
      · rw [if_pos q] at hj'; cases hj'
      · rw [if_neg q] at hj'; exact v3 l j (by omega) hj'
    · rw [(hj p.1 (hiX p hp)).1]; exact v4 p hp hf
    · obtain ⟨p1, p2, p3, p4⟩ := o8_
      refine ⟨(ef 0 43 rfl).trans p1, (ef 0 44 rfl).trans p2, p3, ?_⟩
      have key : ∀ l : List (Nat × Int64), y_po (p_pf P) x l → y_po (p_pf P) x' l := by
        intro l
        induction l with
        | nil => intro _; trivial
        | cons a r ih => intro h; refine ⟨?_, ih h.2⟩; rw [E 18 (by decide) (by decide) (by decide), E 19 (by decide) (by decide) (by decide), f2]; exact h.1
      exact key _ p4
    · unfold yN at *
      rw [ef 0 46 rfl, ef 0 47 rfl, ef 0 48 rfl, E 24 (by decide) (by decide) (by decide)]; exact o9
theorem w_put_f (l : Nat) (g : wG) : ySame g (s_lb (g_nl g, g_lat g, g_goes g, g_lF g, g_lc g) g) := ⟨rfl, rfl, rfl, rfl, rfl, rfl, rfl, rfl, rfl, rfl⟩
theorem w_put_s {l : Nat} {g : wG} : g_ov (w_put l g) = g_ov g ∧ g_al (w_put l g) = (g_al g || g_goes g l) ∧ g_it (w_put l g) = g_it g ∧ g_nl (w_put l g) = g_nl g ∧ g_lat (w_put l g) = (fun k => if k = l then some (g_it g).length else g_lat g k) ∧ g_goes (w_put l g) = g_goes g ∧ g_us (w_put l g) = g_us g ∧ g_po (w_put l g) = g_po g ∧ g_ln (w_put l g) = g_ln g ∧ g_pn (w_put l g) = g_pn g ∧ g_pl (w_put l g) = g_pl g := by
  unfold w_put
  cases h1 : g_al g
  · cases h2 : g_goes g l
    · simp only [cond_false, Bool.or_false]; exact ⟨rfl, h1, rfl, rfl, rfl, rfl, rfl, rfl, rfl, rfl, rfl⟩
    · simp only [cond_false, cond_true, Bool.or_true]; exact ⟨rfl, rfl, rfl, rfl, rfl, rfl, rfl, rfl, rfl, rfl, rfl⟩
  · simp only [cond_true, Bool.true_or]; exact ⟨rfl, h1, rfl, rfl, rfl, rfl, rfl, rfl, rfl, rfl, rfl⟩
theorem c_put {d l : Nat} (hd : 1 ≤ d) (a : Y1 nt N P X b lm lv x g) (hl : l < g_nl g) (hv : lv l = true) : ∃ x', kX0 d 71 [.ref 0, .int (nI (lm l))] x = some (none, x') ∧ Y1 nt N P X b lm lv x' (w_put l g) ∧ yfr (yw (p_pf P) (p_lf P)) (p_pf P) x x' ∧ (x'.1 0 29 = 0 → x.1 0 29 = 0 ∧ yT x g x' (w_put l g)) := by
  obtain ⟨d, rfl⟩ : ∃ c, d = c + 1 := ⟨d - 1, by omega⟩
  have hlt : lm l < 49990 := by
    rcases a.2.2.2 with ⟨-, hL, -⟩ | ⟨-, hL, -⟩
    · exact hL.lt hl hv
    · exact hL.lt hl hv
  obtain ⟨s1, s2, s3, s4, s5, s6, s7, s8, s9, s10, s11⟩ := w_put_s (l := l) (g := g)
  -- the heap behind it
  have fin : ∀ al : Bool, (x.1 0 29 = 0 → al = (g_al g || g_goes g l)) → Y1 nt N P X b lm lv (mj_wI (mj_wI x 36 (lm l) (x.1 0 28)) 0 30 (sp_b al)) (w_put l g) ∧ yfr (yw (p_pf P) (p_lf P)) (p_pf P) x (mj_wI (mj_wI x 36 (lm l) (x.1 0 28)) 0 30 (sp_b al)) ∧ ((mj_wI (mj_wI x 36 (lm l) (x.1 0 28)) 0 30 (sp_b al)).1 0 29 = 0 → x.1 0 29 = 0 ∧ yT x g (mj_wI (mj_wI x 36 (lm l) (x.1 0 28)) 0 30 (sp_b al)) (w_put l g)) := by
    intro al hal
    have f : yfr (yw (p_pf P) (p_lf P)) (p_pf P) x (mj_wI (mj_wI x 36 (lm l) (x.1 0 28)) 0 30 (sp_b al)) := ((yfr.rf _ _ _).w _ rfl).w _ rfl
    refine ⟨⟨by rw [s11]; exact a.1.fr f, a.2.1, a.2.2.1, ?_⟩, f, fun z => ⟨z, yT.rf s3 rfl rfl⟩⟩
    rw [s4, s7]
    rcases a.2.2.2 with ⟨h0, hL, o1, o2, o3, o4, ⟨b1, b2, b3, b4⟩, o6, ⟨v1, v2, v3, v4⟩, o8_, o9⟩ | ⟨⟨m1, m2, m3⟩, hL, ho⟩
    · refine Or.inl ⟨h0, (hL.at36 (Or.inl ⟨l, hl, hv, rfl⟩)).fr rfl rfl rfl rfl, ?_⟩
      unfold y1
      rw [s1, s2, s3, s4, s7, s8, s9, s10]
      refine ⟨o1, o2, by show sp_b al = _; rw [hal h0], o4, ⟨b1, b2, b3, b4⟩, o6, ?_, ⟨o8_.1, o8_.2.1, o8_.2.2.1, (by refine y_po.same (x := x) ?_ ?_ ?_ _ o8_.2.2.2 <;> rfl)⟩, o9⟩
      unfold yV
      rw [s4, s5, s6]
      have hm : ∀ k, k < g_nl g → lv k = true → k ≠ l → lm k ≠ lm l := by
        obtain ⟨fr, L, l1, l2, l3, l4, l5, l6, l7, l8, l9⟩ := hL
        exact fun k hk hkv hkl e => hkl (l8 k l hk hl hkv hv e)
      refine ⟨fun k hk hkv => ?_, v2, fun k j hk hj => ?_, fun p hp hf => ?_⟩
      · show upd (x.1 36) (lm l) (x.1 0 28) (lm k) = z_lo (p_w P) (g_it g) (if k = l then some (g_it g).length else g_lat g k) ∧ x.1 37 (lm k) = _
        by_cases e : k = l
        · rw [e, pk_us, if_pos rfl, b1]
          refine ⟨?_, (v1 l hl hv).2⟩
          show _ = nI (w_at (p_w P) (g_it g) (g_it g).length)
          rw [w_at_len]
        · rw [pk_un (hm k hk hkv e), if_neg e]; exact v1 k hk hkv
      · have hj : (if k = l then some (g_it g).length else g_lat g k) = some j := hj
        by_cases e : k = l
        · rw [if_pos e] at hj; injection hj with hj; omega
        · rw [if_neg e] at hj; exact v3 k j hk hj
      · show upd (x.1 36) (lm l) (x.1 0 28) p.1 = -1
        have : p.1 ≠ lm l := by
          obtain ⟨fr, L, l1, l2, l3, l4, l5, l6, l7, l8, l9⟩ := hL
          exact fun e => (l7 l hl hv).2 (by rw [← e]; exact List.mem_append.mpr (Or.inr (List.mem_map_of_mem hp)))
        rw [pk_un this]; exact v4 p hp hf
    · exact Or.inr ⟨⟨m1, ⟨al, rfl⟩, m3⟩, (hL.at36 (Or.inl ⟨l, hl, hv, rfl⟩)).fr rfl rfl rfl rfl, ho.mono ((wM.rf g).put l)⟩
  rw [eX0_put, nI_clamp (by omega), mj_g_k (mj_in_nI (by omega) (by omega)), mj_g_k (mj_in_nI (by omega) (by omega))]
  have ex : x.1 0 29 = 0 → x.1 0 30 = sp_b (g_al g) ∧ x.1 37 (lm l) = sp_b (g_goes g l) := by
    intro h0
    obtain ⟨-, o⟩ := a.ex h0
    exact ⟨o.2.2.1, (o.2.2.2.2.2.2.1.1 l hl hv).2⟩
  by_cases h30 : x.1 0 30 = 0
  · rw [if_pos h30]
    by_cases h37 : x.1 37 (lm l) = 0
    · rw [if_pos h37]
      refine ⟨_, rfl, fin false (fun h0 => ?_)⟩
      obtain ⟨e1, e2⟩ := ex h0
      rw [h30] at e1; rw [h37] at e2
      cases q1 : g_al g
      · cases q2 : g_goes g l
        · rfl
        · rw [q2] at e2; exact absurd e2 (by decide)
      · rw [q1] at e1; exact absurd e1 (by decide)
    · rw [if_neg h37]
      refine ⟨_, rfl, fin true (fun h0 => ?_)⟩
      obtain ⟨e1, e2⟩ := ex h0
      cases q2 : g_goes g l
      · rw [q2] at e2; exact absurd e2 h37
      · simp
  · rw [if_neg h30]
    refine ⟨_, rfl, fin true (fun h0 => ?_)⟩
    obtain ⟨e1, e2⟩ := ex h0
    cases q1 : g_al g
    · rw [q1] at e1; exact absurd e1 h30
    · simp
/-! a label is sealed -/
theorem c_sl {d l : Nat} (hd : 1 ≤ d) (bb : Bool) (a : Y1 nt N P X b lm lv x g) (hl : l < g_nl g) (hv : lv l = true) : ∃ lv' x', kX0 d 72 [.ref 0, .int (nI (lm l))] x = some (none, x') ∧ Y1 nt N P X b lm lv' x' (w_sl bb l g) ∧ (∀ k, k ≠ l → lv' k = lv k) ∧ yfr (yw (p_pf P) (p_lf P)) (p_pf P) x x' ∧ (x'.1 0 29 = 0 → x.1 0 29 = 0 ∧ yT x g x' (w_sl bb l g)) := by
  obtain ⟨d, rfl⟩ : ∃ c, d = c + 1 := ⟨d - 1, by omega⟩
  have hlt : lm l < 49990 := by
    rcases a.2.2.2 with ⟨-, hL, -⟩ | ⟨-, hL, -⟩
    · exact hL.lt hl hv
    · exact hL.lt hl hv
  have t1 : g_it (w_sl bb l g) = g_it g := by unfold w_sl; cases g_goes g l <;> rfl
  have t2 : g_nl (w_sl bb l g) = g_nl g := by unfold w_sl; cases g_goes g l <;> rfl
  have t3 : g_pl (w_sl bb l g) = g_pl g := by unfold w_sl; cases g_goes g l <;> rfl
  rw [eX0_seal, nI_clamp (by omega), mj_g_k (mj_in_nI (by omega) (by omega)), mj_g_k (mj_in_nI (by omega) (by omega))]
  have f : yfr (yw (p_pf P) (p_lf P)) (p_pf P) x (mj_wI (mj_wI x 36 (lm l) (x.1 0 38)) 0 38 (nI (lm l))) := ((yfr.rf _ _ _).w _ rfl).w _ rfl
  by_cases h37 : x.1 37 (lm l) = 0
  · rw [if_pos h37]
    refine ⟨fun k => if k = l then false else lv k, _, rfl, ⟨by rw [t3]; exact a.1.fr f, a.2.1, a.2.2.1, ?_⟩, fun k hk => if_neg hk, f, fun z => ⟨z, yT.rf t1 rfl rfl⟩⟩
    rw [t2]
    rcases a.2.2.2 with ⟨h0, hL, o1, o2, o3, o4, ⟨b1, b2, b3, b4⟩, o6, ⟨v1, v2, v3, v4⟩, o8_, o9⟩ | ⟨⟨m1, m2, m3⟩, hL, ho⟩
    · have hg : g_goes g l = false := by
        have := (v1 l hl hv).2
        rw [h37] at this
        cases q : g_goes g l
        · rfl
        · rw [q] at this; exact absurd this (by decide)
      have E : w_sl bb l g = s_ok (g_fm g < 3999) (s_lb (g_nl g, g_lat g, g_goes g, g_lF g, (g_us g - 1, g_n1 g, bif bb then g_fm g + 1 else g_fm g)) g) := by unfold w_sl; rw [hg]; rfl
      refine Or.inl ⟨h0, ?_, ?_⟩
      · rw [E]
        exact (hL.drop hl hv h37).free (by show g_us g + X.length ≤ (g_us g - 1) + X.length + 1; omega)
      · rw [E]
        have hm : ∀ k, k < g_nl g → lv k = true → k ≠ l → lm k ≠ lm l := by
          obtain ⟨fr, L, l1, l2, l3, l4, l5, l6, l7, l8, l9⟩ := hL
          exact fun k hk hkv hkl e => hkl (l8 k l hk hl hkv hv e)
        refine ⟨o1, Nat.le_trans (Nat.sub_le _ _) o2, o3, o4, ⟨b1, b2, b3, b4⟩, o6, ⟨fun k hk hkv => ?_, fun k hk hkg => ?_, v3, fun p hp hf => ?_⟩, ⟨o8_.1, o8_.2.1, o8_.2.2.1, (by refine y_po.same (x := x) ?_ ?_ ?_ _ o8_.2.2.2 <;> rfl)⟩, o9⟩
        · have hkv : (if k = l then false else lv k) = true := hkv
          by_cases e : k = l
          · rw [if_pos e] at hkv; cases hkv
          · rw [if_neg e] at hkv
            show upd (x.1 36) (lm l) (x.1 0 38) (lm k) = _ ∧ x.1 37 (lm k) = _
            rw [pk_un (hm k hk hkv e)]; exact v1 k hk hkv
        · have hkg : g_goes g k = true := hkg
          show (if k = l then false else lv k) = true
          by_cases e : k = l
          · rw [e, hg] at hkg; cases hkg
          · rw [if_neg e]; exact v2 k hk hkg
        · show upd (x.1 36) (lm l) (x.1 0 38) p.1 = -1
          have : p.1 ≠ lm l := by
            obtain ⟨fr, L, l1, l2, l3, l4, l5, l6, l7, l8, l9⟩ := hL
            exact fun e => (l7 l hl hv).2 (by rw [← e]; exact List.mem_append.mpr (Or.inr (List.mem_map_of_mem hp)))
          rw [pk_un this]; exact v4 p hp hf
    · exact Or.inr ⟨⟨m1, m2, m3⟩, (hL.drop hl hv h37).free (Nat.le_succ _), ho.mono ((wM.rf g).sl bb l)⟩
  · rw [if_neg h37]
    refine ⟨lv, x, rfl, ⟨by rw [t3]; exact a.1, a.2.1, a.2.2.1, ?_⟩, fun _ _ => rfl, yfr.rf _ _ _, fun z => ⟨z, yT.rf t1 rfl rfl⟩⟩
    rw [t2]
    rcases a.2.2.2 with ⟨h0, hL, o⟩ | ⟨m, hL, ho⟩
    · have hg : g_goes g l = true := by
        have := (o.2.2.2.2.2.2.1.1 l hl hv).2
        cases q : g_goes g l
        · rw [q] at this; exact absurd this h37
        · rfl
      have E : w_sl bb l g = g := by unfold w_sl; rw [hg]; rfl
      rw [E]; exact Or.inl ⟨h0, hL, o⟩
    · exact Or.inr ⟨m, hL, ho.mono ((wM.rf g).sl bb l)⟩
theorem c_pl {d l : Nat} (hd : 2 ≤ d) (bb : Bool) (a : Y1 nt N P X b lm lv x g) (hl : l < g_nl g) (hv : lv l = true) : ∃ lv' x', kX0 d 70 [.ref 0, .int (nI (lm l))] x = some (none, x') ∧ Y1 nt N P X b lm lv' x' (w_sl bb l (w_put l g)) ∧ (∀ k, k ≠ l → lv' k = lv k) ∧ yfr (yw (p_pf P) (p_lf P)) (p_pf P) x x' ∧ (x'.1 0 29 = 0 → x.1 0 29 = 0 ∧ yT x g x' (w_sl bb l (w_put l g))) := by
  obtain ⟨d, rfl⟩ : ∃ c, d = c + 1 := ⟨d - 1, by omega⟩
  obtain ⟨x1, e1, a1, f1, t1⟩ := c_put (d := d) (by omega) a hl hv
  obtain ⟨lv2, x2, e2, a2, l2, f2, t2⟩ := c_sl (d := d) (by omega) bb a1 (by rw [w_put_s.2.2.2.1]; exact hl) hv
  refine ⟨lv2, x2, by rw [eX0_putLast, e1, mj_rV_k, e2, mj_rV_k], a2, l2, f1.tr f2, fun z => ?_⟩
  obtain ⟨u1, u2⟩ := t2 z
  obtain ⟨v1, v2⟩ := t1 u1
  exact ⟨v1, v2.tr u2⟩
end
