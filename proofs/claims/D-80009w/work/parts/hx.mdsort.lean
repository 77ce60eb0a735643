/-! the cases of a switch in order -/
def nins (nt : sp_NT) (k : Int32) : List Int32 → List Int32
  | [] => [k]
  | f :: r => if nA nt f ≤ nA nt k then f :: nins nt k r else k :: f :: r
theorem nins_at {nt : sp_NT} {k : Int32} : ∀ (l : List Int32) (p : Nat), p ≤ l.length → (∀ j, j < p → ∀ a, l[j]? = some a → nA nt a ≤ nA nt k) → (∀ j a, p ≤ j → l[j]? = some a → nA nt k < nA nt a) → nins nt k l = l.take p ++ k :: l.drop p := by
  intro l
  induction l with
  | nil => intro p hp _ _; have : p = 0 := by simpa using hp
           subst this; rfl
  | cons f r ih =>
    intro p hp h1 h2
    cases p with
    | zero =>
      have := h2 0 f (Nat.le_refl _) rfl
      unfold nins
      rw [if_neg (Int32.not_le.mpr this)]; rfl
    | succ p =>
      have := h1 0 (by omega) f rfl
      unfold nins
      rw [if_pos this, ih p (by simpa using hp) (fun j hj a ha => h1 (j + 1) (by omega) a ha) (fun j a hj ha => h2 (j + 1) a (by omega) ha)]
      rfl
theorem nins_mem {nt : sp_NT} {k : Int32} : ∀ (l : List Int32) (a : Int32), a ∈ nins nt k l ↔ a = k ∨ a ∈ l := by
  intro l
  induction l with
  | nil => intro a; simp [nins]
  | cons f r ih =>
    intro a
    unfold nins
    split
    · simp only [List.mem_cons, ih]
      constructor
      · rintro (h | h | h)
        · exact Or.inr (Or.inl h)
        · exact Or.inl h
        · exact Or.inr (Or.inr h)
      · rintro (h | h | h)
        · exact Or.inr (Or.inl h)
        · exact Or.inl h
        · exact Or.inr (Or.inr h)
    · simp only [List.mem_cons]
theorem nins_len {nt : sp_NT} {k : Int32} : ∀ (l : List Int32), (nins nt k l).length = l.length + 1 := by
  intro l
  induction l with
  | nil => rfl
  | cons f r ih =>
    unfold nins
    split
    · simp only [List.length_cons, ih]
    · rfl
theorem nins_pw {nt : sp_NT} {k : Int32} : ∀ (l : List Int32), l.Pairwise (fun a b => nA nt a ≤ nA nt b) → (nins nt k l).Pairwise (fun a b => nA nt a ≤ nA nt b) := by
  intro l
  induction l with
  | nil => intro _; exact List.pairwise_singleton _ _
  | cons f r ih =>
    intro h
    obtain ⟨h1, h2⟩ := List.pairwise_cons.mp h
    unfold nins
    split
    · rename_i q
      refine List.pairwise_cons.mpr ⟨fun a ha => ?_, ih h2⟩
      rcases (nins_mem r a).mp ha with rfl | ha
      · exact q
      · exact h1 a ha
    · rename_i q
      have q : nA nt k ≤ nA nt f := Int32.le_of_lt (Int32.not_le.mp q)
      refine List.pairwise_cons.mpr ⟨fun a ha => ?_, h⟩
      rcases List.mem_cons.mp ha with rfl | ha
      · exact q
      · exact Int32.le_trans q (h1 a ha)
/-- all cases in order -/
def nsort (nt : sp_NT) (l : List Int32) : List Int32 := (l.filter (fun k => decide (nK nt k = 83))).foldl (fun s k => nins nt k s) []
theorem w_ins_map {nt : sp_NT} {lab : Int32 → Nat} {k : Int32} : ∀ (l : List Int32), w_ins (nA nt k, lab k) (l.map (fun a => (nA nt a, lab a))) = (nins nt k l).map (fun a => (nA nt a, lab a)) := by
  intro l
  induction l with
  | nil => rfl
  | cons f r ih =>
    show w_ins (nA nt k, lab k) ((nA nt f, lab f) :: r.map (fun a => (nA nt a, lab a))) = _
    unfold w_ins nins
    by_cases q : nA nt f ≤ nA nt k
    · rw [if_pos q, if_pos q, ih]; rfl
    · rw [if_neg q, if_neg q]; rfl
theorem w_keys_sort {nt : sp_NT} {lab : Int32 → Nat} (cs : List (Int32 × Nat)) (h : ∀ q, q ∈ cs → q.2 = lab q.1) : w_keys nt cs = (nsort nt (cs.map (fun q => q.1))).map (fun a => (nA nt a, lab a)) := by
  have key : ∀ (cs : List (Int32 × Nat)) (s : List Int32), (∀ q, q ∈ cs → q.2 = lab q.1) → (cs.filter (fun q => decide (nK nt q.1 = 83))).foldl (fun s q => w_ins (nA nt q.1, q.2) s) (s.map (fun a => (nA nt a, lab a))) = (((cs.map (fun q => q.1)).filter (fun k => decide (nK nt k = 83))).foldl (fun s k => nins nt k s) s).map (fun a => (nA nt a, lab a)) := by
    intro cs
    induction cs with
    | nil => intro s _; rfl
    | cons q r ih =>
      intro s hq
      have e := hq q (by simp)
      have hr : ∀ q, q ∈ r → q.2 = lab q.1 := fun a ha => hq a (List.mem_cons_of_mem _ ha)
      by_cases hk : nK nt q.1 = 83
      · rw [List.filter_cons_of_pos (by simpa using hk), List.map_cons, List.filter_cons_of_pos (by simpa using hk), List.foldl_cons, List.foldl_cons]
        show List.foldl _ (w_ins (nA nt q.1, q.2) (s.map _)) _ = _
        rw [e, w_ins_map]
        exact ih _ hr
      · rw [List.filter_cons_of_neg (by simpa using hk), List.map_cons, List.filter_cons_of_neg (by simpa using hk)]
        exact ih _ hr
  exact key cs [] h
def z75 (k _ : Nat) : Bool := match k with
  | 75 => true
  | _ => false
section
variable {nt : sp_NT} {N M : Nat} {d : Nat}
/-- the array holds the list -/
def z_so (x : mj_X) (l : List Int32) : Prop := ∀ j a, l[j]? = some a → x.1 75 j = a
/-- a case is put into its place -/
theorem m_sort1 {x0 : mj_X} {a1 a2 a3 a5 k : Int32} {l : List Int32} (h3 : x0.1 3 = nt 1) (h4 : x0.1 4 = nt 2) (hN : N ≤ 4000) (hk : sp_nd N k = true) (h5 : sp_nd N a5 = true) (hl : ∀ a, a ∈ l → sp_nd N a = true) (hlen : l.length < 4000) (hs : l.Pairwise (fun a b => nA nt a ≤ nA nt b)) :
    ∀ (at_ : Nat) (x : mj_X), at_ ≤ l.length → zfr z75 x0 x → (∀ j a, j < at_ → l[j]? = some a → x.1 75 j = a) → (∀ j a, at_ ≤ j → l[j]? = some a → x.1 75 (j + 1) = a) → (∀ j a, at_ ≤ j → l[j]? = some a → nA nt k < nA nt a) →
      ∃ o7 y, rX1_table d (37, [some (.ref 0), some (.int a1), some (.int a2), some (.int a3), some (.int (nI l.length)), some (.int a5), some (.int k), some (.int (nI at_)), none, none, none, none, none, none], [], x) = rX1_table d (6, [some (.ref 0), some (.int a1), some (.int a2), some (.int a3), some (.int (nI (l.length + 1))), some (.int (nB nt a5)), some (.int k), o7, none, none, none, none, none, none], [], y) ∧ zfr z75 x0 y ∧ z_so y (nins nt k l) := by
  -- the place is found
  have put : ∀ (p : Nat) (x : mj_X), p ≤ l.length → zfr z75 x0 x → (∀ j a, j < p → l[j]? = some a → x.1 75 j = a) → (∀ j a, p ≤ j → l[j]? = some a → x.1 75 (j + 1) = a) → (∀ j, j < p → ∀ a, l[j]? = some a → nA nt a ≤ nA nt k) → (∀ j a, p ≤ j → l[j]? = some a → nA nt k < nA nt a) →
      ∃ o7 y, rX1_table d (88, [some (.ref 0), some (.int a1), some (.int a2), some (.int a3), some (.int (nI l.length)), some (.int a5), some (.int k), some (.int (nI p)), none, none, none, none, none, none], [], x) = rX1_table d (6, [some (.ref 0), some (.int a1), some (.int a2), some (.int a3), some (.int (nI (l.length + 1))), some (.int (nB nt a5)), some (.int k), o7, none, none, none, none, none, none], [], y) ∧ zfr z75 x0 y ∧ z_so y (nins nt k l) := by
    intro p x hp f i1 i2 i3 i4
    rw [bX1_table_88, nI_nd (by omega), mj_g_k (sp_nd_in hN h5 (Nat.le_refl _)), nI_cl (by omega), show nI l.length + (1 : Int32) = nI (l.length + 1) from nI_add _ 1, f.2 4 _ rfl, h4]
    refine ⟨_, _, rfl, f.w _ rfl, ?_⟩
    intro j a hj
    rw [nins_at l p hp i3 i4] at hj
    show upd (x.1 75) p k j = a
    by_cases q1 : j < p
    · rw [List.getElem?_append_left (by rw [List.length_take]; omega), List.getElem?_take_of_lt q1] at hj
      rw [pk_un (by omega)]; exact i1 j a q1 hj
    · rw [List.getElem?_append_right (by rw [List.length_take]; omega), List.length_take, Nat.min_eq_left hp] at hj
      by_cases q2 : j = p
      · subst q2
        rw [Nat.sub_self] at hj
        rw [pk_us]; simpa using hj
      · obtain ⟨i, rfl⟩ : ∃ i, j = i + 1 := ⟨j - 1, by omega⟩
        rw [show i + 1 - p = (i - p) + 1 by omega, List.getElem?_cons_succ, List.getElem?_drop, show p + (i - p) = i by omega] at hj
        rw [pk_un (by omega)]; exact i2 i a (by omega) hj
  intro at_
  induction at_ with
  | zero =>
    intro x h1 f i1 i2 i3
    rw [bX1_table_37, if_pos (by decide)]
    exact put 0 x (Nat.zero_le _) f (fun j a hj => absurd hj (Nat.not_lt_zero _)) i2 (fun j hj => absurd hj (Nat.not_lt_zero _)) i3
  | succ p ih =>
    intro x h1 f i1 i2 i3
    have hg : l[p]? = some (l[p]'(by omega)) := List.getElem?_eq_getElem _
    have hx := i1 p _ (Nat.lt_succ_self _) hg
    have hm := hl _ (List.getElem_mem (show p < l.length by omega))
    rw [bX1_table_37, if_neg (nI_nle (by omega) (by omega)), show nI (p + 1) - (1 : Int32) = nI p from nI_pred p, nI_nd (by omega), nI_cl (by omega), hx, mj_g_k (sp_nd_in hN hm (Nat.le_refl _)), mj_g_k (sp_nd_in hN hk (Nat.le_refl _)), f.2 3 _ rfl, f.2 3 _ rfl, h3]
    by_cases q : nA nt (l[p]'(by omega)) ≤ nA nt k
    · rw [if_pos q]
      refine put (p + 1) x h1 f i1 i2 (fun j hj a ha => ?_) i3
      by_cases e : j = p
      · subst e; rw [hg] at ha; injection ha with ha; rw [← ha]; exact q
      · have hj2 : j < l.length := by omega
        have ha2 : l[j]'hj2 = a := by rw [List.getElem?_eq_getElem hj2] at ha; injection ha
        have := List.pairwise_iff_getElem.mp hs j p hj2 (by omega) (by omega)
        rw [ha2] at this
        exact Int32.le_trans this q
    · rw [if_neg q, nI_nd (by omega), nI_nd (by omega), nI_dec p, nI_cl (by omega)]
      refine ih _ (by omega) (f.w _ rfl) (fun j a hj ha => ?_) (fun j a hj ha => ?_) (fun j a hj ha => ?_)
      · show upd (x.1 75) (p + 1) _ j = a
        rw [pk_un (by omega)]; exact i1 j a (by omega) ha
      · show upd (x.1 75) (p + 1) _ (j + 1) = a
        by_cases e : j = p
        · subst e; rw [pk_us]; rw [hg] at ha; injection ha
        · rw [pk_un (by omega)]; exact i2 j a (by omega) ha
      · by_cases e : j = p
        · subst e; rw [hg] at ha; injection ha with ha; rw [← ha]; exact Int32.not_le.mp q
        · exact i3 j a (by omega) ha
/-- all cases are put into their places -/
theorem m_sortL {x0 : mj_X} {a1 a2 a3 : Int32} (hT : x0.1 2 = nt 0) (h3 : x0.1 3 = nt 1) (h4 : x0.1 4 = nt 2) (hN : N ≤ 4000) :
    ∀ (c : List Int32) (p : Int32) (l : List Int32) (x : mj_X) (o6 o7 : Option Value), sp_Ch nt N 82 c p → (∀ q, q ∈ c → sp_nd N (nA nt q) = true) → (∀ a, a ∈ l → sp_nd N a = true) → l.length + c.length < 4000 → l.Pairwise (fun a b => nA nt a ≤ nA nt b) → zfr z75 x0 x → z_so x l →
      ∃ o6' o7' y, rX1_table d (6, [some (.ref 0), some (.int a1), some (.int a2), some (.int a3), some (.int (nI l.length)), some (.int p), o6, o7, none, none, none, none, none, none], [], x) = rX1_table d (6, [some (.ref 0), some (.int a1), some (.int a2), some (.int a3), some (.int (nI (((c.map (fun q => nA nt q)).filter (fun k => decide (nK nt k = 83))).foldl (fun s k => nins nt k s) l).length)), some (.int (-1)), o6', o7', none, none, none, none, none, none], [], y) ∧ zfr z75 x0 y ∧ z_so y (((c.map (fun q => nA nt q)).filter (fun k => decide (nK nt k = 83))).foldl (fun s k => nins nt k s) l)
        ∧ (((c.map (fun q => nA nt q)).filter (fun k => decide (nK nt k = 83))).foldl (fun s k => nins nt k s) l).Pairwise (fun a b => nA nt a ≤ nA nt b) ∧ (∀ a, a ∈ ((c.map (fun q => nA nt q)).filter (fun k => decide (nK nt k = 83))).foldl (fun s k => nins nt k s) l → sp_nd N a = true) ∧ (((c.map (fun q => nA nt q)).filter (fun k => decide (nK nt k = 83))).foldl (fun s k => nins nt k s) l).length ≤ l.length + c.length := by
  intro c
  induction c with
  | nil =>
    intro p l x o6 o7 hc _ hl hlen hs f hz
    have hp : p = -1 := hc
    subst hp
    exact ⟨o6, o7, x, rfl, f, hz, hs, hl, Nat.le_refl _⟩
  | cons q r ih =>
    intro p l x o6 o7 hc hn hl hlen hs f hz
    obtain ⟨e1, e2, e3, e4, e5⟩ := hc
    subst e1
    have hk := hn p (by simp)
    have hlen' : l.length + r.length + 1 < 4000 := by simpa [Nat.add_assoc] using hlen
    rw [bX1_table_6, if_neg (nd_n1 e2), mj_g_k (sp_nd_in hN e2 (Nat.le_refl _)), f.2 3 _ rfl, h3, mj_g_k (sp_nd_in hN hk (Nat.le_refl _)), f.2 2 _ rfl, hT]
    by_cases q83 : nK nt (nA nt p) = 83
    · rw [if_pos q83]
      obtain ⟨o7', y, r1, r2, r3⟩ := m_sort1 (nt := nt) (N := N) (d := d) (x0 := x0) (a1 := a1) (a2 := a2) (a3 := a3) (a5 := p) (k := nA nt p) (l := l) h3 h4 hN hk e2 hl (by omega) hs l.length x (Nat.le_refl _) f (fun j a _ ha => hz j a ha) (fun j a hj ha => by rw [List.getElem?_eq_none hj] at ha; simp at ha) (fun j a hj ha => by rw [List.getElem?_eq_none hj] at ha; simp at ha)
      rw [r1]
      have := ih (nB nt p) (nins nt (nA nt p) l) y (some (.int (nA nt p))) o7' e5 (fun a ha => hn a (List.mem_cons_of_mem _ ha)) (fun a ha => by rcases (nins_mem l a).mp ha with rfl | ha; exact hk; exact hl a ha) (by rw [nins_len]; omega) (nins_pw l hs) r2 r3
      rw [nins_len] at this
      rw [List.map_cons, List.filter_cons_of_pos (by simpa using q83), List.foldl_cons]
      obtain ⟨u1, u2, y2, t1, t2, t3, t4, t5, t6⟩ := this
      exact ⟨u1, u2, y2, t1, t2, t3, t4, t5, by simp only [List.length_cons]; omega⟩
    · rw [if_neg q83, mj_g_k (sp_nd_in hN e2 (Nat.le_refl _)), f.2 4 _ rfl, h4]
      rw [List.map_cons, List.filter_cons_of_neg (by simpa using q83)]
      obtain ⟨u1, u2, y2, t1, t2, t3, t4, t5, t6⟩ := ih (nB nt p) l x (some (.int (nA nt p))) o7 e5 (fun a ha => hn a (List.mem_cons_of_mem _ ha)) hl (by omega) hs f hz
      exact ⟨u1, u2, y2, t1, t2, t3, t4, t5, by simp only [List.length_cons]; omega⟩
end
