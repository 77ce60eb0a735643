/-! CodeWriter: deepest, the search.  A state: depths, the queue, how many are queued, the deepest seen -/
abbrev bS : Type := (Nat → Int32) × (Nat → Int32) × Nat × Nat
def b_x (x : mj_X) (s : bS) : mj_X := (fun k j => if k = 0 ∧ j = 69 then nI s.2.2.1 else if k = 0 ∧ j = 70 then nI s.2.2.2 else if k = 68 then s.1 j else if k = 69 then s.2.1 j else x.1 k j, x.2)
def b_rc (s : bS) (q : Nat × Nat) : bS := if s.1 q.1 = -1 then (upd s.1 q.1 (nI q.2), upd s.2.1 s.2.2.1 (nI q.1), s.2.2.1 + 1, max s.2.2.2 q.2) else (s.1, s.2.1, s.2.2.1, max s.2.2.2 q.2)
theorem b_x68 (x : mj_X) (s : bS) : (b_x x s).1 68 = s.1 := funext fun j => by simp [b_x]
theorem b_x69 (x : mj_X) (s : bS) : (b_x x s).1 69 = s.2.1 := funext fun j => by simp [b_x]
theorem b_xn (x : mj_X) (s : bS) : (b_x x s).1 0 69 = nI s.2.2.1 := by simp [b_x]
theorem b_xm (x : mj_X) (s : bS) : (b_x x s).1 0 70 = nI s.2.2.2 := by simp [b_x]
theorem b_xk (x : mj_X) (s : bS) {k : Nat} (h0 : k ≠ 0) (h1 : k ≠ 68) (h2 : k ≠ 69) : (b_x x s).1 k = x.1 k := funext fun j => by simp [b_x, h0, h1, h2]
theorem k_reach {d : Nat} {x : mj_X} {s : bS} {p e : Nat} (hp : p < 65551) (hn : s.2.2.1 < 65551) (he : e < 100000) (hm : s.2.2.2 < 100000) : kX0 (d + 1) 99 [.ref 0, .int (nI p), .int (nI e)] (b_x x s) = some (none, b_x x (b_rc s (p, e))) := by
  rw [eX0_reach, mj_g_k (mj_in_nI (by omega) (by decide)), nI_clamp (by omega), b_x68, b_xn, b_xm, nI_max (by omega) (by omega)]
  unfold b_rc
  by_cases q : s.1 p = -1
  · rw [if_pos q, if_pos q, mj_g_k (mj_in_nI (by omega) (by decide)), mj_g_k (mj_in_nI (by omega) (by decide)), nI_clamp (by omega)]
    congr 2
    apply Prod.ext
    · funext k j
      simp only [mj_wI_1, b_x]
      rw [show nI s.2.2.1 + 1 = nI (s.2.2.1 + 1) from nI_add _ 1]
      by_cases k0 : k = 0
      · subst k0; by_cases j1 : j = 69 <;> by_cases j2 : j = 70 <;> simp_all
      · by_cases k1 : k = 68
        · subst k1; simp [upd]
        · by_cases k2 : k = 69
          · subst k2; simp [upd]
          · simp [k0, k1, k2]
    · rfl
  · rw [if_neg q, if_neg q]
    congr 2
    apply Prod.ext
    · funext k j
      simp only [mj_wI_1, b_x]
      by_cases k0 : k = 0
      · subst k0; by_cases j1 : j = 69 <;> by_cases j2 : j = 70 <;> simp_all
      · simp [k0]
    · rfl
/-- the search so far: PL = places and their depths -/
def b_I (PL : Nat → Nat → Prop) (len MS : Nat) (s : bS) : Prop :=
  (∀ j, j < s.2.2.1 → ∃ p e, PL p e ∧ s.2.1 j = nI p ∧ s.1 p = nI e ∧ e ≤ s.2.2.2) ∧ (∀ p, p ≤ len → s.1 p ≠ -1 → ∃ j, j < s.2.2.1 ∧ s.2.1 j = nI p)
  ∧ (∀ i j, i < s.2.2.1 → j < s.2.2.1 → s.2.1 i = s.2.1 j → i = j) ∧ s.2.2.2 ≤ MS
theorem b_ne {e : Nat} (h : e < 2147483648) : nI e ≠ -1 := fun q => by
  have := congrArg Int32.toInt q
  rw [nI_toInt (by omega)] at this
  have e1 : (-1 : Int32).toInt = -1 := rfl
  omega
theorem b_inj {a b : Nat} (h : a < 2147483648) (h' : b < 2147483648) (q : nI a = nI b) : a = b := by
  have := congrArg Int32.toInt q
  rw [nI_toInt (by omega), nI_toInt (by omega)] at this; omega
section
variable {PL : Nat → Nat → Prop} {len MS : Nat} {s : bS}
theorem b_I.n (h : b_I PL len MS s) (hP : ∀ p e, PL p e → p < len ∧ e ≤ MS) : s.2.2.1 ≤ len := by
  obtain ⟨h1, -, h3, -⟩ := h
  have : ((List.range s.2.2.1).map s.2.1).Nodup := by
    refine List.pairwise_map.mpr (List.Pairwise.imp_of_mem (fun {i j} hi hj lt q => ?_) (List.pairwise_lt_range (n := s.2.2.1)))
    have := h3 i j (List.mem_range.mp hi) (List.mem_range.mp hj) q
    exact absurd lt (by rw [this]; exact Nat.lt_irrefl _)
  have l := nodup_len _ ((List.range len).map nI) this (fun v hv => by
    obtain ⟨j, hj, e⟩ := List.mem_map.mp hv
    obtain ⟨p, e', q1, q2, -⟩ := h1 j (List.mem_range.mp hj)
    exact List.mem_map.mpr ⟨p, List.mem_range.mpr (hP p e' q1).1, by rw [← e, q2]⟩)
  simpa using l
theorem b_I.rc (h : b_I PL len MS s) (hP : ∀ p e, PL p e → p < len ∧ e ≤ MS) (hf : ∀ p e e', PL p e → PL p e' → e = e') (hl : len ≤ 65535) (hM : MS < 10000) {q : Nat × Nat} (hq : PL q.1 q.2) :
    b_I PL len MS (b_rc s q) ∧ (b_rc s q).1 q.1 ≠ -1 ∧ (∀ p, s.1 p ≠ -1 → (b_rc s q).1 p = s.1 p) ∧ s.2.2.1 ≤ (b_rc s q).2.2.1 ∧ (∀ j, j < s.2.2.1 → (b_rc s q).2.1 j = s.2.1 j) := by
  have nn := h.n hP
  obtain ⟨h1, h2, h3, h4⟩ := h
  obtain ⟨q1, q2⟩ := hP _ _ hq
  unfold b_rc
  by_cases w : s.1 q.1 = -1
  · rw [if_pos w]
    have old : ∀ j, j < s.2.2.1 → upd s.2.1 s.2.2.1 (nI q.1) j = s.2.1 j := fun j hj => pk_un (by omega)
    have fresh : ∀ j, j < s.2.2.1 → s.2.1 j ≠ nI q.1 := fun j hj z => by
      obtain ⟨p, e, p1, p2, p3, -⟩ := h1 j hj
      have : p = q.1 := b_inj (by have := (hP p e p1).1; omega) (by omega) (p2.symm.trans z)
      rw [this, w] at p3
      exact b_ne (by have := (hP p e p1).2; omega) p3.symm
    refine ⟨⟨fun j hj => ?_, fun p hp hne => ?_, fun i j hi hj e => ?_, by show max _ _ ≤ _; omega⟩, by show upd s.1 q.1 (nI q.2) q.1 ≠ -1; rw [pk_us]; exact b_ne (by omega), fun p hp => ?_, Nat.le_succ _, old⟩
    · have hj : j < s.2.2.1 + 1 := hj
      by_cases e : j = s.2.2.1
      · exact ⟨q.1, q.2, hq, by show upd s.2.1 s.2.2.1 (nI q.1) j = _; rw [e, pk_us], by show upd s.1 q.1 (nI q.2) q.1 = _; rw [pk_us], Nat.le_max_right _ _⟩
      · obtain ⟨p, e', p1, p2, p3, p4⟩ := h1 j (by omega)
        refine ⟨p, e', p1, (old j (by omega)).trans p2, ?_, Nat.le_trans p4 (Nat.le_max_left _ _)⟩
        show upd s.1 q.1 (nI q.2) p = _
        rw [pk_un (fun z => by rw [z, w] at p3; exact b_ne (by have := (hP p e' p1).2; omega) p3.symm)]; exact p3
    · have hne : upd s.1 q.1 (nI q.2) p ≠ -1 := hne
      by_cases e : p = q.1
      · exact ⟨s.2.2.1, Nat.lt_succ_self _, by show upd s.2.1 s.2.2.1 (nI q.1) s.2.2.1 = _; rw [pk_us, e]⟩
      · rw [pk_un e] at hne
        obtain ⟨j, j1, j2⟩ := h2 p hp hne
        exact ⟨j, Nat.lt_succ_of_lt j1, (old j j1).trans j2⟩
    · have hi : i < s.2.2.1 + 1 := hi
      have hj : j < s.2.2.1 + 1 := hj
      have e : upd s.2.1 s.2.2.1 (nI q.1) i = upd s.2.1 s.2.2.1 (nI q.1) j := e
      by_cases ei : i = s.2.2.1
      · by_cases ej : j = s.2.2.1
        · omega
        · rw [ei, pk_us, old j (by omega)] at e
          exact absurd e.symm (fresh j (by omega))
      · by_cases ej : j = s.2.2.1
        · rw [ej, pk_us, old i (by omega)] at e
          exact absurd e (fresh i (by omega))
        · rw [old i (by omega), old j (by omega)] at e
          exact h3 i j (by omega) (by omega) e
    · show upd s.1 q.1 (nI q.2) p = s.1 p
      exact pk_un (fun z => hp (by rw [z]; exact w))
  · rw [if_neg w]
    exact ⟨⟨fun j hj => by
      obtain ⟨p, e, p1, p2, p3, p4⟩ := h1 j hj
      exact ⟨p, e, p1, p2, p3, Nat.le_trans p4 (Nat.le_max_left _ _)⟩, h2, h3, by show max _ _ ≤ _; omega⟩, w, fun _ _ => rfl, Nat.le_refl _, fun _ _ => rfl⟩
theorem b_I.rcs (hP : ∀ p e, PL p e → p < len ∧ e ≤ MS) (hf : ∀ p e e', PL p e → PL p e' → e = e') (hl : len ≤ 65535) (hM : MS < 10000) : ∀ (L : List (Nat × Nat)) (s : bS), b_I PL len MS s → (∀ q, q ∈ L → PL q.1 q.2) →
    b_I PL len MS (L.foldl b_rc s) ∧ (∀ q, q ∈ L → (L.foldl b_rc s).1 q.1 ≠ -1) ∧ (∀ p, s.1 p ≠ -1 → (L.foldl b_rc s).1 p = s.1 p) ∧ s.2.2.1 ≤ (L.foldl b_rc s).2.2.1 ∧ (∀ j, j < s.2.2.1 → (L.foldl b_rc s).2.1 j = s.2.1 j) := by
  intro L
  induction L with
  | nil => intro s h _; exact ⟨h, (fun q hq => by cases hq), fun _ _ => rfl, Nat.le_refl _, fun _ _ => rfl⟩
  | cons q L ih =>
    intro s h hL
    obtain ⟨r1, r2, r3, r4, r5⟩ := h.rc hP hf hl hM (hL q (List.mem_cons_self ..))
    obtain ⟨i1, i2, i3, i4, i5⟩ := ih _ r1 (fun t ht => hL t (List.mem_cons_of_mem _ ht))
    refine ⟨i1, fun t ht => ?_, fun p hp => ?_, Nat.le_trans r4 i4, fun j hj => (i5 j (by omega)).trans (r5 j hj)⟩
    · rcases List.mem_cons.mp ht with z | z
      · rw [z, List.foldl_cons, i3 _ r2]; exact r2
      · exact i2 t z
    · rw [List.foldl_cons, i3 p (by rw [r3 p hp]; exact hp)]; exact r3 p hp
end
/-- following a place: it reaches right places, and all that come next -/
def b_F (d m cf : Nat) (x : mj_X) (PL : Nat → Nat → Prop) (SU : Nat → Nat → Prop) (len MS : Nat) : Prop := ∀ p e s, PL p e → b_I PL len MS s → s.1 p = nI e →
  ∃ L : List (Nat × Nat), (∀ q, q ∈ L → PL q.1 q.2) ∧ (∀ t, SU p t → ∃ q, q ∈ L ∧ q.1 = t) ∧ kX0 d 100 [.ref 0, .int (nI m), .int (nI cf), .int (nI p)] (b_x x s) = some (none, b_x x (L.foldl b_rc s))
section
variable {PL SU : Nat → Nat → Prop} {len MS : Nat}
theorem k_queue {d m cf : Nat} {x : mj_X} {a3 : Int32} (hP : ∀ p e, PL p e → p < len ∧ e ≤ MS) (hf : ∀ p e e', PL p e → PL p e' → e = e') (hl : len ≤ 65535) (hM : MS < 10000) (F : b_F d m cf x PL SU len MS) : ∀ (f q : Nat) (s : bS), len - q = f → q ≤ s.2.2.1 → b_I PL len MS s →
    (∀ j, j < q → ∀ p e, PL p e → s.2.1 j = nI p → ∀ t, SU p t → s.1 t ≠ -1) →
    ∃ s', rX0_deepest d (92, [some (.ref 0), some (.int (nI m)), some (.int (nI cf)), some (.int a3), some (.int (nI q))], [], b_x x s) = some (some (.int (nI s'.2.2.2)), b_x x s') ∧ b_I PL len MS s' ∧ (∀ p, s.1 p ≠ -1 → s'.1 p ≠ -1) ∧ ∀ j, j < s'.2.2.1 → ∀ p e, PL p e → s'.2.1 j = nI p → ∀ t, SU p t → s'.1 t ≠ -1 := by
  intro f
  induction f with
  | zero =>
    intro q s hq hn h hc
    have nn := h.n hP
    rw [bX0_deepest_92, b_xn, b_xm, if_pos (by rw [Int32.le_iff_toInt_le, nI_toInt (by omega), nI_toInt (by omega)]; omega)]
    exact ⟨s, rfl, h, fun _ q => q, fun j hj => hc j (by omega)⟩
  | succ f ih =>
    intro q s hq hn h hc
    have nn := h.n hP
    rw [bX0_deepest_92, b_xn, b_xm]
    by_cases e : s.2.2.1 ≤ q
    · rw [if_pos (by rw [Int32.le_iff_toInt_le, nI_toInt (by omega), nI_toInt (by omega)]; omega)]
      exact ⟨s, rfl, h, fun _ q => q, fun j hj => hc j (by omega)⟩
    · rw [if_neg (by rw [Int32.le_iff_toInt_le, nI_toInt (by omega), nI_toInt (by omega)]; omega), mj_g_k (mj_in_nI (by omega) (by decide)), nI_clamp (by omega), b_x69]
      obtain ⟨p, e', p1, p2, p3, p4⟩ := h.1 q (by omega)
      obtain ⟨L, l1, l2, l3⟩ := F p e' s p1 h p3
      obtain ⟨r1, r2, r3, r4, r5⟩ := b_I.rcs hP hf hl hM L s h l1
      rw [p2, l3, mj_rV_k, show nI q + 1 = nI (q + 1) from nI_add q 1]
      obtain ⟨s', t1, t2, t3, t4⟩ := ih (q + 1) (L.foldl b_rc s) (by omega) (by omega) r1 (fun j hj u eu hu hj2 t ht => by
        by_cases w : j = q
        · rw [w, r5 q (by omega), p2] at hj2
          have : p = u := b_inj (by have := (hP p e' p1).1; omega) (by have := (hP u eu hu).1; omega) hj2
          subst this
          obtain ⟨z, z1, z2⟩ := l2 t ht
          rw [← z2]; exact r2 z z1
        · rw [r5 j (by omega)] at hj2
          have := hc j (by omega) u eu hu hj2 t ht
          rw [r3 t this]; exact this)
      exact ⟨s', t1, t2, fun u hu => t3 u (by rw [r3 u hu]; exact hu), t4⟩
/-- the handlers -/
theorem k_hands {d m cf rf : Nat} {x : mj_X} {a3 : Int32} (hP : ∀ p e, PL p e → p < len ∧ e ≤ MS) (hf : ∀ p e e', PL p e → PL p e' → e = e') (hl : len ≤ 65535) (hM : MS < 10000) (hm : m ≤ 39) {hs : List Nat} (h21 : x.1 21 (m + 1) = nI (rf + hs.length)) (hr : rf + hs.length ≤ 20000)
    (h22 : ∀ j h, hs[j]? = some h → x.1 22 (4 * (rf + j) + 2) = nI h) (hh : ∀ h, h ∈ hs → PL h 1) : ∀ (f j : Nat) (s : bS), hs.length - j = f → j ≤ hs.length → b_I PL len MS s →
    ∃ s', rX0_deepest (d + 1) (54, [some (.ref 0), some (.int (nI m)), some (.int (nI cf)), some (.int a3), some (.int (nI (rf + j)))], [], b_x x s) = rX0_deepest (d + 1) (92, [some (.ref 0), some (.int (nI m)), some (.int (nI cf)), some (.int a3), some (.int (nI 0))], [], b_x x s')
      ∧ b_I PL len MS s' ∧ (∀ p, s.1 p ≠ -1 → s'.1 p ≠ -1) ∧ ∀ i h, j ≤ i → hs[i]? = some h → s'.1 h ≠ -1 := by
  intro f
  induction f with
  | zero =>
    intro j s hj hn h
    rw [bX0_deepest_54, show nI m + 1 = nI (m + 1) from nI_add m 1, mj_g_k (mj_in_nI (by omega) (by decide)), nI_clamp (by omega), b_xk x s (by decide) (by decide) (by decide), h21, if_pos (by rw [Int32.le_iff_toInt_le, nI_toInt (by omega), nI_toInt (by omega)]; omega)]
    exact ⟨s, rfl, h, fun _ q => q, fun i u hi hu => absurd (List.getElem?_eq_some_iff.mp hu).1 (by omega)⟩
  | succ f ih =>
    intro j s hj hn h
    have nn := h.n hP
    have e2 : (4 : Int32) * nI (rf + j) + 2 = nI (4 * (rf + j) + 2) := by
      apply Int32.toInt_inj.mp
      rw [show (4 : Int32) = nI 4 from rfl, nI_mul, show (2 : Int32) = nI 2 from rfl, nI_add]
    obtain ⟨u, hu⟩ : ∃ u, hs[j]? = some u := ⟨hs[j]'(by omega), List.getElem?_eq_getElem _⟩
    have PU := hh u (List.mem_of_getElem? hu)
    obtain ⟨q1, q2⟩ := hP _ _ PU
    have m4 := h.2.2.2
    rw [bX0_deepest_54, show nI m + 1 = nI (m + 1) from nI_add m 1, mj_g_k (mj_in_nI (by omega) (by decide)), nI_clamp (by omega), b_xk x s (by decide) (by decide) (by decide), h21, if_neg (by rw [Int32.le_iff_toInt_le, nI_toInt (by omega), nI_toInt (by omega)]; omega), e2, mj_g_k (mj_in_nI (by omega) (by decide)), nI_clamp (by omega), b_xk x s (by decide) (by decide) (by decide), h22 j u hu, show (1 : Int32) = nI 1 from rfl, k_reach (by omega) (by omega) (by decide) (by omega), mj_rV_k, show nI (rf + j) + nI 1 = nI (rf + (j + 1)) from nI_add (rf + j) 1]
    obtain ⟨r1, r2, r3, r4, r5⟩ := h.rc (q := (u, 1)) hP hf hl hM PU
    obtain ⟨s', t1, t2, t3, t4⟩ := ih (j + 1) _ (by omega) (by omega) r1
    refine ⟨s', t1, t2, fun p hp => t3 p (by rw [r3 p hp]; exact hp), fun i v hi hv => ?_⟩
    by_cases w : i = j
    · rw [w, hu] at hv
      cases hv
      exact t3 u r2
    · exact t4 i v (by omega) hv
theorem k_fill68 (x : mj_X) {n : Nat} (hn : n ≤ 65536) : mj_pr cdX0 1007 [.ref 68, .int (0 : Int32), .int (nI n), .int (-1 : Int32)] x = some (none, mj_fI x 68 0 n (-1)) := by
  have e : mj_rg 0 (nI n) 65551 = true := by
    unfold mj_rg
    simp only [Bool.and_eq_true, decide_eq_true_eq]
    refine ⟨⟨Int32.le_refl _, ?_⟩, ?_⟩
    · rw [Int32.le_iff_toInt_le, nI_toInt (by omega)]
      have e0 : (0 : Int32).toInt = 0 := rfl
      omega
    · show nI n ≤ nI 65551
      rw [Int32.le_iff_toInt_le, nI_toInt (by omega), nI_toInt (by omega)]; omega
  show (bif mj_rg 0 (nI n) 65551 then some (none, mj_fI x 68 (0 : Int32).toNatClampNeg (nI n).toNatClampNeg (-1)) else none) = _
  rw [e, nI_clamp (by omega)]; rfl
/-- the greatest stack, as it is sought -/
theorem k_deep0 {d m cf rf : Nat} {x : mj_X} (hP : ∀ p e, PL p e → p < len ∧ e ≤ MS) (hf : ∀ p e e', PL p e → PL p e' → e = e') (hl : len ≤ 65535) (hM : MS < 10000) (hm : m ≤ 39) (h12 : x.1 12 m = nI cf ∧ x.1 12 (m + 1) = nI (cf + len)) {hs : List Nat} (h21 : x.1 21 m = nI rf ∧ x.1 21 (m + 1) = nI (rf + hs.length)) (hr : rf + hs.length ≤ 20000)
    (h22 : ∀ j h, hs[j]? = some h → x.1 22 (4 * (rf + j) + 2) = nI h) (hh : ∀ h, h ∈ hs → PL h 1) (h0 : PL 0 0) (F : b_F (d + 1) m cf x PL SU len MS)
    (hR : ∀ R : Nat → Prop, R 0 → (∀ h, h ∈ hs → R h) → (∀ p e, PL p e → R p → ∀ t, SU p t → R t) → MS = 0 ∨ ∃ p, PL p MS ∧ R p) :
    ∃ s, kX0 (d + 2) 98 [.ref 0, .int (nI m)] x = some (some (.int (nI MS)), b_x x s) := by
  have gm : ∀ r : mj_R, mj_g (nI m) 41 r = r := fun r => mj_g_k (mj_in_nI (by omega) (by decide)) r
  have gm1 : ∀ r : mj_R, mj_g (nI (m + 1)) 41 r = r := fun r => mj_g_k (mj_in_nI (by omega) (by decide)) r
  have l0 := (hP 0 0 h0).1
  have ed : nI (cf + len) - nI cf = nI len := by rw [← nI_add, Int32.add_comm, Int32.add_sub_cancel]
  rw [eX0_deepest, show nI m + 1 = nI (m + 1) from nI_add m 1, gm, gm1, nI_clamp (by omega), nI_clamp (by omega), h12.1, h12.2, ed, show nI len + 1 = nI (len + 1) from nI_add len 1, k_fill68 x (by omega), mj_rV_k]
  obtain ⟨s0, hs0⟩ : ∃ s0 : bS, s0 = (mj_fil (x.1 68) 0 (len + 1) (-1), x.1 69, 0, 0) := ⟨_, rfl⟩
  have ex : mj_wI (mj_wI (mj_fI x 68 0 (len + 1) (-1)) 0 69 (0 : Int32)) 0 70 (0 : Int32) = b_x x s0 := by
    rw [hs0]
    apply Prod.ext
    · funext k j
      simp only [mj_wI_1, b_x, mj_fI]
      by_cases k0 : k = 0
      · subst k0; by_cases j1 : j = 69 <;> by_cases j2 : j = 70 <;> simp_all <;> rfl
      · by_cases k1 : k = 68
        · subst k1; simp
        · by_cases k2 : k = 69
          · subst k2; simp
          · simp [k0, k1, k2]
    · rfl
  rw [ex]
  have I0 : b_I PL len MS s0 := by
    rw [hs0]
    refine ⟨fun j hj => absurd hj (Nat.not_lt_zero _), fun p hp hne => absurd ?_ hne, fun i j hi => absurd hi (Nat.not_lt_zero _), Nat.zero_le _⟩
    show mj_fil (x.1 68) 0 (len + 1) (-1) p = -1
    unfold mj_fil
    rw [if_pos ⟨Nat.zero_le _, by omega⟩]
  have n0 : s0.2.2.1 = 0 ∧ s0.2.2.2 = 0 := by rw [hs0]; exact ⟨rfl, rfl⟩
  rw [show (0 : Int32) = nI 0 from rfl, k_reach (d := d) (by decide) (by omega) (by decide) (by omega), mj_rV_k, gm, b_xk x _ (by decide) (by decide) (by decide), h21.1]
  obtain ⟨r1, r2, r3, -⟩ := I0.rc (q := (0, 0)) hP hf hl hM h0
  obtain ⟨s1, a1, a2, a3, a4⟩ := k_hands (d := d) (m := m) (cf := cf) (rf := rf) (x := x) (a3 := nI len) hP hf hl hM hm h21.2 hr h22 hh _ 0 (b_rc s0 (0, 0)) rfl (Nat.zero_le _) r1
  rw [show rf + 0 = rf from rfl] at a1
  obtain ⟨s2, b1, b2, b3, b4⟩ := k_queue (a3 := nI len) hP hf hl hM F _ 0 s1 rfl (Nat.zero_le _) a2 (fun j hj => absurd hj (Nat.not_lt_zero _))
  rw [a1, b1]
  have key : s2.2.2.2 = MS := by
    refine Nat.le_antisymm b2.2.2.2 ?_
    have c0 : s2.1 0 ≠ -1 := b3 0 (a3 0 r2)
    rcases hR (fun p => s2.1 p ≠ -1) c0 (fun h hh' => by
      obtain ⟨j, hj⟩ := List.getElem?_of_mem hh'
      exact b3 h (a4 j h (Nat.zero_le _) hj)) (fun p e hp hr t ht => by
        obtain ⟨j, j1, j2⟩ := b2.2.1 p (Nat.le_of_lt (hP p e hp).1) hr
        exact b4 j j1 p e hp j2 t ht) with q | ⟨p, p1, p2⟩
    · omega
    · obtain ⟨j, j1, j2⟩ := b2.2.1 p (Nat.le_of_lt (hP p _ p1).1) p2
      obtain ⟨p', e', q1, q2, q3, q4⟩ := b2.1 j j1
      have : p' = p := b_inj (by have := (hP p' e' q1).1; omega) (by have := (hP p _ p1).1; omega) (q2.symm.trans j2)
      rw [this] at q1
      have := hf p _ _ q1 p1
      omega
  rw [key]
  exact ⟨s2, rfl⟩
end
