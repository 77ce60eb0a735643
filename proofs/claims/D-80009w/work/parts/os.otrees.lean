/-! the trees of free nodes -/
theorem sp_ty_af (nt : sp_NT) (N M : Nat) (res par : Nat → Int32) (k a b : Int32) (hk : sp_isK k = true) (hr : ¬ sp_ty nt (sp_nd N) (sp_fr nt N) M res par k a b = -1) (h1 : sp_hA k = true) (h2 : ¬ a = -1) : sp_fr nt N a = true := by
  have f8 : ∀ k q, sp_fk nt (sp_fr nt N) k q = true → sp_fr nt N k = true := fun k q h => by unfold sp_fk at h; simp only [Bool.and_eq_true] at h; exact h.1
  have f9 : ∀ k, ¬ sp_val nt (sp_fr nt N) k = 0 → sp_fr nt N k = true := fun k h => by
    unfold sp_val at h
    cases q : sp_fr nt N k
    · rw [q] at h; exact absurd rfl h
    · rfl
  have g1 : ∀ k, ¬ sp_tg nt (sp_fr nt N) k = 0 → sp_fr nt N k = true := fun k h => by
    unfold sp_tg at h
    cases q : sp_fr nt N k
    · rw [q] at h; exact absurd rfl h
    · rfl
  have g2 : ∀ k, sp_act nt (sp_fr nt N) k = true → sp_fr nt N k = true := fun k h => by unfold sp_act at h; simp only [Bool.and_eq_true] at h; exact h.1
  have g3 : ∀ m g, sp_call nt (sp_fr nt N) M par m g = true → g = -1 ∨ sp_fk nt (sp_fr nt N) g 49 = true := fun m g h => by
    unfold sp_call at h; simp only [Bool.and_eq_true, Bool.or_eq_true, decide_eq_true_eq] at h; exact h.1.2
  have hin := sp_isK_in k hk
  simp only [List.mem_cons, List.not_mem_nil, or_false] at hin
  rcases hin with rfl | rfl | rfl | rfl | rfl | rfl | rfl | rfl | rfl | rfl | rfl | rfl | rfl | rfl | rfl | rfl | rfl | rfl | rfl | rfl | rfl | rfl | rfl | rfl | rfl | rfl | rfl | rfl | rfl | rfl | rfl | rfl | rfl | rfl | rfl | rfl | rfl | rfl | rfl | rfl | rfl | rfl | rfl | rfl | rfl | rfl | rfl | rfl | rfl | rfl | rfl | rfl | rfl | rfl | rfl | rfl | rfl | rfl | rfl | rfl | rfl | rfl | rfl | rfl | rfl | rfl | rfl | rfl | rfl | rfl | rfl | rfl | rfl | rfl | rfl | rfl | rfl <;> simp only [sp_ty, sp_ao] at hr <;> simp at hr <;> grind [sp_isv, sp_i, sp_bin, sp_hA]
theorem sp_ty_bf (nt : sp_NT) (N M : Nat) (res par : Nat → Int32) (k a b : Int32) (hk : sp_isK k = true) (hr : ¬ sp_ty nt (sp_nd N) (sp_fr nt N) M res par k a b = -1) (h1 : sp_hB k = true) (h2 : ¬ b = -1) : sp_fr nt N b = true := by
  have f8 : ∀ k q, sp_fk nt (sp_fr nt N) k q = true → sp_fr nt N k = true := fun k q h => by unfold sp_fk at h; simp only [Bool.and_eq_true] at h; exact h.1
  have f9 : ∀ k, ¬ sp_val nt (sp_fr nt N) k = 0 → sp_fr nt N k = true := fun k h => by
    unfold sp_val at h
    cases q : sp_fr nt N k
    · rw [q] at h; exact absurd rfl h
    · rfl
  have g1 : ∀ k, ¬ sp_tg nt (sp_fr nt N) k = 0 → sp_fr nt N k = true := fun k h => by
    unfold sp_tg at h
    cases q : sp_fr nt N k
    · rw [q] at h; exact absurd rfl h
    · rfl
  have g2 : ∀ k, sp_act nt (sp_fr nt N) k = true → sp_fr nt N k = true := fun k h => by unfold sp_act at h; simp only [Bool.and_eq_true] at h; exact h.1
  have g3 : ∀ m g, sp_call nt (sp_fr nt N) M par m g = true → g = -1 ∨ sp_fk nt (sp_fr nt N) g 49 = true := fun m g h => by
    unfold sp_call at h; simp only [Bool.and_eq_true, Bool.or_eq_true, decide_eq_true_eq] at h; exact h.1.2
  have hin := sp_isK_in k hk
  simp only [List.mem_cons, List.not_mem_nil, or_false] at hin
  rcases hin with rfl | rfl | rfl | rfl | rfl | rfl | rfl | rfl | rfl | rfl | rfl | rfl | rfl | rfl | rfl | rfl | rfl | rfl | rfl | rfl | rfl | rfl | rfl | rfl | rfl | rfl | rfl | rfl | rfl | rfl | rfl | rfl | rfl | rfl | rfl | rfl | rfl | rfl | rfl | rfl | rfl | rfl | rfl | rfl | rfl | rfl | rfl | rfl | rfl | rfl | rfl | rfl | rfl | rfl | rfl | rfl | rfl | rfl | rfl | rfl | rfl | rfl | rfl | rfl | rfl | rfl | rfl | rfl | rfl | rfl | rfl | rfl | rfl | rfl | rfl | rfl | rfl <;> simp only [sp_ty, sp_ao] at hr <;> simp at hr <;> grind [sp_isv, sp_i, sp_bin, sp_hB]
theorem sp_ty_ab (nt : sp_NT) (N M : Nat) (res par : Nat → Int32) (k a b : Int32) (hk : sp_isK k = true) (hr : ¬ sp_ty nt (sp_nd N) (sp_fr nt N) M res par k a b = -1) (h1 : sp_hA k = true) (h2 : sp_hB k = true) (h3 : ¬ a = -1) : ¬ a = b := by
  intro e
  subst e
  have f8 : ∀ q, sp_fk nt (sp_fr nt N) a q = true → nt 0 a.toNatClampNeg = q := fun q h => by unfold sp_fk at h; simp only [Bool.and_eq_true, decide_eq_true_eq] at h; exact h.2
  have f9 : ¬ sp_val nt (sp_fr nt N) a = 0 → sp_E (nt 0 a.toNatClampNeg) = true := fun h => by
    unfold sp_val at h
    cases q : sp_E (nt 0 a.toNatClampNeg)
    · rw [q, Bool.and_false] at h; exact absurd rfl h
    · rfl
  have g1 : ¬ sp_tg nt (sp_fr nt N) a = 0 → sp_E (nt 0 a.toNatClampNeg) = true := fun h => by
    unfold sp_tg at h
    by_cases q6 : nt 0 a.toNatClampNeg = 6
    · rw [q6]; decide
    by_cases q8 : nt 0 a.toNatClampNeg = 8
    · rw [q8]; decide
    simp [q6, q8] at h
  have g2 : sp_act nt (sp_fr nt N) a = true → sp_Sk (nt 0 a.toNatClampNeg) = true := fun h => by unfold sp_act at h; simp only [Bool.and_eq_true] at h; exact h.2
  have g4 : ∀ q, sp_E q = true → sp_Sk q = true → False := fun q x1 x2 => by
    rcases sp_Sk_iff.mp x2 with z | z | z | z | z | z | z | z | z | z | z | z | z | z | z | z | z | z <;> rw [z] at x1 <;> exact absurd x1 (by decide)
  have eE : sp_E 5 = false ∧ sp_E 33 = false ∧ sp_E 49 = false ∧ sp_E 66 = false ∧ sp_E 70 = false ∧ sp_E 76 = false ∧ sp_E 77 = false ∧ sp_E 78 = false ∧ sp_E 82 = false ∧ sp_E 83 = false ∧ sp_E 84 = false := by decide
  have eS : sp_Sk 5 = false ∧ sp_Sk 33 = false ∧ sp_Sk 49 = false ∧ sp_Sk 66 = false ∧ sp_Sk 70 = false ∧ sp_Sk 76 = false ∧ sp_Sk 77 = false ∧ sp_Sk 78 = false ∧ sp_Sk 82 = false ∧ sp_Sk 83 = false ∧ sp_Sk 84 = false := by decide
  have hin := sp_isK_in k hk
  simp only [List.mem_cons, List.not_mem_nil, or_false] at hin
  rcases hin with rfl | rfl | rfl | rfl | rfl | rfl | rfl | rfl | rfl | rfl | rfl | rfl | rfl | rfl | rfl | rfl | rfl | rfl | rfl | rfl | rfl | rfl | rfl | rfl | rfl | rfl | rfl | rfl | rfl | rfl | rfl | rfl | rfl | rfl | rfl | rfl | rfl | rfl | rfl | rfl | rfl | rfl | rfl | rfl | rfl | rfl | rfl | rfl | rfl | rfl | rfl | rfl | rfl | rfl | rfl | rfl | rfl | rfl | rfl | rfl | rfl | rfl | rfl | rfl | rfl | rfl | rfl | rfl | rfl | rfl | rfl | rfl | rfl | rfl | rfl | rfl | rfl <;> simp only [sp_ty, sp_ao] at hr <;> simp at hr <;> grind [sp_isv, sp_i, sp_bin, sp_hA, sp_hB]
/-- trees of nodes; those of free nodes have nothing in common -/
def oTs (nt : sp_NT) (N : Nat) (T : Nat → List Nat) : Prop := oTr nt N T ∧ ∀ n m, n < N → m < N → n ≠ m → nt 5 n = 0 → nt 5 m = 0 → ∀ x, x ∈ T n → ¬ x ∈ T m
section
variable {nt nt' : sp_NT} {N M : Nat} {res par : Nat → Int32} {T : Nat → List Nat}
theorem oTs.mark (t : oTs nt N T) (h : ∀ j i, j < 5 → nt' j i = nt j i) (h5 : ∀ i, nt' 5 i = 0 → nt 5 i = 0) : oTs nt' N T :=
  ⟨fun n hn => by rw [h 0 n (by decide), h 1 n (by decide), h 2 n (by decide)]; exact t.1 n hn, fun n m hn hm e a b => t.2 n m hn hm e (h5 n a) (h5 m b)⟩
theorem oTs.new (t : oTs nt N T) (hN : N < 4000) (hpa : ∀ n, n < N → sp_pa (nt 0 n) (nt 1 n) = true → (nt 1 n).toNatClampNeg < N) (hpb : ∀ n, n < N → sp_pb (nt 0 n) (nt 2 n) = true → (nt 2 n).toNatClampNeg < N) {k a b ty : Int32}
    (ha : sp_pa k a = true → sp_fr nt N a = true) (hb : sp_pb k b = true → sp_fr nt N b = true) (hab : sp_pa k a = true → sp_pb k b = true → ¬ a = b) : ∃ T', oTs (sp_new nt N k a b ty) (N + 1) T' ∧ ∀ n, n < N → T' n = T n := by
  obtain ⟨t1, t2⟩ := t
  have fr : ∀ c : Int32, sp_fr nt N c = true → c.toNatClampNeg < N ∧ nt 5 c.toNatClampNeg = 0 ∧ sp_nd N c = true := fun c h => by
    unfold sp_fr at h; simp only [Bool.and_eq_true, decide_eq_true_eq] at h
    exact ⟨sp_nd_lt (by omega) h.1, h.2, h.1⟩
  have e : ∀ j n, j < 5 → n < N → sp_new nt N k a b ty j n = nt j n := fun j n hj hn => by
    unfold sp_new
    rw [if_neg (by omega), if_neg (by omega)]
  have e5 : ∀ n, n < N → sp_new nt N k a b ty 5 n = 0 → nt 5 n = 0 ∧ ¬ (sp_pa k a = true ∧ n = a.toNatClampNeg) ∧ ¬ (sp_pb k b = true ∧ n = b.toNatClampNeg) := fun n hn h => by
    unfold sp_new at h
    rw [if_neg (by omega)] at h
    split at h
    · exact absurd h (by decide)
    · rename_i q
      exact ⟨h, fun z => q ⟨rfl, Or.inl z⟩, fun z => q ⟨rfl, Or.inr z⟩⟩
  let P : List Nat := (bif sp_pa k a then T a.toNatClampNeg else []) ++ (bif sp_pb k b then T b.toNatClampNeg else [])
  let T' : Nat → List Nat := fun n => if n = N then N :: P else T n
  have T'lt : ∀ n, n < N → T' n = T n := fun n hn => if_neg (by omega)
  have T'N : T' N = N :: P := if_pos rfl
  have memP : ∀ x, x ∈ P → (sp_pa k a = true ∧ x ∈ T a.toNatClampNeg) ∨ (sp_pb k b = true ∧ x ∈ T b.toNatClampNeg) := fun x hx => by
    rcases List.mem_append.mp hx with q | q
    · cases w : sp_pa k a
      · rw [w] at q; cases q
      · rw [w] at q; exact Or.inl ⟨rfl, q⟩
    · cases w : sp_pb k b
      · rw [w] at q; cases q
      · rw [w] at q; exact Or.inr ⟨rfl, q⟩
  have ltP : ∀ x, x ∈ P → x < N := fun x hx => by
    rcases memP x hx with ⟨q, w⟩ | ⟨q, w⟩
    · exact (t1 _ (fr a (ha q)).1).2.2 x w
    · exact (t1 _ (fr b (hb q)).1).2.2 x w
  have ndP : P.Nodup := by
    refine List.nodup_append.mpr ⟨?_, ?_, fun x hx y hy exy => ?_⟩
    · cases w : sp_pa k a
      · exact List.nodup_nil
      · exact (t1 _ (fr a (ha w)).1).2.1
    · cases w : sp_pb k b
      · exact List.nodup_nil
      · exact (t1 _ (fr b (hb w)).1).2.1
    · subst exy
      cases w : sp_pa k a
      · rw [w] at hx; cases hx
      · cases w' : sp_pb k b
        · rw [w'] at hy; cases hy
        · rw [w] at hx; rw [w'] at hy
          have fa := fr a (ha w)
          have fb := fr b (hb w')
          refine t2 _ _ fa.1 fb.1 (fun q => hab w w' ?_) fa.2.1 fb.2.1 x hx hy
          rw [sp_nd_eq (by omega) fa.2.2, sp_nd_eq (by omega) fb.2.2, q]
  refine ⟨T', ⟨fun n hn => ?_, fun n m hn hm hne f1 f2 x x1 x2 => ?_⟩, T'lt⟩
  · by_cases q : n = N
    · subst q
      have e0 : sp_new nt n k a b ty 0 n = k := by unfold sp_new; rw [if_pos rfl, if_pos rfl]
      have e1 : sp_new nt n k a b ty 1 n = a := by unfold sp_new; rw [if_pos rfl, if_neg (by decide), if_pos rfl]
      have e2 : sp_new nt n k a b ty 2 n = b := by unfold sp_new; rw [if_pos rfl, if_neg (by decide), if_neg (by decide), if_pos rfl]
      rw [e0, e1, e2, T'N]
      refine ⟨?_, List.nodup_cons.mpr ⟨fun z => absurd (ltP _ z) (Nat.lt_irrefl _), ndP⟩, fun x hx => ?_⟩
      · show n :: ((bif sp_pa k a then T a.toNatClampNeg else []) ++ (bif sp_pb k b then T b.toNatClampNeg else [])) = _
        congr 2
        · cases w : sp_pa k a
          · rfl
          · exact (T'lt _ (fr a (ha w)).1).symm
        · cases w : sp_pb k b
          · rfl
          · exact (T'lt _ (fr b (hb w)).1).symm
      · rcases List.mem_cons.mp hx with z | z
        · omega
        · have := ltP x z; omega
    · have hn' : n < N := by omega
      obtain ⟨s1, s2, s3⟩ := t1 n hn'
      rw [e 0 n (by decide) hn', e 1 n (by decide) hn', e 2 n (by decide) hn', T'lt n hn']
      refine ⟨?_, s2, fun x hx => by have := s3 x hx; omega⟩
      rw [s1]
      congr 2
      · cases w : sp_pa (nt 0 n) (nt 1 n)
        · rfl
        · exact (T'lt _ (hpa n hn' w)).symm
      · cases w : sp_pb (nt 0 n) (nt 2 n)
        · rfl
        · exact (T'lt _ (hpb n hn' w)).symm
  · have key : ∀ n, n < N → sp_new nt N k a b ty 5 n = 0 → ∀ x, x ∈ T n → ¬ x ∈ N :: P := fun n hn f x hx hP => by
      obtain ⟨g1, g2, g3⟩ := e5 n hn f
      rcases List.mem_cons.mp hP with z | z
      · have := (t1 n hn).2.2 x hx; omega
      · rcases memP x z with ⟨w, y⟩ | ⟨w, y⟩
        · exact t2 _ _ hn (fr a (ha w)).1 (fun q => g2 ⟨w, q⟩) g1 (fr a (ha w)).2.1 x hx y
        · exact t2 _ _ hn (fr b (hb w)).1 (fun q => g3 ⟨w, q⟩) g1 (fr b (hb w)).2.1 x hx y
    by_cases q : n = N
    · have hm' : m < N := by omega
      rw [q, T'N] at x1
      rw [T'lt m hm'] at x2
      exact key m hm' f2 x x2 x1
    · have hn' : n < N := by omega
      rw [T'lt n hn'] at x1
      by_cases q' : m = N
      · rw [q', T'N] at x2
        exact key n hn' f1 x x1 x2
      · have hm' : m < N := by omega
        rw [T'lt m hm'] at x2
        exact t2 n m hn' hm' hne (e5 n hn' f1).1 (e5 m hm' f2).1 x x1 x2
/-- a right node more -/
theorem oTs.node (t : oTs nt N T) (hT : sp_WF nt N M res par) (hN : N < 4000) {k a b : Int32} (hk : sp_isK k = true) (hr : ¬ sp_ty nt (sp_nd N) (sp_fr nt N) M res par k a b = -1) : ∃ T', oTs (sp_new nt N k a b (sp_ty nt (sp_nd N) (sp_fr nt N) M res par k a b)) (N + 1) T' ∧ ∀ n, n < N → T' n = T n := by
  have un : ∀ {p : Bool} {c : Int32}, (p && !decide (c = -1)) = true → p = true ∧ ¬ c = -1 := fun h => by simpa using h
  refine t.new hN (fun n hn h => Nat.lt_of_lt_of_le (sp_nd_lt (by omega) (hT.pa hn h)) (by omega)) (fun n hn h => Nat.lt_of_lt_of_le (sp_nd_lt (by omega) (hT.pb hn h)) (by omega)) (fun h => sp_ty_af nt N M res par k a b hk hr (un h).1 (un h).2) (fun h => sp_ty_bf nt N M res par k a b hk hr (un h).1 (un h).2) (fun h h' => sp_ty_ab nt N M res par k a b hk hr (un h).1 (un h').1 (un h).2)
/-- parameters are of their chain's tree -/
theorem oPa_mem (hT : wTb nt N M res par) (hTr : oTr nt N T) : ∀ (l : List Int32) (p : Int32), sp_Ch nt N 86 l p → (∀ x, x ∈ l → (nA nt x).toNatClampNeg ∈ oT T p) ∧ (¬ p = -1 → 2 * l.length ≤ (oT T p).length) := by
  intro l
  induction l with
  | nil => intro p h; exact ⟨fun x hx => (by cases hx), fun q => absurd h q⟩
  | cons q l ih =>
    intro p h
    obtain ⟨e1, e2, e3, e4, e5⟩ := h
    subst e1
    have h40 := hT.2.2
    have pa := sp_pa_k e3 (a := nA nt p) (by decide) (nd_n1 e4)
    have Ta := hTr.a h40 e2 pa
    have self := hTr.self h40 e4
    have len1 : 1 ≤ (oT T (nA nt p)).length := List.length_pos_of_mem self
    obtain ⟨i1, i2⟩ := ih _ e5
    cases l with
    | nil =>
      refine ⟨fun x hx => ?_, fun _ => ?_⟩
      · rw [List.mem_singleton.mp hx]; exact Ta _ self
      · have := hTr.la h40 e2 pa
        simp only [List.length_cons, List.length_nil]; omega
    | cons q1 l1 =>
      have eb : nB nt p = q1 := e5.1
      have pb := sp_pb_k e3 (a := nB nt p) (by decide) (nd_n1 (by rw [eb]; exact e5.2.1))
      refine ⟨fun x hx => ?_, fun _ => ?_⟩
      · rcases List.mem_cons.mp hx with y | y
        · rw [y]; exact Ta _ self
        · exact hTr.b h40 e2 pb _ (i1 x y)
      · have l1' := i2 (nd_n1 (show sp_nd N (nB nt p) = true by rw [eb]; exact e5.2.1))
        have : (oT T (nA nt p)).length + (oT T (nt 2 p.toNatClampNeg)).length + 1 ≤ (oT T p).length := hTr.lab h40 e2 pa pb
        simp only [List.length_cons] at *; omega
end
