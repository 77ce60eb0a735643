/-! THE SMALL MACHINE IS THE REAL ONE: each step of it by one row of the kit -/
section
variable {p : Program} {l : Launch} {e : Env} {R : Room} {s : State} {m : MethodId} {args : Array Value} {below : List Frame} {meth : Method} {c : Code} {H : Heap} {locs : List Loc} {cells slots : Nat} {Q : State → Prop} {cc : ByteArray} {pc : Nat} {ls : Array Slot} {rest : List Value}
/-- a float of the pool by a wide place -/
theorem mj_ldcwF {T : State} (X : Stand p l e R s m args below meth c T locs cells slots) (hexec : p.tables.exec = Jvm.exec) {own : String} {index : Nat} {v : UInt32} (hown : s.vm.findClass own = some m.cls)
    (hconst : (Cond.constantFloat own index v).before args s = true) {g : JFrame} (hg : g.method = m) (hdg : decode c.code g.pc = .ok (.ldc_w index, 3)) :
    ∀ target, Steps p.tables e below (T.setTop { g with pc := g.pc + 3, stack := .float v :: g.stack }) target → Steps p.tables e below (T.setTop g) target := by
  obtain ⟨k, cf, hk, hcf, hcp⟩ := Cond.constantFloat_spec hown hconst
  obtain ⟨k', hk', he⟩ := X.warmed.alike.2.2 _ _ hk
  intro target hrest
  subst hg
  jvm_step X.here [hexec, hdg, ldc_w.wp_float (s := T) (f := g) X.here.top hk' (by rw [he]; exact hcf) hcp]
  exact hrest
theorem mj_ldcwf (hexec : p.tables.exec = Jvm.exec) (hb : c.code = cc) {own : String} {index : Nat} {v : UInt32} (hown : s.vm.findClass own = some m.cls) (hconst : (Jvm.Cond.constantFloat own index v).before args s = true) (hdg : decode cc pc = .ok (.ldc_w index, 3)) (k : W p l e R s m args below meth c H locs cells slots Q (F0 m (pc + 3) ls (.float v :: rest))) : W p l e R s m args below meth c H locs cells slots Q (F0 m pc ls rest) := by
  intro T hT X
  obtain ⟨t, a, b⟩ := k T hT X
  exact ⟨t, mj_ldcwF X hexec hown hconst (g := F0 m pc ls rest) rfl (by rw [hb]; exact hdg) t a, b⟩
end
def mj_cv (ad : Nat → Nat) : Value → Value
  | .ref a => .ref (ad a)
  | v => v
theorem mj_cv_cat (ad : Nat → Nat) (v : Value) : (mj_cv ad v).category = v.category := by cases v <;> rfl
/-- the locals of the small machine are those of the real one -/
def mj_lv (ad : Nat → Nat) (ls : mj_L) (lc : Array Slot) : Prop := lc.size = ls.length ∧ lv_wf lc ∧ ∀ (i : Nat) (v : Value), ls[i]? = some (some v) → lc[i]? = some (.val (mj_cv ad v))
def mj_as (ad : Nat → Nat) (ls : mj_L) : List (Nat × Value) := (List.range ls.length).filterMap (fun i => match ls[i]? with | some (some v) => some (i, mj_cv ad v) | _ => none)
theorem mj_as_in {ad : Nat → Nat} {ls : mj_L} {i : Nat} {v : Value} (h : ls[i]? = some (some v)) : (i, mj_cv ad v) ∈ mj_as ad ls := by
  unfold mj_as
  refine List.mem_filterMap.mpr ⟨i, List.mem_range.mpr (List.getElem?_eq_some_iff.mp h).1, ?_⟩
  rw [h]
theorem mj_as_of {ad : Nat → Nat} {ls : mj_L} {q : Nat × Value} (h : q ∈ mj_as ad ls) : ∃ v, ls[q.1]? = some (some v) ∧ q.2 = mj_cv ad v := by
  obtain ⟨i, hi, he⟩ := List.mem_filterMap.mp h
  revert he
  split
  · rename_i v hv
    intro he; cases he; exact ⟨v, hv, rfl⟩
  · intro he; cases he
theorem mj_lv.has {ad : Nat → Nat} {ls : mj_L} {lc : Array Slot} (h : mj_lv ad ls lc) : lv_has lc ls.length (mj_as ad ls) := ⟨h.1, h.2.1, fun q hq => by
  obtain ⟨v, h1, h2⟩ := mj_as_of hq
  rw [h2]; exact h.2.2 _ _ h1⟩
theorem mj_cl_len (ls : mj_L) (i : Nat) : (mj_cl ls i).length = ls.length := by
  unfold mj_cl; repeat' split
  all_goals simp
theorem mj_cl_get {ls : mj_L} {i j : Nat} {w : Value} (h : (mj_cl ls i)[j]? = some (some w)) : ls[j]? = some (some w) ∧ ¬ (j + 1 = i ∧ w.category = 2) := by
  have key : ∀ (k : Nat), (ls.set k none)[j]? = some (some w) → ls[j]? = some (some w) ∧ j ≠ k := by
    intro k hk
    rw [List.getElem?_set] at hk
    by_cases hkj : k = j
    · rw [if_pos hkj] at hk
      split at hk <;> cases hk
    · rw [if_neg hkj] at hk; exact ⟨hk, fun e => hkj e.symm⟩
  unfold mj_cl at h
  split at h
  · exact ⟨h, fun e => by omega⟩
  · rename_i k
    split at h
    · obtain ⟨a, b⟩ := key _ h; exact ⟨a, fun e => b (by omega)⟩
    · obtain ⟨a, b⟩ := key _ h; exact ⟨a, fun e => b (by omega)⟩
    · rename_i n1 n2
      refine ⟨h, fun e => ?_⟩
      have ej : j = k := by omega
      subst ej
      cases w with
      | long q => exact n1 q h
      | double q => exact n2 q h
      | _ => exact absurd e.2 (by simp [Value.category])
theorem mj_lv.s1 {ad : Nat → Nat} {ls : mj_L} {i : Nat} {v : Value} {lc' : Array Slot} (h' : lv_has lc' ls.length ((i, mj_cv ad v) :: (mj_as ad ls).filter (fun q => !(q.1 == i) && !(q.1 + 1 == i && q.2.category == 2)))) : mj_lv ad ((mj_cl ls i).set i (some v)) lc' := by
  refine ⟨by rw [List.length_set, mj_cl_len]; exact h'.1, h'.2.1, fun j w hj => ?_⟩
  rw [List.getElem?_set] at hj
  by_cases hij : i = j
  · subst hij
    rw [if_pos rfl] at hj
    split at hj
    · cases hj; exact h'.2.2 (i, mj_cv ad v) List.mem_cons_self
    · cases hj
  · rw [if_neg hij] at hj
    obtain ⟨h1, h2⟩ := mj_cl_get hj
    refine h'.2.2 (j, mj_cv ad w) (List.mem_cons_of_mem _ (List.mem_filter.mpr ⟨mj_as_in h1, ?_⟩))
    have e1 : (j == i) = false := by simp; exact fun e => hij e.symm
    show (!(j == i) && !(j + 1 == i && (mj_cv ad w).category == 2)) = true
    rw [e1, mj_cv_cat]
    by_cases h3 : j + 1 = i
    · have h4 : ¬ w.category = 2 := fun e => h2 ⟨h3, e⟩
      simp [h4]
    · simp [h3]
theorem mj_lv.s2 {ad : Nat → Nat} {ls : mj_L} {i : Nat} {v : Value} {lc' : Array Slot} (h' : lv_has lc' ls.length ((i, mj_cv ad v) :: (mj_as ad ls).filter (fun q => !(q.1 == i) && (!(q.1 == i + 1) && !(q.1 + 1 == i && q.2.category == 2))))) : mj_lv ad (((mj_cl ls i).set i (some v)).set (i + 1) none) lc' := by
  refine ⟨by rw [List.length_set, List.length_set, mj_cl_len]; exact h'.1, h'.2.1, fun j w hj => ?_⟩
  rw [List.getElem?_set] at hj
  by_cases hi1 : i + 1 = j
  · rw [if_pos hi1] at hj
    split at hj <;> cases hj
  · rw [if_neg hi1, List.getElem?_set] at hj
    by_cases hij : i = j
    · subst hij
      rw [if_pos rfl] at hj
      split at hj
      · cases hj; exact h'.2.2 (i, mj_cv ad v) List.mem_cons_self
      · cases hj
    · rw [if_neg hij] at hj
      obtain ⟨h1, h2⟩ := mj_cl_get hj
      refine h'.2.2 (j, mj_cv ad w) (List.mem_cons_of_mem _ (List.mem_filter.mpr ⟨mj_as_in h1, ?_⟩))
      have e1 : (j == i) = false := by simp; exact fun e => hij e.symm
      have e2 : (j == i + 1) = false := by simp; exact fun e => hi1 e.symm
      show (!(j == i) && (!(j == i + 1) && !(j + 1 == i && (mj_cv ad w).category == 2))) = true
      rw [e1, e2, mj_cv_cat]
      by_cases h3 : j + 1 = i
      · have h4 : ¬ w.category = 2 := fun e => h2 ⟨h3, e⟩
        simp [h4]
      · simp [h3]
theorem mj_e_s {len n : Nat} {r : mj_R} {v : Option Value × mj_X} (h : mj_e len n r = some v) : len = n ∧ r = some v := by
  unfold mj_e at h
  cases hb : Nat.beq len n
  · rw [hb] at h; cases h
  · rw [hb] at h; exact ⟨Nat.eq_of_beq_eq_true hb, h⟩
theorem mj_b_s {b : Bool} {r : mj_R} {v : Option Value × mj_X} (h : (bif b then r else none) = some v) : b = true ∧ r = some v := by
  cases b
  · cases h
  · exact ⟨rfl, h⟩
theorem mj_in_s {i : Int32} {n : Nat} (h : mj_in i n = true) : vp_in i n := by
  unfold mj_in at h
  unfold vp_in
  intro hc
  rcases hc with hc | hc
  · simp [hc] at h
  · rw [Nat.ble_eq_true_of_le hc] at h; simp at h
theorem mj_g_s {i : Int32} {n : Nat} {r : mj_R} {v : Option Value × mj_X} (h : mj_g i n r = some v) : vp_in i n ∧ r = some v := by
  obtain ⟨h1, h2⟩ := mj_b_s h
  exact ⟨mj_in_s h1, h2⟩
theorem mj_zb_s {v : Int32} (h : mj_zb v = true) : v = 0 ∨ v = 1 := by
  unfold mj_zb at h
  simpa using h
theorem mj_gb_s {i : Int32} {r : mj_R} {v : Option Value × mj_X} (h : mj_gb i r = some v) : (i = 0 ∨ i = 1) ∧ r = some v := by
  obtain ⟨h1, h2⟩ := mj_b_s h
  exact ⟨mj_zb_s h1, h2⟩
theorem mj_d32_s {i : Int32} {r : mj_R} {v : Option Value × mj_X} (h : mj_d32 i r = some v) : ¬ i = 0 ∧ r = some v := by
  unfold mj_d32 at h
  split at h
  · cases h
  · exact ⟨by assumption, h⟩
theorem mj_d64_s {i : Int64} {r : mj_R} {v : Option Value × mj_X} (h : mj_d64 i r = some v) : ¬ i = 0 ∧ r = some v := by
  unfold mj_d64 at h
  split at h
  · cases h
  · exact ⟨by assumption, h⟩
theorem mj_n32_s {i : UInt32} {r : mj_R} {v : Option Value × mj_X} (h : mj_n32 i r = some v) : vf_n32 i ∧ r = some v := by
  unfold mj_n32 at h
  split at h
  · exact ⟨by assumption, h⟩
  · cases h
theorem mj_n64_s {i : UInt64} {r : mj_R} {v : Option Value × mj_X} (h : mj_n64 i r = some v) : vf_n64 i ∧ r = some v := by
  unfold mj_n64 at h
  split at h
  · exact ⟨by assumption, h⟩
  · cases h
theorem mj_pI_s {st : List Value} {k : Int32 → List Value → mj_R} {v : Option Value × mj_X} (h : mj_pI st k = some v) : ∃ a r, st = .int a :: r ∧ k a r = some v := by
  unfold mj_pI at h
  split at h
  · exact ⟨_, _, rfl, h⟩
  · cases h
theorem mj_lI_s {ls : mj_L} {n : Nat} {k : Int32 → mj_R} {v : Option Value × mj_X} (h : mj_lI ls n k = some v) : ∃ a, ls[n]? = some (some (.int a)) ∧ k a = some v := by
  unfold mj_lI at h
  split at h
  · exact ⟨_, by assumption, h⟩
  · cases h
theorem mj_pL_s {st : List Value} {k : Int64 → List Value → mj_R} {v : Option Value × mj_X} (h : mj_pL st k = some v) : ∃ a r, st = .long a :: r ∧ k a r = some v := by
  unfold mj_pL at h
  split at h
  · exact ⟨_, _, rfl, h⟩
  · cases h
theorem mj_lL_s {ls : mj_L} {n : Nat} {k : Int64 → mj_R} {v : Option Value × mj_X} (h : mj_lL ls n k = some v) : ∃ a, ls[n]? = some (some (.long a)) ∧ k a = some v := by
  unfold mj_lL at h
  split at h
  · exact ⟨_, by assumption, h⟩
  · cases h
theorem mj_pF_s {st : List Value} {k : UInt32 → List Value → mj_R} {v : Option Value × mj_X} (h : mj_pF st k = some v) : ∃ a r, st = .float a :: r ∧ k a r = some v := by
  unfold mj_pF at h
  split at h
  · exact ⟨_, _, rfl, h⟩
  · cases h
theorem mj_lF_s {ls : mj_L} {n : Nat} {k : UInt32 → mj_R} {v : Option Value × mj_X} (h : mj_lF ls n k = some v) : ∃ a, ls[n]? = some (some (.float a)) ∧ k a = some v := by
  unfold mj_lF at h
  split at h
  · exact ⟨_, by assumption, h⟩
  · cases h
theorem mj_pD_s {st : List Value} {k : UInt64 → List Value → mj_R} {v : Option Value × mj_X} (h : mj_pD st k = some v) : ∃ a r, st = .double a :: r ∧ k a r = some v := by
  unfold mj_pD at h
  split at h
  · exact ⟨_, _, rfl, h⟩
  · cases h
theorem mj_lD_s {ls : mj_L} {n : Nat} {k : UInt64 → mj_R} {v : Option Value × mj_X} (h : mj_lD ls n k = some v) : ∃ a, ls[n]? = some (some (.double a)) ∧ k a = some v := by
  unfold mj_lD at h
  split at h
  · exact ⟨_, by assumption, h⟩
  · cases h
theorem mj_pA_s {st : List Value} {k : Nat → List Value → mj_R} {v : Option Value × mj_X} (h : mj_pA st k = some v) : ∃ a r, st = .ref a :: r ∧ k a r = some v := by
  unfold mj_pA at h
  split at h
  · exact ⟨_, _, rfl, h⟩
  · cases h
theorem mj_lA_s {ls : mj_L} {n : Nat} {k : Nat → mj_R} {v : Option Value × mj_X} (h : mj_lA ls n k = some v) : ∃ a, ls[n]? = some (some (.ref a)) ∧ k a = some v := by
  unfold mj_lA at h
  split at h
  · exact ⟨_, by assumption, h⟩
  · cases h
theorem mj_s1_s {ls : mj_L} {i : Nat} {w : Value} {k : mj_L → mj_R} {v : Option Value × mj_X} (h : mj_s1 ls i w k = some v) : i < ls.length ∧ k ((mj_cl ls i).set i (some w)) = some v := by
  obtain ⟨h1, h2⟩ := mj_b_s h
  exact ⟨Nat.lt_of_succ_le (by simpa [Nat.blt] using h1), h2⟩
theorem mj_s2_s {ls : mj_L} {i : Nat} {w : Value} {k : mj_L → mj_R} {v : Option Value × mj_X} (h : mj_s2 ls i w k = some v) : i + 1 < ls.length ∧ k (((mj_cl ls i).set i (some w)).set (i + 1) none) = some v := by
  obtain ⟨h1, h2⟩ := mj_b_s h
  exact ⟨Nat.lt_of_succ_le (by simpa [Nat.blt] using h1), h2⟩
theorem mj_j_s {pc : Nat} {off : Int} {k : Nat → mj_R} {v : Option Value × mj_X} (h : mj_j pc off k = some v) : ∃ t : Nat, (pc : Int) + off = (t : Int) ∧ k t = some v := by
  unfold mj_j at h
  split at h
  · rename_i t e; exact ⟨t, e, h⟩
  · cases h
/-! the abstract heap as cells: the object, then its arrays, one a field -/
def mj_fv (cd : mj_C) (ad : Nat → Nat) (x : mj_X) (f : Nat) : Value := match cd.2.1 f with
  | 0 => .int (x.1 0 f)
  | 1 => .int (x.1 0 f)
  | 2 => .long (x.2 0 f)
  | _ => .ref (ad (f + 1))
def mj_ac (cd : mj_C) (x : mj_X) (f : Nat) : vp_A := (cd.2.2.1 f, match cd.2.1 f with | 6 => .inr (.inl (x.2 (f + 1))) | _ => .inl (x.1 (f + 1)))
def mj_af (cd : mj_C) (N : Nat) : List Nat := (List.range N).filter (fun f => Nat.ble 3 (cd.2.1 f))
def mj_ws (cd : mj_C) (N ci : Nat) (ad : Nat → Nat) (cA : Nat → ClassId) (x : mj_X) : va_W := (ad 0, .inr (ci, (List.range N).map (mj_fv cd ad x))) :: (mj_af cd N).map (fun f => (ad (f + 1), .inl (cA f, mj_ac cd x f)))
def mj_ty : Nat → FieldType
  | 3 => .int
  | 4 => .byte
  | 5 => .boolean
  | _ => .long
def mj_kt : Nat → FieldType
  | 0 => .int
  | 1 => .boolean
  | 2 => .long
  | k => .array (mj_ty k)
def mj_tys (cd : mj_C) (N : Nat) (cA : Nat → ClassId) : List (ClassId × FieldType) := (mj_af cd N).map (fun f => (cA f, mj_ty (cd.2.1 f)))
theorem mj_af_nd (cd : mj_C) (N : Nat) : (mj_af cd N).Nodup := List.Nodup.sublist List.filter_sublist List.nodup_range
theorem mj_af_at {cd : mj_C} {N f : Nat} (hf : f < N) (hk : 3 ≤ cd.2.1 f) : ∃ q : Nat, (mj_af cd N)[q]? = some f := by
  have : f ∈ mj_af cd N := List.mem_filter.mpr ⟨List.mem_range.mpr hf, Nat.ble_eq_true_of_le hk⟩
  exact List.getElem?_of_mem this
theorem mj_ws_0 (cd : mj_C) (N ci : Nat) (ad : Nat → Nat) (cA : Nat → ClassId) (x : mj_X) : (mj_ws cd N ci ad cA x)[0]? = some (ad 0, .inr (ci, (List.range N).map (mj_fv cd ad x))) := rfl
theorem mj_ws_a {cd : mj_C} {N q f : Nat} (ci : Nat) (ad : Nat → Nat) (cA : Nat → ClassId) (x : mj_X) (h : (mj_af cd N)[q]? = some f) : (mj_ws cd N ci ad cA x)[q + 1]? = some (ad (f + 1), .inl (cA f, mj_ac cd x f)) := by
  show ((mj_af cd N).map _)[q]? = _
  rw [List.getElem?_map, h]; rfl
theorem mj_tys_a {cd : mj_C} {N q f : Nat} (cA : Nat → ClassId) (h : (mj_af cd N)[q]? = some f) : (mj_tys cd N cA)[q]? = some (cA f, mj_ty (cd.2.1 f)) := by
  unfold mj_tys
  rw [List.getElem?_map, h]; rfl
/-- an array's contents change: the cells of the new heap -/
theorem mj_ws_seta {cd : mj_C} {N q f : Nat} (ci : Nat) (ad : Nat → Nat) (cA : Nat → ClassId) {x x' : mj_X} {a : vp_A} (h : (mj_af cd N)[q]? = some f) (h0 : ∀ k, x'.1 0 k = x.1 0 k ∧ x'.2 0 k = x.2 0 k) (h1 : ∀ k, k ≠ f + 1 → x'.1 k = x.1 k ∧ x'.2 k = x.2 k) (ha : a = mj_ac cd x' f) : (mj_ws cd N ci ad cA x).set (q + 1) (ad (f + 1), .inl (cA f, a)) = mj_ws cd N ci ad cA x' := by
  have e0 : mj_fv cd ad x = mj_fv cd ad x' := by
    funext k; unfold mj_fv
    rw [(h0 k).1, (h0 k).2]
  show (ad 0, _) :: ((mj_af cd N).map _).set q _ = (ad 0, _) :: (mj_af cd N).map _
  rw [e0]
  congr 1
  apply List.ext_getElem?
  intro j
  rw [List.getElem?_set, List.getElem?_map, List.getElem?_map, List.length_map]
  by_cases hq : q = j
  · subst hq
    rw [if_pos rfl, if_pos (List.getElem?_eq_some_iff.mp h).1, h, ha]; rfl
  · rw [if_neg hq]
    cases hj : (mj_af cd N)[j]? with
    | none => rfl
    | some g =>
      have hne : g ≠ f := fun e => hq (by
        subst e
        exact (List.getElem?_inj (List.getElem?_eq_some_iff.mp h).1 (mj_af_nd cd N)).mp (h.trans hj.symm))
      have e1 : mj_ac cd x g = mj_ac cd x' g := by
        unfold mj_ac
        rw [(h1 (g + 1) (by omega)).1, (h1 (g + 1) (by omega)).2]
      show some (ad (g + 1), Sum.inl (cA g, mj_ac cd x g)) = some (ad (g + 1), Sum.inl (cA g, mj_ac cd x' g))
      rw [e1]
theorem mj_ws_set0 {cd : mj_C} {N f : Nat} (ci : Nat) (ad : Nat → Nat) (cA : Nat → ClassId) {x x' : mj_X} {v : Value} (hf : f < N) (h1 : ∀ k, k ≠ 0 → x'.1 k = x.1 k ∧ x'.2 k = x.2 k) (h0 : ∀ k, k ≠ f → mj_fv cd ad x' k = mj_fv cd ad x k) (hv : mj_fv cd ad x' f = v) : (mj_ws cd N ci ad cA x).set 0 (ad 0, .inr (ci, ((List.range N).map (mj_fv cd ad x)).set f v)) = mj_ws cd N ci ad cA x' := by
  have e1 : (fun f => ((ad (f + 1), Sum.inl (cA f, mj_ac cd x f)) : Nat × va_E)) = fun f => (ad (f + 1), Sum.inl (cA f, mj_ac cd x' f)) := by
    funext g
    have : mj_ac cd x g = mj_ac cd x' g := by
      unfold mj_ac
      rw [(h1 (g + 1) (by omega)).1, (h1 (g + 1) (by omega)).2]
    rw [this]
  show (ad 0, _) :: _ = (ad 0, _) :: _
  rw [e1]
  congr 4
  apply List.ext_getElem?
  intro j
  rw [List.getElem?_set, List.getElem?_map, List.getElem?_map, List.length_map, List.length_range]
  by_cases hq : f = j
  · subst hq
    rw [if_pos rfl, if_pos hf, List.getElem?_range hf, ← hv]; rfl
  · rw [if_neg hq]
    cases hj : (List.range N)[j]? with
    | none => rfl
    | some g =>
      have hg : g = j := by
        obtain ⟨h5, h6⟩ := List.getElem?_eq_some_iff.mp hj
        simpa using h6.symm
      show some (mj_fv cd ad x g) = some (mj_fv cd ad x' g)
      rw [h0 g (by omega)]
/-- what the constant pool's numbers mean, as the tables have it -/
def mj_okc (cd : mj_C) (own : String) (T : u_T) (N : Nat) : Prop :=
  (∀ w ∈ u_ws own T N, w ∈ lw_all) ∧
  (∀ k, k < N → parseFieldDescriptor (T k).2.2.1 = some (mj_kt (cd.2.1 k)) ∧ cd.2.1 k ≤ 6 ∧ (T k).1 = own ∧ (T k).2.2.2 = Nat.ble 3 (cd.2.1 k)) ∧
  (∀ a, a < N → ∀ b, b < N → a ≠ b → (T a).2.1 ≠ (T b).2.1) ∧
  (∀ i f, cd.1 i = f + 1 → f < N ∧ Cond.fieldLink own i own (T f).2.1 (T f).2.2.1 ∈ lw_all) ∧
  (∀ i v, cd.2.2.2.1 i = .int v → Cond.constant own i v ∈ lw_all) ∧
  (∀ i v, cd.2.2.2.1 i = .long v → Cond.constantLong own i v ∈ lw_all) ∧
  (∀ i v, cd.2.2.2.1 i = .float v → Cond.constantFloat own i v ∈ lw_all) ∧
  (∀ i v, cd.2.2.2.1 i = .double v → Cond.constantDouble own i v ∈ lw_all)
def mj_rt : Nat → Option FieldType
  | 0 => none
  | 1 => some .int
  | 2 => some .long
  | 3 => some .float
  | 4 => some .double
  | _ => some .boolean
section MjStep
variable {p : Program} {l : Launch} {e : Env} {R : Room} {s : State} {m : MethodId} {args : Array Value} {below : List Frame} {meth : Method} {c : Code} {cc : ByteArray}
  {D : va_G} {cl : List vw_C} {cd : mj_C} {own : String} {T : u_T} {N ci : Nat} {ad : Nat → Nat} {cA : Nat → ClassId} {A : Nat → Prop} {rt : Nat} {cal : Nat → List Value → mj_X → mj_R}
def mj_Rel (D : va_G) (cl : List vw_C) (cd : mj_C) (N ci : Nat) (ad : Nat → Nat) (cA : Nat → ClassId) (A : Nat → Prop) (s : State) (x : mj_X) (H : Heap) (locs : List Loc) : Prop :=
  va_P D cl (mj_ws cd N ci ad cA x) H ∧ va_D A (mj_ws cd N ci ad cA x) ∧ va_S A s.heap H locs
def mj_Qc (D : va_G) (cl : List vw_C) (cd : mj_C) (N ci : Nat) (ad : Nat → Nat) (cA : Nat → ClassId) (A : Nat → Prop) (r : Option Value × mj_X) : Array Value → State → Outcome → State → Prop := fun _ st oc t =>
  (oc = .returned (r.1.map (mj_cv ad)) ∧ va_P D cl (mj_ws cd N ci ad cA r.2) t.heap ∧ va_K D cl (mj_tys cd N cA) t ∧ va_D A (mj_ws cd N ci ad cA r.2)) ∧ va_F A st t
def mj_vok (sv : Nat → Bool) : Instr → Prop
  | .invokevirtual i => sv i = true
  | .invokestatic i => sv i = false
  | _ => True
/-- a call goes as 'cal' says -/
def mj_Cal (p : Program) (l : Launch) (e : Env) (R : Room) (s : State) (m : MethodId) (args : Array Value) (below : List Frame) (meth : Method) (c : Code) (cc : ByteArray) (D : va_G) (cl : List vw_C) (cd : mj_C) (N ci : Nat) (ad : Nat → Nat) (cA : Nat → ClassId) (A : Nat → Prop) (cal : Nat → List Value → mj_X → mj_R) (nL : Nat) (sv : Nat → Bool) (virt : Bool) : Prop :=
  ∀ (Q : State → Prop) (i mm pc : Nat) (as rest : List Value) (x : mj_X) (H : Heap) (locs : List Loc) (lc : Array Slot) (r : Option Value × mj_X), sv i = virt → cd.2.2.2.2.1 i = mm + 1 → (virt = true → mm < 1000) → as.length = cd.2.2.2.2.2.1 mm → cal mm (bif virt then .ref 0 :: as else as) x = some r → decode cc pc = .ok (bif virt then .invokevirtual i else .invokestatic i, 3) → lc.size = nL → (rest.map Value.category).sum ≤ 8 →
    mj_Rel D cl cd N ci ad cA A s x H locs → (∀ (H1 : Heap) (locs1 : List Loc), mj_Rel D cl cd N ci ad cA A s r.2 H1 locs1 → W p l e R s m args below meth c H1 locs1 0 0 Q (F0 m (pc + 3) lc ((r.1.map (mj_cv ad)).toList ++ rest.map (mj_cv ad)))) →
    W p l e R s m args below meth c H locs 0 0 Q (F0 m pc lc ((as.reverse ++ (bif virt then .ref 0 :: rest else rest)).map (mj_cv ad)))
/-- what the rest of the run gives -/
def mj_K (p : Program) (l : Launch) (e : Env) (R : Room) (s : State) (m : MethodId) (args : Array Value) (below : List Frame) (meth : Method) (c : Code) (D : va_G) (cl : List vw_C) (cd : mj_C) (N ci : Nat) (ad : Nat → Nat) (cA : Nat → ClassId) (A : Nat → Prop) (nL : Nat) (k : mj_S → mj_R) (r : Option Value × mj_X) (Q : State → Prop) : Prop :=
  ∀ (pc : Nat) (ls : mj_L) (st : List Value) (x : mj_X), k (pc, ls, st, x) = some r → ls.length = nL → ∀ (H : Heap) (locs : List Loc) (lc : Array Slot), mj_lv ad ls lc → mj_Rel D cl cd N ci ad cA A s x H locs → W p l e R s m args below meth c H locs 0 0 Q (F0 m pc lc (st.map (mj_cv ad)))
theorem mj_sw_s {a : Int32} {dflt : Int} {k : Int → mj_R} {v : Option Value × mj_X} : ∀ (offs : List Int) (lo : Int), -2147483648 ≤ lo → lo + offs.length ≤ 2147483648 → mj_sw a lo dflt offs k = some v → ((a.toInt < lo ∨ lo + offs.length ≤ a.toInt) ∧ k dflt = some v) ∨ (lo ≤ a.toInt ∧ ∃ off, offs[(a.toInt - lo).toNat]? = some off ∧ k off = some v) := by
  intro offs
  induction offs with
  | nil => intro lo h1 h2 h; exact Or.inl ⟨by simp; omega, h⟩
  | cons o os ih =>
    intro lo h1 h2 h
    simp only [List.length_cons] at h2 ⊢
    unfold mj_sw at h
    split at h
    · rename_i ha
      have e : a.toInt = lo := by
        rw [ha]; exact Int32.toInt_ofInt_of_le (by omega) (by omega)
      refine Or.inr ⟨by omega, o, ?_, h⟩
      rw [e, Int.sub_self]; rfl
    · rename_i ha
      have hne : a.toInt ≠ lo := fun e => ha (by rw [← e, Int32.ofInt_toInt])
      rcases ih (lo + 1) (by omega) (by omega) h with ⟨h3, h4⟩ | ⟨h3, off, h4, h5⟩
      · exact Or.inl ⟨by omega, h4⟩
      · refine Or.inr ⟨by omega, off, ?_, h5⟩
        have : (a.toInt - lo).toNat = (a.toInt - (lo + 1)).toNat + 1 := by omega
        rw [this]; exact h4
theorem mj_step_ts {nL : Nat} {k : mj_S → mj_R} {r : Option Value × mj_X} {Q : State → Prop} {pc len : Nat} {ls : mj_L} {st : List Value} {x : mj_X} {H : Heap} {locs : List Loc} {lc : Array Slot} (hx : p.tables.exec = Jvm.exec) (hb : c.code = cc) {dflt lo hi : Int} {offs : Array Int} (K : mj_K p l e R s m args below meth c D cl cd N ci ad cA A nL k r Q) (h : mj_st cd rt cal (.tableswitch dflt lo hi offs) len pc ls st x k = some r) (hn : ls.length = nL) (hl : mj_lv ad ls lc) (hr : mj_Rel D cl cd N ci ad cA A s x H locs) (hd : decode cc pc = .ok (.tableswitch dflt lo hi offs, len)) : W p l e R s m args below meth c H locs 0 0 Q (F0 m pc lc (st.map (mj_cv ad))) := by
  have h : mj_pI st _ = some r := h
  have h_ := mj_pI_s h; clear h; obtain ⟨a, r1, rfl, h⟩ := h_
  have h_ := mj_b_s h; clear h; obtain ⟨h1, h⟩ := h_
  simp only [Bool.and_eq_true, decide_eq_true_eq] at h1
  obtain ⟨⟨h1, h2⟩, h3⟩ := h1
  rcases mj_sw_s _ _ h1 (by omega) h with ⟨h4, h5⟩ | ⟨h4, off, h5, h6⟩
  · obtain ⟨t, ht, h⟩ := mj_j_s h5
    exact lv_tableOut hx hb hd (by omega) ht (K _ _ _ _ h hn _ _ _ hl hr)
  · obtain ⟨t, ht, h⟩ := mj_j_s h6
    have h7 : (a.toInt - lo).toNat < offs.toList.length := (List.getElem?_eq_some_iff.mp h5).1
    exact lv_tableIn hx hb hd (by omega) (by omega) (by rw [← Array.getElem?_toList]; exact h5) ht (K _ _ _ _ h hn _ _ _ hl hr)
theorem mj_lk_s {a : Int32} {dflt : Int} {k : Int → mj_R} {v : Option Value × mj_X} : ∀ (ps : List (Int × Int)), (∀ q ∈ ps, -2147483648 ≤ q.1 ∧ q.1 ≤ 2147483647) → mj_lk a dflt ps k = some v → k (Op.lookupswitch.offset ps dflt a.toInt) = some v := by
  intro ps
  induction ps with
  | nil => intro _ h; exact h
  | cons o os ih =>
    intro hq h
    unfold mj_lk at h
    have ho := hq o List.mem_cons_self
    split at h
    · rename_i ha
      have e : o.1 = a.toInt := by
        rw [ha]; exact (Int32.toInt_ofInt_of_le (by omega) (by omega)).symm
      obtain ⟨o1, o2⟩ := o
      simp only at e
      unfold Op.lookupswitch.offset
      rw [if_pos (by simpa using e)]
      exact h
    · rename_i ha
      have hne : ¬ o.1 = a.toInt := fun e => ha (by rw [e, Int32.ofInt_toInt])
      obtain ⟨o1, o2⟩ := o
      simp only at hne
      unfold Op.lookupswitch.offset
      rw [if_neg (by simpa using hne)]
      exact ih (fun q h => hq q (List.mem_cons_of_mem _ h)) h
theorem mj_step_lk {nL : Nat} {k : mj_S → mj_R} {r : Option Value × mj_X} {Q : State → Prop} {pc len : Nat} {ls : mj_L} {st : List Value} {x : mj_X} {H : Heap} {locs : List Loc} {lc : Array Slot} (hx : p.tables.exec = Jvm.exec) (hb : c.code = cc) {dflt : Int} {ps : Array (Int × Int)} (K : mj_K p l e R s m args below meth c D cl cd N ci ad cA A nL k r Q) (h : mj_st cd rt cal (.lookupswitch dflt ps) len pc ls st x k = some r) (hn : ls.length = nL) (hl : mj_lv ad ls lc) (hr : mj_Rel D cl cd N ci ad cA A s x H locs) (hd : decode cc pc = .ok (.lookupswitch dflt ps, len)) : W p l e R s m args below meth c H locs 0 0 Q (F0 m pc lc (st.map (mj_cv ad))) := by
  have h : mj_pI st _ = some r := h
  have h_ := mj_pI_s h; clear h; obtain ⟨a, r1, rfl, h⟩ := h_
  have h_ := mj_b_s h; clear h; obtain ⟨h1, h⟩ := h_
  rw [Bool.and_eq_true] at h1
  have h2 := mj_lk_s _ (fun q hq => by simpa using List.all_eq_true.mp h1.2 q hq) h
  obtain ⟨t, ht, h⟩ := mj_j_s h2
  exact lv_lookup hx hb hd h1.1 rfl ht (K _ _ _ _ h hn _ _ _ hl hr)
theorem mj_fv_at {f : Nat} (hf : f < N) (x : mj_X) : ((List.range N).map (mj_fv cd ad x))[f]? = some (mj_fv cd ad x f) := by
  rw [List.getElem?_map, List.getElem?_range hf]; rfl
theorem mj_step_gf {nL : Nat} {k : mj_S → mj_R} {r : Option Value × mj_X} {Q : State → Prop} {pc len : Nat} {ls : mj_L} {st : List Value} {x : mj_X} {H : Heap} {locs : List Loc} {lc : Array Slot} (hx : p.tables.exec = Jvm.exec) (hb : c.code = cc) (hown : s.vm.findClass own = some m.cls) (hts : ∀ w ∈ lw_all, w.before args s = true) (hK : va_K D cl (mj_tys cd N cA) s) (hci : cl[ci]? = some (own, T, N)) (ok : mj_okc cd own T N) {idx : Nat} (K : mj_K p l e R s m args below meth c D cl cd N ci ad cA A nL k r Q) (h : mj_st cd rt cal (.getfield idx) len pc ls st x k = some r) (hn : ls.length = nL) (hl : mj_lv ad ls lc) (hr : mj_Rel D cl cd N ci ad cA A s x H locs) (hd : decode cc pc = .ok (.getfield idx, len)) : W p l e R s m args below meth c H locs 0 0 Q (F0 m pc lc (st.map (mj_cv ad))) := by
  have h_ := mj_e_s (show mj_e len 3 _ = some r from h); clear h; obtain ⟨rfl, h⟩ := h_
  unfold mj_gf at h
  split at h
  · split at h
    · cases h
    · rename_i r1 _ f hf
      obtain ⟨hfN, hlk⟩ := ok.2.2.2.1 _ _ hf
      have key : ∀ v, mj_fv cd ad x f = mj_cv ad v → k (pc + 3, ls, v :: r1, x) = some r → W p l e R s m args below meth c H locs 0 0 Q (F0 m pc lc ((.ref 0 :: r1).map (mj_cv ad))) := fun v e hk =>
        va_get hx hb hts ok.1 hown hK hr.1 0 (mj_ws_0 cd N ci ad cA x) hci f hfN (hts _ hlk) (fun z hz => by rw [(ok.2.1 f hfN).2.2.1] at hz; exact hz) (by rw [mj_fv_at hfN, e]) hd (K _ _ _ _ hk hn _ _ _ hl hr)
      unfold mj_fv at key
      split at h
      · rename_i e; rw [e] at key; exact key _ rfl h
      · rename_i e; rw [e] at key; exact key _ rfl h
      · rename_i e; rw [e] at key; exact key _ rfl h
      · rename_i e0 e1 e2
        refine key (.ref (f + 1)) ?_ h
        split
        · exact absurd (by assumption) e0
        · exact absurd (by assumption) e1
        · exact absurd (by assumption) e2
        · rfl
  · cases h
theorem mj_wI_fv {x : mj_X} {f : Nat} {v : Int32} (k : Nat) (h : k ≠ f) : mj_fv cd ad (mj_wI x 0 f v) k = mj_fv cd ad x k := by
  unfold mj_fv mj_wI upd; simp [h]
theorem mj_wL_fv {x : mj_X} {f : Nat} {v : Int64} (k : Nat) (h : k ≠ f) : mj_fv cd ad (mj_wL x 0 f v) k = mj_fv cd ad x k := by
  unfold mj_fv mj_wL vp_updL; simp [h]
theorem mj_step_pf {nL : Nat} {k : mj_S → mj_R} {r : Option Value × mj_X} {Q : State → Prop} {pc len : Nat} {ls : mj_L} {st : List Value} {x : mj_X} {H : Heap} {locs : List Loc} {lc : Array Slot} (hx : p.tables.exec = Jvm.exec) (hb : c.code = cc) (hown : s.vm.findClass own = some m.cls) (hts : ∀ w ∈ lw_all, w.before args s = true) (hK : va_K D cl (mj_tys cd N cA) s) (hci : cl[ci]? = some (own, T, N)) (ok : mj_okc cd own T N) {idx : Nat} (K : mj_K p l e R s m args below meth c D cl cd N ci ad cA A nL k r Q) (h : mj_st cd rt cal (.putfield idx) len pc ls st x k = some r) (hn : ls.length = nL) (hl : mj_lv ad ls lc) (hr : mj_Rel D cl cd N ci ad cA A s x H locs) (hd : decode cc pc = .ok (.putfield idx, len)) : W p l e R s m args below meth c H locs 0 0 Q (F0 m pc lc (st.map (mj_cv ad))) := by
  have h_ := mj_e_s (show mj_e len 3 _ = some r from h); clear h; obtain ⟨rfl, h⟩ := h_
  have key : ∀ (f : Nat) (v : Value) (r1 : List Value) (x' : mj_X), cd.1 idx = f + 1 → cd.2.1 f ≤ 2 → mj_cv ad v = v → narrow (mj_kt (cd.2.1 f)) v = v → fits (mj_kt (cd.2.1 f)) v = true → (∀ k, k ≠ 0 → x'.1 k = x.1 k ∧ x'.2 k = x.2 k) → (∀ k, k ≠ f → mj_fv cd ad x' k = mj_fv cd ad x k) → mj_fv cd ad x' f = v → k (pc + 3, ls, r1, x') = some r → W p l e R s m args below meth c H locs 0 0 Q (F0 m pc lc ((v :: .ref 0 :: r1).map (mj_cv ad))) := by
    intro f v r1 x' hf hk2 hcv hnar hfit h1 h0 hv hk
    obtain ⟨hfN, hlk⟩ := ok.2.2.2.1 _ _ hf
    obtain ⟨o1, o2, o3, o4⟩ := ok.2.1 f hfN
    show W p l e R s m args below meth c H locs 0 0 Q (F0 m pc lc (mj_cv ad v :: .ref (ad 0) :: r1.map (mj_cv ad)))
    rw [hcv]
    refine va_put (ty := mj_kt (cd.2.1 f)) hx hb hts ok.1 (fun k => mj_kt (cd.2.1 k)) (fun k hk => (ok.2.1 k hk).1) ok.2.2.1 hown hK hr.1 hr.2.1 hr.2.2 0 (mj_ws_0 cd N ci ad cA x) hci f hfN (hts _ hlk) (fun z hz => by rw [o3] at hz; exact hz) (by rw [o4]; exact Bool.eq_false_iff.mpr (fun q => by have := Nat.le_of_ble_eq_true q; omega)) o1 hnar hfit (by rw [List.length_map, List.length_range]; exact hfN) hd (fun H1 locs1 hP1 hD1 hS1 => ?_)
    rw [mj_ws_set0 ci ad cA hfN h1 h0 hv] at hP1 hD1
    exact K _ _ _ _ hk hn _ _ _ hl ⟨hP1, hD1, hS1⟩
  unfold mj_pf at h
  split at h
  · rename_i v r1
    split at h
    · cases h
    · rename_i f hf
      split at h
      · rename_i e
        exact key f (.int v) r1 _ hf (by omega) rfl (by rw [e]; rfl) (by rw [e]; rfl) (fun k hk => by unfold mj_wI; simp [hk]) (fun k hk => mj_wI_fv k hk) (by unfold mj_fv mj_wI upd; simp [e]) h
      · rename_i e
        have h_ := mj_gb_s h; clear h; obtain ⟨hz, h⟩ := h_
        exact key f (.int v) r1 _ hf (by omega) rfl (by rw [e]; rcases hz with rfl | rfl <;> rfl) (by rw [e]; rcases hz with rfl | rfl <;> rfl) (fun k hk => by unfold mj_wI; simp [hk]) (fun k hk => mj_wI_fv k hk) (by unfold mj_fv mj_wI upd; simp [e]) h
      · cases h
  · rename_i v r1
    split at h
    · cases h
    · rename_i f hf
      split at h
      · rename_i e
        exact key f (.long v) r1 _ hf (by omega) rfl (by rw [e]; rfl) (by rw [e]; rfl) (fun k hk => by unfold mj_wL; simp [hk]) (fun k hk => mj_wL_fv k hk) (by unfold mj_fv mj_wL vp_updL; simp [e]) h
      · cases h
  · cases h
theorem mj_ar_s {a kd : Nat} {k : Nat → mj_R} {v : Option Value × mj_X} (h : mj_ar cd a kd k = some v) : ∃ f, a = f + 1 ∧ cd.2.1 f = kd ∧ k (cd.2.2.1 f) = some v := by
  unfold mj_ar at h
  split at h
  · cases h
  · have h_ := mj_b_s h; clear h; obtain ⟨h1, h⟩ := h_; exact ⟨_, rfl, Nat.eq_of_beq_eq_true h1, h⟩
theorem mj_bl_s {a : Nat} {k : Nat → mj_R} {v : Option Value × mj_X} (h : mj_bl cd a k = some v) : ∃ f, a = f + 1 ∧ (cd.2.1 f = 4 ∨ cd.2.1 f = 5) ∧ k (cd.2.2.1 f) = some v := by
  unfold mj_bl at h
  split at h
  · cases h
  · split at h
    · exact ⟨_, rfl, Or.inl (by assumption), h⟩
    · exact ⟨_, rfl, Or.inr (by assumption), h⟩
    · cases h
theorem mj_bs_s {a : Nat} {w : Int32} {k : Nat → Int32 → mj_R} {v : Option Value × mj_X} (h : mj_bs cd a w k = some v) : ∃ f, a = f + 1 ∧ ((cd.2.1 f = 4 ∧ k (cd.2.2.1 f) w.toInt8.toInt32 = some v) ∨ (cd.2.1 f = 5 ∧ (w = 0 ∨ w = 1) ∧ k (cd.2.2.1 f) w = some v)) := by
  unfold mj_bs at h
  split at h
  · cases h
  · split at h
    · exact ⟨_, rfl, Or.inl ⟨by assumption, h⟩⟩
    · have h_ := mj_gb_s h; clear h; obtain ⟨h1, h⟩ := h_; exact ⟨_, rfl, Or.inr ⟨by assumption, h1, h⟩⟩
    · cases h
theorem mj_ac_I {x : mj_X} {f : Nat} (h : cd.2.1 f ≠ 6) : mj_ac cd x f = (cd.2.2.1 f, .inl (x.1 (f + 1))) := by
  unfold mj_ac
  split
  · exact absurd (by assumption) h
  · rfl
theorem mj_ac_L {x : mj_X} {f : Nat} (h : cd.2.1 f = 6) : mj_ac cd x f = (cd.2.2.1 f, .inr (.inl (x.2 (f + 1)))) := by
  unfold mj_ac; simp [h]
theorem mj_step_ia {nL : Nat} {k : mj_S → mj_R} {r : Option Value × mj_X} {Q : State → Prop} {pc : Nat} {ls : mj_L} {x : mj_X} {H : Heap} {locs : List Loc} {lc : Array Slot} (hx : p.tables.exec = Jvm.exec) (hb : c.code = cc) (hK : va_K D cl (mj_tys cd N cA) s) (ok : mj_okc cd own T N) (hrN : ∀ f, 3 ≤ cd.2.1 f → cd.2.1 f ≤ 6 → f < N) {i : Int32} {a : Nat} {r2 : List Value} (K : mj_K p l e R s m args below meth c D cl cd N ci ad cA A nL k r Q) (h : mj_ar cd a 3 (fun n => mj_g i n (k (pc + 1, ls, .int (x.1 a i.toNatClampNeg) :: r2, x))) = some r) (hn : ls.length = nL) (hl : mj_lv ad ls lc) (hr : mj_Rel D cl cd N ci ad cA A s x H locs) (hd : decode cc pc = .ok (.iaload, 1)) : W p l e R s m args below meth c H locs 0 0 Q (F0 m pc lc ((.int i :: .ref a :: r2).map (mj_cv ad))) := by
  have h_ := mj_ar_s h; clear h; obtain ⟨f, rfl, hk, h⟩ := h_
  have h_ := mj_g_s h; clear h; obtain ⟨hin, h⟩ := h_
  obtain ⟨q, hq⟩ := mj_af_at (hrN f (by omega) (by omega)) (show 3 ≤ cd.2.1 f by omega)
  have e := mj_ws_a ci ad cA x hq
  rw [mj_ac_I (by omega)] at e
  have et := mj_tys_a cA hq
  rw [hk] at et
  exact va_iald hx hb hK hr.1 (q + 1) q e et hin hd (K _ _ _ _ h hn _ _ _ hl hr)
theorem mj_step_la {nL : Nat} {k : mj_S → mj_R} {r : Option Value × mj_X} {Q : State → Prop} {pc : Nat} {ls : mj_L} {x : mj_X} {H : Heap} {locs : List Loc} {lc : Array Slot} (hx : p.tables.exec = Jvm.exec) (hb : c.code = cc) (hK : va_K D cl (mj_tys cd N cA) s) (ok : mj_okc cd own T N) (hrN : ∀ f, 3 ≤ cd.2.1 f → cd.2.1 f ≤ 6 → f < N) {i : Int32} {a : Nat} {r2 : List Value} (K : mj_K p l e R s m args below meth c D cl cd N ci ad cA A nL k r Q) (h : mj_ar cd a 6 (fun n => mj_g i n (k (pc + 1, ls, .long (x.2 a i.toNatClampNeg) :: r2, x))) = some r) (hn : ls.length = nL) (hl : mj_lv ad ls lc) (hr : mj_Rel D cl cd N ci ad cA A s x H locs) (hd : decode cc pc = .ok (.laload, 1)) : W p l e R s m args below meth c H locs 0 0 Q (F0 m pc lc ((.int i :: .ref a :: r2).map (mj_cv ad))) := by
  have h_ := mj_ar_s h; clear h; obtain ⟨f, rfl, hk, h⟩ := h_
  have h_ := mj_g_s h; clear h; obtain ⟨hin, h⟩ := h_
  obtain ⟨q, hq⟩ := mj_af_at (hrN f (by omega) (by omega)) (show 3 ≤ cd.2.1 f by omega)
  have e := mj_ws_a ci ad cA x hq
  rw [mj_ac_L hk] at e
  have et := mj_tys_a cA hq
  rw [hk] at et
  exact va_lald hx hb hK hr.1 (q + 1) q e et hin hd (K _ _ _ _ h hn _ _ _ hl hr)
theorem mj_step_ba {nL : Nat} {k : mj_S → mj_R} {r : Option Value × mj_X} {Q : State → Prop} {pc : Nat} {ls : mj_L} {x : mj_X} {H : Heap} {locs : List Loc} {lc : Array Slot} (hx : p.tables.exec = Jvm.exec) (hb : c.code = cc) (hK : va_K D cl (mj_tys cd N cA) s) (ok : mj_okc cd own T N) (hrN : ∀ f, 3 ≤ cd.2.1 f → cd.2.1 f ≤ 6 → f < N) {i : Int32} {a : Nat} {r2 : List Value} (K : mj_K p l e R s m args below meth c D cl cd N ci ad cA A nL k r Q) (h : mj_bl cd a (fun n => mj_g i n (k (pc + 1, ls, .int (x.1 a i.toNatClampNeg) :: r2, x))) = some r) (hn : ls.length = nL) (hl : mj_lv ad ls lc) (hr : mj_Rel D cl cd N ci ad cA A s x H locs) (hd : decode cc pc = .ok (.baload, 1)) : W p l e R s m args below meth c H locs 0 0 Q (F0 m pc lc ((.int i :: .ref a :: r2).map (mj_cv ad))) := by
  have h_ := mj_bl_s h; clear h; obtain ⟨f, rfl, hk, h⟩ := h_
  have h_ := mj_g_s h; clear h; obtain ⟨hin, h⟩ := h_
  obtain ⟨q, hq⟩ := mj_af_at (hrN f (by omega) (by omega)) (show 3 ≤ cd.2.1 f by omega)
  have e := mj_ws_a ci ad cA x hq
  rw [mj_ac_I (by omega)] at e
  have et := mj_tys_a cA hq
  rcases hk with hk | hk
  · rw [hk] at et
    exact va_bald hx hb hK hr.1 (q + 1) q e et hin hd (K _ _ _ _ h hn _ _ _ hl hr)
  · rw [hk] at et
    exact va_zald hx hb hK hr.1 (q + 1) q e et hin hd (K _ _ _ _ h hn _ _ _ hl hr)
theorem mj_wI_ws {x : mj_X} {q f j : Nat} {v : Int32} (hq : (mj_af cd N)[q]? = some f) (hk : cd.2.1 f ≠ 6) : (mj_ws cd N ci ad cA x).set (q + 1) (ad (f + 1), .inl (cA f, (cd.2.2.1 f, .inl (upd (x.1 (f + 1)) j v)))) = mj_ws cd N ci ad cA (mj_wI x (f + 1) j v) :=
  mj_ws_seta ci ad cA hq (fun k => by unfold mj_wI; simp) (fun k h => by unfold mj_wI; simp [h]) (by rw [mj_ac_I hk]; unfold mj_wI; simp)
theorem mj_wL_ws {x : mj_X} {q f j : Nat} {v : Int64} (hq : (mj_af cd N)[q]? = some f) (hk : cd.2.1 f = 6) : (mj_ws cd N ci ad cA x).set (q + 1) (ad (f + 1), .inl (cA f, (cd.2.2.1 f, .inr (.inl (vp_updL (x.2 (f + 1)) j v))))) = mj_ws cd N ci ad cA (mj_wL x (f + 1) j v) :=
  mj_ws_seta ci ad cA hq (fun k => by unfold mj_wL; simp) (fun k h => by unfold mj_wL; simp [h]) (by rw [mj_ac_L hk]; unfold mj_wL; simp)
theorem mj_step_is {nL : Nat} {k : mj_S → mj_R} {r : Option Value × mj_X} {Q : State → Prop} {pc : Nat} {ls : mj_L} {x : mj_X} {H : Heap} {locs : List Loc} {lc : Array Slot} (hx : p.tables.exec = Jvm.exec) (hb : c.code = cc) (hK : va_K D cl (mj_tys cd N cA) s) (ok : mj_okc cd own T N) (hrN : ∀ f, 3 ≤ cd.2.1 f → cd.2.1 f ≤ 6 → f < N) {i v : Int32} {a : Nat} {r2 : List Value} (K : mj_K p l e R s m args below meth c D cl cd N ci ad cA A nL k r Q) (h : mj_ar cd a 3 (fun n => mj_g i n (k (pc + 1, ls, r2, mj_wI x a i.toNatClampNeg v))) = some r) (hn : ls.length = nL) (hl : mj_lv ad ls lc) (hr : mj_Rel D cl cd N ci ad cA A s x H locs) (hd : decode cc pc = .ok (.iastore, 1)) : W p l e R s m args below meth c H locs 0 0 Q (F0 m pc lc ((.int v :: .int i :: .ref a :: r2).map (mj_cv ad))) := by
  have h_ := mj_ar_s h; clear h; obtain ⟨f, rfl, hk, h⟩ := h_
  have h_ := mj_g_s h; clear h; obtain ⟨hin, h⟩ := h_
  obtain ⟨q, hq⟩ := mj_af_at (hrN f (by omega) (by omega)) (show 3 ≤ cd.2.1 f by omega)
  have e := mj_ws_a ci ad cA x hq
  rw [mj_ac_I (by omega)] at e
  have et := mj_tys_a cA hq
  rw [hk] at et
  refine va_iast hx hb hK hr.1 hr.2.1 hr.2.2 (q + 1) q e et hin hd (fun H1 locs1 hP1 hD1 hS1 => ?_)
  rw [mj_wI_ws hq (by omega)] at hP1 hD1
  exact K _ _ _ _ h hn _ _ _ hl ⟨hP1, hD1, hS1⟩
theorem mj_step_ls {nL : Nat} {k : mj_S → mj_R} {r : Option Value × mj_X} {Q : State → Prop} {pc : Nat} {ls : mj_L} {x : mj_X} {H : Heap} {locs : List Loc} {lc : Array Slot} (hx : p.tables.exec = Jvm.exec) (hb : c.code = cc) (hK : va_K D cl (mj_tys cd N cA) s) (ok : mj_okc cd own T N) (hrN : ∀ f, 3 ≤ cd.2.1 f → cd.2.1 f ≤ 6 → f < N) {i : Int32} {v : Int64} {a : Nat} {r2 : List Value} (K : mj_K p l e R s m args below meth c D cl cd N ci ad cA A nL k r Q) (h : mj_ar cd a 6 (fun n => mj_g i n (k (pc + 1, ls, r2, mj_wL x a i.toNatClampNeg v))) = some r) (hn : ls.length = nL) (hl : mj_lv ad ls lc) (hr : mj_Rel D cl cd N ci ad cA A s x H locs) (hd : decode cc pc = .ok (.lastore, 1)) : W p l e R s m args below meth c H locs 0 0 Q (F0 m pc lc ((.long v :: .int i :: .ref a :: r2).map (mj_cv ad))) := by
  have h_ := mj_ar_s h; clear h; obtain ⟨f, rfl, hk, h⟩ := h_
  have h_ := mj_g_s h; clear h; obtain ⟨hin, h⟩ := h_
  obtain ⟨q, hq⟩ := mj_af_at (hrN f (by omega) (by omega)) (show 3 ≤ cd.2.1 f by omega)
  have e := mj_ws_a ci ad cA x hq
  rw [mj_ac_L hk] at e
  have et := mj_tys_a cA hq
  rw [hk] at et
  refine va_last hx hb hK hr.1 hr.2.1 hr.2.2 (q + 1) q e et hin hd (fun H1 locs1 hP1 hD1 hS1 => ?_)
  rw [mj_wL_ws hq hk] at hP1 hD1
  exact K _ _ _ _ h hn _ _ _ hl ⟨hP1, hD1, hS1⟩
theorem mj_step_bs {nL : Nat} {k : mj_S → mj_R} {r : Option Value × mj_X} {Q : State → Prop} {pc : Nat} {ls : mj_L} {x : mj_X} {H : Heap} {locs : List Loc} {lc : Array Slot} (hx : p.tables.exec = Jvm.exec) (hb : c.code = cc) (hK : va_K D cl (mj_tys cd N cA) s) (ok : mj_okc cd own T N) (hrN : ∀ f, 3 ≤ cd.2.1 f → cd.2.1 f ≤ 6 → f < N) {i v : Int32} {a : Nat} {r2 : List Value} (K : mj_K p l e R s m args below meth c D cl cd N ci ad cA A nL k r Q) (h : mj_bs cd a v (fun n v => mj_g i n (k (pc + 1, ls, r2, mj_wI x a i.toNatClampNeg v))) = some r) (hn : ls.length = nL) (hl : mj_lv ad ls lc) (hr : mj_Rel D cl cd N ci ad cA A s x H locs) (hd : decode cc pc = .ok (.bastore, 1)) : W p l e R s m args below meth c H locs 0 0 Q (F0 m pc lc ((.int v :: .int i :: .ref a :: r2).map (mj_cv ad))) := by
  have h_ := mj_bs_s h; clear h; obtain ⟨f, rfl, h⟩ := h_
  have h36 : 3 ≤ cd.2.1 f ∧ cd.2.1 f ≤ 5 := by rcases h with ⟨h, _⟩ | ⟨h, _⟩ <;> omega
  obtain ⟨q, hq⟩ := mj_af_at (hrN f h36.1 (by omega)) h36.1
  have e := mj_ws_a ci ad cA x hq
  rw [mj_ac_I (by omega)] at e
  have et := mj_tys_a cA hq
  rcases h with ⟨hk, h⟩ | ⟨hk, hz, h⟩
  · have h_ := mj_g_s h; clear h; obtain ⟨hin, h⟩ := h_
    rw [hk] at et
    refine va_bast hx hb hK hr.1 hr.2.1 hr.2.2 (q + 1) q e et hin hd (fun H1 locs1 hP1 hD1 hS1 => ?_)
    rw [mj_wI_ws hq (by omega)] at hP1 hD1
    exact K _ _ _ _ h hn _ _ _ hl ⟨hP1, hD1, hS1⟩
  · have h_ := mj_g_s h; clear h; obtain ⟨hin, h⟩ := h_
    rw [hk] at et
    refine va_zast hx hb hK hr.1 hr.2.1 hr.2.2 (q + 1) q e et hin hd (fun H1 locs1 hP1 hD1 hS1 => ?_)
    have ev : vp_nar .boolean v = v := by rcases hz with rfl | rfl <;> rfl
    rw [ev, mj_wI_ws hq (by omega)] at hP1 hD1
    exact K _ _ _ _ h hn _ _ _ hl ⟨hP1, hD1, hS1⟩
theorem mj_step_al {nL : Nat} {k : mj_S → mj_R} {r : Option Value × mj_X} {Q : State → Prop} {pc : Nat} {ls : mj_L} {x : mj_X} {H : Heap} {locs : List Loc} {lc : Array Slot} (hx : p.tables.exec = Jvm.exec) (hb : c.code = cc) (hK : va_K D cl (mj_tys cd N cA) s) (ok : mj_okc cd own T N) (hrN : ∀ f, 3 ≤ cd.2.1 f → cd.2.1 f ≤ 6 → f < N) (hrA : ∀ f, 3 ≤ cd.2.1 f → f < N) {a : Nat} {r2 : List Value} (K : mj_K p l e R s m args below meth c D cl cd N ci ad cA A nL k r Q) (h : mj_al cd a (fun n => k (pc + 1, ls, .int (Int32.ofNat n) :: r2, x)) = some r) (hn : ls.length = nL) (hl : mj_lv ad ls lc) (hr : mj_Rel D cl cd N ci ad cA A s x H locs) (hd : decode cc pc = .ok (.arraylength, 1)) : W p l e R s m args below meth c H locs 0 0 Q (F0 m pc lc ((.ref a :: r2).map (mj_cv ad))) := by
  unfold mj_al at h
  split at h
  · cases h
  · rename_i f
    have h_ := mj_b_s h; clear h; obtain ⟨h1, h⟩ := h_
    have h1 := Nat.le_of_ble_eq_true h1
    obtain ⟨q, hq⟩ := mj_af_at (hrA f h1) h1
    exact va_alen hx hb hK hr.1 (q + 1) q (mj_ws_a ci ad cA x hq) (mj_tys_a cA hq) rfl hd (K _ _ _ _ h hn _ _ _ hl hr)
theorem mj_step_ir {k : mj_S → mj_R} {r : Option Value × mj_X} {pc len : Nat} {ls : mj_L} {st : List Value} {x : mj_X} {H : Heap} {locs : List Loc} {lc : Array Slot} (hx : p.tables.exec = Jvm.exec) (hb : c.code = cc) (hlk : meth.locks = false) (hret : meth.sig.returnType = mj_rt rt) (hK : va_K D cl (mj_tys cd N cA) s) (h : mj_st cd rt cal .ireturn len pc ls st x k = some r) (hr : mj_Rel D cl cd N ci ad cA A s x H locs) (hd : decode cc pc = .ok (.ireturn, len)) : W p l e R s m args below meth c H locs 0 0 (MQ below (mj_Qc D cl cd N ci ad cA A r) args s 0 0 A) (F0 m pc lc (st.map (mj_cv ad))) := by
  have h_ := mj_e_s (show mj_e len 1 _ = some r from h); clear h; obtain ⟨rfl, h⟩ := h_
  split at h
  · rename_i v
    have fin : r = (some (.int v), x) → ∀ t : State, t.heap = H → s.WarmedH t.vm → mj_Qc D cl cd N ci ad cA A r args s (.returned (some (.int v))) t := fun e t ht hW => by
      subst e
      exact ⟨⟨rfl, by rw [ht]; exact hr.1, va_K.moved hW.alike hK, hr.2.1⟩, hr.2.2.F ht⟩
    unfold mj_ret at h
    split at h
    · cases h
      exact W.iret hx hb hret (fin rfl) hr.2.2.2.2 hd hlk
    · have h_ := mj_gb_s h; clear h; obtain ⟨hz, h⟩ := h_
      cases h
      exact W.zret hx hb hret (by rcases hz with rfl | rfl <;> rfl) (fin rfl) hr.2.2.2.2 hd hlk
    · cases h
  · cases h
theorem mj_few_s {l : List Value} {r : mj_R} {v : Option Value × mj_X} (h : mj_few l r = some v) : (l.map Value.category).sum ≤ 8 ∧ r = some v := by
  obtain ⟨h1, h2⟩ := mj_b_s h
  exact ⟨Nat.le_of_ble_eq_true h1, h2⟩
theorem mj_rr_s {t : Nat} {r0 : mj_R} {rest : List Value} {k : List Value → mj_X → mj_R} {v : Option Value × mj_X} (h : mj_rr t r0 rest k = some v) : ∃ r1 : Option Value × mj_X, r0 = some r1 ∧ (r1.1.map (mj_cv ad)).toList ++ rest.map (mj_cv ad) = (r1.1.toList ++ rest).map (mj_cv ad) ∧ k (r1.1.toList ++ rest) r1.2 = some v := by
  have e : ∀ r1 : Option Value × mj_X, (r1.1.map (mj_cv ad)).toList ++ rest.map (mj_cv ad) = (r1.1.toList ++ rest).map (mj_cv ad) := by
    intro r1; cases r1.1 <;> rfl
  unfold mj_rr at h
  split at h
  · unfold mj_rV at h; split at h
    · exact ⟨_, rfl, e _, h⟩
    · cases h
  · unfold mj_rL at h; split at h
    · exact ⟨_, rfl, e _, h⟩
    · cases h
  · unfold mj_rF at h; split at h
    · exact ⟨_, rfl, e _, h⟩
    · cases h
  · unfold mj_rD at h; split at h
    · exact ⟨_, rfl, e _, h⟩
    · cases h
  · unfold mj_rI at h; split at h
    · exact ⟨_, rfl, e _, h⟩
    · cases h
theorem mj_step_iv {nL : Nat} {k : mj_S → mj_R} {r : Option Value × mj_X} {Q : State → Prop} {pc len : Nat} {ls : mj_L} {st : List Value} {x : mj_X} {H : Heap} {locs : List Loc} {lc : Array Slot} {sv : Nat → Bool} (hV : mj_Cal p l e R s m args below meth c cc D cl cd N ci ad cA A cal nL sv true) {idx : Nat} (hs : sv idx = true) (K : mj_K p l e R s m args below meth c D cl cd N ci ad cA A nL k r Q) (h : mj_st cd rt cal (.invokevirtual idx) len pc ls st x k = some r) (hn : ls.length = nL) (hl : mj_lv ad ls lc) (hr : mj_Rel D cl cd N ci ad cA A s x H locs) (hd : decode cc pc = .ok (.invokevirtual idx, len)) : W p l e R s m args below meth c H locs 0 0 Q (F0 m pc lc (st.map (mj_cv ad))) := by
  have h_ := mj_e_s (show mj_e len 3 _ = some r from h); clear h; obtain ⟨rfl, h⟩ := h_
  unfold mj_iv at h
  split at h
  · cases h
  · rename_i mm hm
    have h_ := mj_b_s h; clear h; obtain ⟨h9, h⟩ := h_
    split at h
    · rename_i rest hrest
      have h_ := mj_few_s h; clear h; obtain ⟨h1, h⟩ := h_
      have h_ := mj_rr_s (ad := ad) h; clear h; obtain ⟨r1, e1, e2, h⟩ := h_
      have hst : st = (st.take (cd.2.2.2.2.2.1 mm)).reverse.reverse ++ (.ref 0 :: rest) := by rw [List.reverse_reverse, ← hrest, List.take_append_drop]
      have hlen : (st.take (cd.2.2.2.2.2.1 mm)).reverse.length = cd.2.2.2.2.2.1 mm := by
        rw [List.length_reverse, List.length_take]
        have : (st.drop (cd.2.2.2.2.2.1 mm)).length = rest.length + 1 := by rw [hrest]; rfl
        rw [List.length_drop] at this
        omega
      have q := hV Q idx mm pc (st.take (cd.2.2.2.2.2.1 mm)).reverse rest x H locs lc r1 hs hm (fun _ => Nat.lt_of_succ_le (by simpa [Nat.blt] using h9)) hlen e1 hd (by rw [hl.1]; exact hn) h1 hr (fun H1 locs1 hr1 => by
        rw [e2]; exact K _ _ _ _ h hn _ _ _ hl hr1)
      rw [hst]
      exact q
    · cases h
theorem mj_step_is_ {nL : Nat} {k : mj_S → mj_R} {r : Option Value × mj_X} {Q : State → Prop} {pc len : Nat} {ls : mj_L} {st : List Value} {x : mj_X} {H : Heap} {locs : List Loc} {lc : Array Slot} {sv : Nat → Bool} (hC : mj_Cal p l e R s m args below meth c cc D cl cd N ci ad cA A cal nL sv false) {idx : Nat} (hs : sv idx = false) (K : mj_K p l e R s m args below meth c D cl cd N ci ad cA A nL k r Q) (h : mj_st cd rt cal (.invokestatic idx) len pc ls st x k = some r) (hn : ls.length = nL) (hl : mj_lv ad ls lc) (hr : mj_Rel D cl cd N ci ad cA A s x H locs) (hd : decode cc pc = .ok (.invokestatic idx, len)) : W p l e R s m args below meth c H locs 0 0 Q (F0 m pc lc (st.map (mj_cv ad))) := by
  have h_ := mj_e_s (show mj_e len 3 _ = some r from h); clear h; obtain ⟨rfl, h⟩ := h_
  unfold mj_is at h
  split at h
  · cases h
  · rename_i mm hm
    have h_ := mj_b_s h; clear h; obtain ⟨h9, h⟩ := h_
    have h9 := Nat.le_of_ble_eq_true h9
    have h_ := mj_few_s h; clear h; obtain ⟨h1, h⟩ := h_
    have h_ := mj_rr_s (ad := ad) h; clear h; obtain ⟨r1, e1, e2, h⟩ := h_
    have hst : st = (st.take (cd.2.2.2.2.2.1 mm)).reverse.reverse ++ st.drop (cd.2.2.2.2.2.1 mm) := by rw [List.reverse_reverse, List.take_append_drop]
    have hlen : (st.take (cd.2.2.2.2.2.1 mm)).reverse.length = cd.2.2.2.2.2.1 mm := by
      rw [List.length_reverse, List.length_take]; omega
    have q := hC Q idx mm pc (st.take (cd.2.2.2.2.2.1 mm)).reverse (st.drop (cd.2.2.2.2.2.1 mm)) x H locs lc r1 hs hm (fun z => by cases z) hlen e1 hd (by rw [hl.1]; exact hn) h1 hr (fun H1 locs1 hr1 => by
      rw [e2]; exact K _ _ _ _ h hn _ _ _ hl hr1)
    rw [hst]
    exact q
set_option maxHeartbeats 4000000 in
theorem mj_step {nL : Nat} {k : mj_S → mj_R} {r : Option Value × mj_X} {pc len : Nat} {ls : mj_L} {st : List Value} {x : mj_X} {H : Heap} {locs : List Loc} {lc : Array Slot} {sv : Nat → Bool} (hx : p.tables.exec = Jvm.exec) (hb : c.code = cc) (hlk : meth.locks = false) (hret : meth.sig.returnType = mj_rt rt) (hown : s.vm.findClass own = some m.cls) (hts : ∀ w ∈ lw_all, w.before args s = true) (hK : va_K D cl (mj_tys cd N cA) s) (hci : cl[ci]? = some (own, T, N)) (ok : mj_okc cd own T N) (hrN : ∀ f, 3 ≤ cd.2.1 f → cd.2.1 f ≤ 6 → f < N) (hrA : ∀ f, 3 ≤ cd.2.1 f → f < N) (hV : mj_Cal p l e R s m args below meth c cc D cl cd N ci ad cA A cal nL sv true) (hC : mj_Cal p l e R s m args below meth c cc D cl cd N ci ad cA A cal nL sv false) (i : Instr) (hvok : mj_vok sv i) (K : mj_K p l e R s m args below meth c D cl cd N ci ad cA A nL k r (MQ below (mj_Qc D cl cd N ci ad cA A r) args s 0 0 A)) (h : mj_st cd rt cal i len pc ls st x k = some r) (hn : ls.length = nL) (hl : mj_lv ad ls lc) (hr : mj_Rel D cl cd N ci ad cA A s x H locs) (hd : decode cc pc = .ok (i, len)) : W p l e R s m args below meth c H locs 0 0 (MQ below (mj_Qc D cl cd N ci ad cA A r) args s 0 0 A) (F0 m pc lc (st.map (mj_cv ad))) := by
  cases i with
  | iload n =>
    have h_ := mj_e_s h; clear h; obtain ⟨rfl, h⟩ := h_
    have h_ := mj_lI_s h; clear h; obtain ⟨a, ha, h⟩ := h_
    exact lv_iload hx hb hd (hl.2.2 _ _ ha) (K _ _ _ _ h hn _ _ _ hl hr)
  | iload_n n =>
    have h_ := mj_e_s h; clear h; obtain ⟨rfl, h⟩ := h_
    have h_ := mj_lI_s h; clear h; obtain ⟨a, ha, h⟩ := h_
    exact lv_iload_n hx hb hd rfl (hl.2.2 _ _ ha) (K _ _ _ _ h hn _ _ _ hl hr)
  | lload n =>
    have h_ := mj_e_s h; clear h; obtain ⟨rfl, h⟩ := h_
    have h_ := mj_lL_s h; clear h; obtain ⟨a, ha, h⟩ := h_
    exact lv_lload hx hb hd (hl.2.2 _ _ ha) (K _ _ _ _ h hn _ _ _ hl hr)
  | lload_n n =>
    have h_ := mj_e_s h; clear h; obtain ⟨rfl, h⟩ := h_
    have h_ := mj_lL_s h; clear h; obtain ⟨a, ha, h⟩ := h_
    exact lv_lload_n hx hb hd rfl (hl.2.2 _ _ ha) (K _ _ _ _ h hn _ _ _ hl hr)
  | fload n =>
    have h_ := mj_e_s h; clear h; obtain ⟨rfl, h⟩ := h_
    have h_ := mj_lF_s h; clear h; obtain ⟨a, ha, h⟩ := h_
    exact lv_fload hx hb hd (hl.2.2 _ _ ha) (K _ _ _ _ h hn _ _ _ hl hr)
  | fload_n n =>
    have h_ := mj_e_s h; clear h; obtain ⟨rfl, h⟩ := h_
    have h_ := mj_lF_s h; clear h; obtain ⟨a, ha, h⟩ := h_
    exact lv_fload_n hx hb hd rfl (hl.2.2 _ _ ha) (K _ _ _ _ h hn _ _ _ hl hr)
  | dload n =>
    have h_ := mj_e_s h; clear h; obtain ⟨rfl, h⟩ := h_
    have h_ := mj_lD_s h; clear h; obtain ⟨a, ha, h⟩ := h_
    exact lv_dload hx hb hd (hl.2.2 _ _ ha) (K _ _ _ _ h hn _ _ _ hl hr)
  | dload_n n =>
    have h_ := mj_e_s h; clear h; obtain ⟨rfl, h⟩ := h_
    have h_ := mj_lD_s h; clear h; obtain ⟨a, ha, h⟩ := h_
    exact lv_dload_n hx hb hd rfl (hl.2.2 _ _ ha) (K _ _ _ _ h hn _ _ _ hl hr)
  | aload_n n =>
    have h_ := mj_e_s h; clear h; obtain ⟨rfl, h⟩ := h_
    have h_ := mj_lA_s h; clear h; obtain ⟨a, ha, h⟩ := h_
    exact lv_aload_n hx hb hd rfl (hl.2.2 _ _ ha) (K _ _ _ _ h hn _ _ _ hl hr)
  | istore n =>
    have h_ := mj_e_s h; clear h; obtain ⟨rfl, h⟩ := h_
    have h_ := mj_pI_s h; clear h; obtain ⟨a, r1, rfl, h⟩ := h_
    have h_ := mj_s1_s h; clear h; obtain ⟨hi, h⟩ := h_
    refine lv_istore hx hb hd (hl.has) hi rfl (fun lc2 hl2 => ?_)
    exact K _ _ _ _ h (by rw [List.length_set, mj_cl_len]; exact hn) _ _ _ (mj_lv.s1 (v := .int a) hl2) hr
  | istore_n n =>
    have h_ := mj_e_s h; clear h; obtain ⟨rfl, h⟩ := h_
    have h_ := mj_pI_s h; clear h; obtain ⟨a, r1, rfl, h⟩ := h_
    have h_ := mj_s1_s h; clear h; obtain ⟨hi, h⟩ := h_
    refine lv_istore_n hx hb hd rfl (hl.has) hi rfl (fun lc2 hl2 => ?_)
    exact K _ _ _ _ h (by rw [List.length_set, mj_cl_len]; exact hn) _ _ _ (mj_lv.s1 (v := .int a) hl2) hr
  | fstore n =>
    have h_ := mj_e_s h; clear h; obtain ⟨rfl, h⟩ := h_
    have h_ := mj_pF_s h; clear h; obtain ⟨a, r1, rfl, h⟩ := h_
    have h_ := mj_s1_s h; clear h; obtain ⟨hi, h⟩ := h_
    refine lv_fstore hx hb hd (hl.has) hi rfl (fun lc2 hl2 => ?_)
    exact K _ _ _ _ h (by rw [List.length_set, mj_cl_len]; exact hn) _ _ _ (mj_lv.s1 (v := .float a) hl2) hr
  | fstore_n n =>
    have h_ := mj_e_s h; clear h; obtain ⟨rfl, h⟩ := h_
    have h_ := mj_pF_s h; clear h; obtain ⟨a, r1, rfl, h⟩ := h_
    have h_ := mj_s1_s h; clear h; obtain ⟨hi, h⟩ := h_
    refine lv_fstore_n hx hb hd rfl (hl.has) hi rfl (fun lc2 hl2 => ?_)
    exact K _ _ _ _ h (by rw [List.length_set, mj_cl_len]; exact hn) _ _ _ (mj_lv.s1 (v := .float a) hl2) hr
  | lstore n =>
    have h_ := mj_e_s h; clear h; obtain ⟨rfl, h⟩ := h_
    have h_ := mj_pL_s h; clear h; obtain ⟨a, r1, rfl, h⟩ := h_
    have h_ := mj_s2_s h; clear h; obtain ⟨hi, h⟩ := h_
    refine lv_lstore hx hb hd (hl.has) hi rfl (fun lc2 hl2 => ?_)
    exact K _ _ _ _ h (by rw [List.length_set, List.length_set, mj_cl_len]; exact hn) _ _ _ (mj_lv.s2 (v := .long a) hl2) hr
  | lstore_n n =>
    have h_ := mj_e_s h; clear h; obtain ⟨rfl, h⟩ := h_
    have h_ := mj_pL_s h; clear h; obtain ⟨a, r1, rfl, h⟩ := h_
    have h_ := mj_s2_s h; clear h; obtain ⟨hi, h⟩ := h_
    refine lv_lstore_n hx hb hd rfl (hl.has) hi rfl (fun lc2 hl2 => ?_)
    exact K _ _ _ _ h (by rw [List.length_set, List.length_set, mj_cl_len]; exact hn) _ _ _ (mj_lv.s2 (v := .long a) hl2) hr
  | dstore n =>
    have h_ := mj_e_s h; clear h; obtain ⟨rfl, h⟩ := h_
    have h_ := mj_pD_s h; clear h; obtain ⟨a, r1, rfl, h⟩ := h_
    have h_ := mj_s2_s h; clear h; obtain ⟨hi, h⟩ := h_
    refine lv_dstore hx hb hd (hl.has) hi rfl (fun lc2 hl2 => ?_)
    exact K _ _ _ _ h (by rw [List.length_set, List.length_set, mj_cl_len]; exact hn) _ _ _ (mj_lv.s2 (v := .double a) hl2) hr
  | dstore_n n =>
    have h_ := mj_e_s h; clear h; obtain ⟨rfl, h⟩ := h_
    have h_ := mj_pD_s h; clear h; obtain ⟨a, r1, rfl, h⟩ := h_
    have h_ := mj_s2_s h; clear h; obtain ⟨hi, h⟩ := h_
    refine lv_dstore_n hx hb hd rfl (hl.has) hi rfl (fun lc2 hl2 => ?_)
    exact K _ _ _ _ h (by rw [List.length_set, List.length_set, mj_cl_len]; exact hn) _ _ _ (mj_lv.s2 (v := .double a) hl2) hr
  | iinc n q =>
    have h_ := mj_e_s h; clear h; obtain ⟨rfl, h⟩ := h_
    have h_ := mj_lI_s h; clear h; obtain ⟨a, ha, h⟩ := h_
    have h_ := mj_s1_s h; clear h; obtain ⟨hi, h⟩ := h_
    obtain ⟨j, hj⟩ := List.getElem?_of_mem (mj_as_in (ad := ad) ha)
    refine lv_iinc hx hb hd (hl.has) hj rfl hi rfl (fun lc2 hl2 => ?_)
    exact K _ _ _ _ h (by rw [List.length_set, mj_cl_len]; exact hn) _ _ _ (mj_lv.s1 (v := .int (a + Int32.ofInt q)) hl2) hr
  | iconst n =>
    have h_ := mj_e_s h; clear h; obtain ⟨rfl, h⟩ := h_
    exact lv_iconst hx hb hd rfl (K _ _ _ _ h hn _ _ _ hl hr)
  | bipush n =>
    have h_ := mj_e_s h; clear h; obtain ⟨rfl, h⟩ := h_
    exact lv_bipush hx hb hd rfl (K _ _ _ _ h hn _ _ _ hl hr)
  | sipush n =>
    have h_ := mj_e_s h; clear h; obtain ⟨rfl, h⟩ := h_
    exact lv_sipush hx hb hd rfl (K _ _ _ _ h hn _ _ _ hl hr)
  | ldc n =>
    have h_ := mj_e_s h; clear h; obtain ⟨rfl, h⟩ := h_
    unfold mj_ck1 at h
    split at h
    · rename_i v hv; exact lv_ldc hx hb hown (hts _ (ok.2.2.2.2.1 _ _ hv)) hd (K _ _ _ _ h hn _ _ _ hl hr)
    · rename_i v hv; exact lv_ldcf hx hb hown (hts _ (ok.2.2.2.2.2.2.1 _ _ hv)) hd (K _ _ _ _ h hn _ _ _ hl hr)
    · cases h
  | ldc_w n =>
    have h_ := mj_e_s h; clear h; obtain ⟨rfl, h⟩ := h_
    unfold mj_ckw at h
    split at h
    · rename_i v hv; exact lv_ldcw hx hb hown (hts _ (ok.2.2.2.2.1 _ _ hv)) hd (K _ _ _ _ h hn _ _ _ hl hr)
    · rename_i v hv; exact mj_ldcwf hx hb hown (hts _ (ok.2.2.2.2.2.2.1 _ _ hv)) hd (K _ _ _ _ h hn _ _ _ hl hr)
    · cases h
  | ldc2_w n =>
    have h_ := mj_e_s h; clear h; obtain ⟨rfl, h⟩ := h_
    unfold mj_ck2 at h
    split at h
    · rename_i v hv; exact lv_ldc2 hx hb hown (hts _ (ok.2.2.2.2.2.1 _ _ hv)) hd (K _ _ _ _ h hn _ _ _ hl hr)
    · rename_i v hv; exact lv_ldc2d hx hb hown (hts _ (ok.2.2.2.2.2.2.2 _ _ hv)) hd (K _ _ _ _ h hn _ _ _ hl hr)
    · cases h
  | lconst n =>
    have h_ := mj_e_s h; clear h; obtain ⟨rfl, h⟩ := h_
    exact lv_lconst hx hb hd rfl (K _ _ _ _ h hn _ _ _ hl hr)
  | dconst n =>
    have h_ := mj_e_s h; clear h; obtain ⟨rfl, h⟩ := h_
    split at h
    · exact lv_dconst0 hx hb hd (K _ _ _ _ h hn _ _ _ hl hr)
    · cases h
  | dup  =>
    have h_ := mj_e_s h; clear h; obtain ⟨rfl, h⟩ := h_
    split at h
    · have h_ := mj_b_s h; clear h; obtain ⟨h1, h⟩ := h_; exact lv_dup hx hb hd (by rw [mj_cv_cat]; exact Nat.eq_of_beq_eq_true h1) (K _ _ _ _ h hn _ _ _ hl hr)
    · cases h
  | pop  =>
    have h_ := mj_e_s h; clear h; obtain ⟨rfl, h⟩ := h_
    split at h
    · have h_ := mj_b_s h; clear h; obtain ⟨h1, h⟩ := h_; exact lv_pop hx hb hd (by rw [mj_cv_cat]; exact Nat.eq_of_beq_eq_true h1) (K _ _ _ _ h hn _ _ _ hl hr)
    · cases h
  | pop2  =>
    have h_ := mj_e_s h; clear h; obtain ⟨rfl, h⟩ := h_
    split at h
    · have h_ := mj_b_s h; clear h; obtain ⟨h1, h⟩ := h_; exact lv_pop2_2 hx hb hd (by rw [mj_cv_cat]; exact Nat.eq_of_beq_eq_true h1) (K _ _ _ _ h hn _ _ _ hl hr)
    · cases h
  | dup_x1  =>
    have h_ := mj_e_s h; clear h; obtain ⟨rfl, h⟩ := h_
    split at h
    · have h_ := mj_b_s h; clear h; obtain ⟨h1, h⟩ := h_; rw [Bool.and_eq_true] at h1; exact lv_dup_x1 hx hb hd (by rw [mj_cv_cat]; exact Nat.eq_of_beq_eq_true h1.1) (by rw [mj_cv_cat]; exact Nat.eq_of_beq_eq_true h1.2) (K _ _ _ _ h hn _ _ _ hl hr)
    · cases h
  | iadd  =>
    have h_ := mj_e_s h; clear h; obtain ⟨rfl, h⟩ := h_
    have h_ := mj_pI_s h; clear h; obtain ⟨b, r1, rfl, h⟩ := h_
    have h_ := mj_pI_s h; clear h; obtain ⟨a, r2, rfl, h⟩ := h_
    exact lv_iadd hx hb hd (K _ _ _ _ h hn _ _ _ hl hr)
  | isub  =>
    have h_ := mj_e_s h; clear h; obtain ⟨rfl, h⟩ := h_
    have h_ := mj_pI_s h; clear h; obtain ⟨b, r1, rfl, h⟩ := h_
    have h_ := mj_pI_s h; clear h; obtain ⟨a, r2, rfl, h⟩ := h_
    exact lv_isub hx hb hd (K _ _ _ _ h hn _ _ _ hl hr)
  | imul  =>
    have h_ := mj_e_s h; clear h; obtain ⟨rfl, h⟩ := h_
    have h_ := mj_pI_s h; clear h; obtain ⟨b, r1, rfl, h⟩ := h_
    have h_ := mj_pI_s h; clear h; obtain ⟨a, r2, rfl, h⟩ := h_
    exact lv_imul hx hb hd (K _ _ _ _ h hn _ _ _ hl hr)
  | iand  =>
    have h_ := mj_e_s h; clear h; obtain ⟨rfl, h⟩ := h_
    have h_ := mj_pI_s h; clear h; obtain ⟨b, r1, rfl, h⟩ := h_
    have h_ := mj_pI_s h; clear h; obtain ⟨a, r2, rfl, h⟩ := h_
    exact lv_iand hx hb hd (K _ _ _ _ h hn _ _ _ hl hr)
  | ior  =>
    have h_ := mj_e_s h; clear h; obtain ⟨rfl, h⟩ := h_
    have h_ := mj_pI_s h; clear h; obtain ⟨b, r1, rfl, h⟩ := h_
    have h_ := mj_pI_s h; clear h; obtain ⟨a, r2, rfl, h⟩ := h_
    exact lv_ior hx hb hd (K _ _ _ _ h hn _ _ _ hl hr)
  | ixor  =>
    have h_ := mj_e_s h; clear h; obtain ⟨rfl, h⟩ := h_
    have h_ := mj_pI_s h; clear h; obtain ⟨b, r1, rfl, h⟩ := h_
    have h_ := mj_pI_s h; clear h; obtain ⟨a, r2, rfl, h⟩ := h_
    exact lv_ixor hx hb hd (K _ _ _ _ h hn _ _ _ hl hr)
  | ishl  =>
    have h_ := mj_e_s h; clear h; obtain ⟨rfl, h⟩ := h_
    have h_ := mj_pI_s h; clear h; obtain ⟨b, r1, rfl, h⟩ := h_
    have h_ := mj_pI_s h; clear h; obtain ⟨a, r2, rfl, h⟩ := h_
    exact lv_ishl hx hb hd (K _ _ _ _ h hn _ _ _ hl hr)
  | ishr  =>
    have h_ := mj_e_s h; clear h; obtain ⟨rfl, h⟩ := h_
    have h_ := mj_pI_s h; clear h; obtain ⟨b, r1, rfl, h⟩ := h_
    have h_ := mj_pI_s h; clear h; obtain ⟨a, r2, rfl, h⟩ := h_
    exact lv_ishr hx hb hd (K _ _ _ _ h hn _ _ _ hl hr)
  | iushr  =>
    have h_ := mj_e_s h; clear h; obtain ⟨rfl, h⟩ := h_
    have h_ := mj_pI_s h; clear h; obtain ⟨b, r1, rfl, h⟩ := h_
    have h_ := mj_pI_s h; clear h; obtain ⟨a, r2, rfl, h⟩ := h_
    exact lv_iushr hx hb hd rfl (K _ _ _ _ h hn _ _ _ hl hr)
  | idiv  =>
    have h_ := mj_e_s h; clear h; obtain ⟨rfl, h⟩ := h_
    have h_ := mj_pI_s h; clear h; obtain ⟨b, r1, rfl, h⟩ := h_
    have h_ := mj_pI_s h; clear h; obtain ⟨a, r2, rfl, h⟩ := h_
    have h_ := mj_d32_s h; clear h; obtain ⟨h0, h⟩ := h_
    exact lv_idiv hx hb hd h0 (K _ _ _ _ h hn _ _ _ hl hr)
  | irem  =>
    have h_ := mj_e_s h; clear h; obtain ⟨rfl, h⟩ := h_
    have h_ := mj_pI_s h; clear h; obtain ⟨b, r1, rfl, h⟩ := h_
    have h_ := mj_pI_s h; clear h; obtain ⟨a, r2, rfl, h⟩ := h_
    have h_ := mj_d32_s h; clear h; obtain ⟨h0, h⟩ := h_
    exact lv_irem hx hb hd h0 (K _ _ _ _ h hn _ _ _ hl hr)
  | ineg  =>
    have h_ := mj_e_s h; clear h; obtain ⟨rfl, h⟩ := h_
    have h_ := mj_pI_s h; clear h; obtain ⟨a, r1, rfl, h⟩ := h_
    exact lv_ineg hx hb hd (K _ _ _ _ h hn _ _ _ hl hr)
  | ladd  =>
    have h_ := mj_e_s h; clear h; obtain ⟨rfl, h⟩ := h_
    have h_ := mj_pL_s h; clear h; obtain ⟨b, r1, rfl, h⟩ := h_
    have h_ := mj_pL_s h; clear h; obtain ⟨a, r2, rfl, h⟩ := h_
    exact lv_ladd hx hb hd (K _ _ _ _ h hn _ _ _ hl hr)
  | lsub  =>
    have h_ := mj_e_s h; clear h; obtain ⟨rfl, h⟩ := h_
    have h_ := mj_pL_s h; clear h; obtain ⟨b, r1, rfl, h⟩ := h_
    have h_ := mj_pL_s h; clear h; obtain ⟨a, r2, rfl, h⟩ := h_
    exact lv_lsub hx hb hd (K _ _ _ _ h hn _ _ _ hl hr)
  | lmul  =>
    have h_ := mj_e_s h; clear h; obtain ⟨rfl, h⟩ := h_
    have h_ := mj_pL_s h; clear h; obtain ⟨b, r1, rfl, h⟩ := h_
    have h_ := mj_pL_s h; clear h; obtain ⟨a, r2, rfl, h⟩ := h_
    exact lv_lmul hx hb hd (K _ _ _ _ h hn _ _ _ hl hr)
  | land  =>
    have h_ := mj_e_s h; clear h; obtain ⟨rfl, h⟩ := h_
    have h_ := mj_pL_s h; clear h; obtain ⟨b, r1, rfl, h⟩ := h_
    have h_ := mj_pL_s h; clear h; obtain ⟨a, r2, rfl, h⟩ := h_
    exact lv_land hx hb hd (K _ _ _ _ h hn _ _ _ hl hr)
  | lor  =>
    have h_ := mj_e_s h; clear h; obtain ⟨rfl, h⟩ := h_
    have h_ := mj_pL_s h; clear h; obtain ⟨b, r1, rfl, h⟩ := h_
    have h_ := mj_pL_s h; clear h; obtain ⟨a, r2, rfl, h⟩ := h_
    exact lv_lor hx hb hd (K _ _ _ _ h hn _ _ _ hl hr)
  | lxor  =>
    have h_ := mj_e_s h; clear h; obtain ⟨rfl, h⟩ := h_
    have h_ := mj_pL_s h; clear h; obtain ⟨b, r1, rfl, h⟩ := h_
    have h_ := mj_pL_s h; clear h; obtain ⟨a, r2, rfl, h⟩ := h_
    exact lv_lxor hx hb hd (K _ _ _ _ h hn _ _ _ hl hr)
  | ldiv  =>
    have h_ := mj_e_s h; clear h; obtain ⟨rfl, h⟩ := h_
    have h_ := mj_pL_s h; clear h; obtain ⟨b, r1, rfl, h⟩ := h_
    have h_ := mj_pL_s h; clear h; obtain ⟨a, r2, rfl, h⟩ := h_
    have h_ := mj_d64_s h; clear h; obtain ⟨h0, h⟩ := h_
    exact lv_ldiv hx hb hd h0 (K _ _ _ _ h hn _ _ _ hl hr)
  | lrem  =>
    have h_ := mj_e_s h; clear h; obtain ⟨rfl, h⟩ := h_
    have h_ := mj_pL_s h; clear h; obtain ⟨b, r1, rfl, h⟩ := h_
    have h_ := mj_pL_s h; clear h; obtain ⟨a, r2, rfl, h⟩ := h_
    have h_ := mj_d64_s h; clear h; obtain ⟨h0, h⟩ := h_
    exact lv_lrem hx hb hd h0 (K _ _ _ _ h hn _ _ _ hl hr)
  | lneg  =>
    have h_ := mj_e_s h; clear h; obtain ⟨rfl, h⟩ := h_
    have h_ := mj_pL_s h; clear h; obtain ⟨a, r1, rfl, h⟩ := h_
    exact lv_lneg hx hb hd (K _ _ _ _ h hn _ _ _ hl hr)
  | lshl  =>
    have h_ := mj_e_s h; clear h; obtain ⟨rfl, h⟩ := h_
    have h_ := mj_pI_s h; clear h; obtain ⟨b, r1, rfl, h⟩ := h_
    have h_ := mj_pL_s h; clear h; obtain ⟨a, r2, rfl, h⟩ := h_
    exact lv_lshl hx hb hd rfl (K _ _ _ _ h hn _ _ _ hl hr)
  | lshr  =>
    have h_ := mj_e_s h; clear h; obtain ⟨rfl, h⟩ := h_
    have h_ := mj_pI_s h; clear h; obtain ⟨b, r1, rfl, h⟩ := h_
    have h_ := mj_pL_s h; clear h; obtain ⟨a, r2, rfl, h⟩ := h_
    exact lv_lshr hx hb hd rfl (K _ _ _ _ h hn _ _ _ hl hr)
  | lushr  =>
    have h_ := mj_e_s h; clear h; obtain ⟨rfl, h⟩ := h_
    have h_ := mj_pI_s h; clear h; obtain ⟨b, r1, rfl, h⟩ := h_
    have h_ := mj_pL_s h; clear h; obtain ⟨a, r2, rfl, h⟩ := h_
    exact lv_lushr hx hb hd rfl (K _ _ _ _ h hn _ _ _ hl hr)
  | lcmp  =>
    have h_ := mj_e_s h; clear h; obtain ⟨rfl, h⟩ := h_
    have h_ := mj_pL_s h; clear h; obtain ⟨b, r1, rfl, h⟩ := h_
    have h_ := mj_pL_s h; clear h; obtain ⟨a, r2, rfl, h⟩ := h_
    exact W.lcmp hx hb hd (K _ _ _ _ h hn _ _ _ hl hr)
  | fadd  =>
    have h_ := mj_e_s h; clear h; obtain ⟨rfl, h⟩ := h_
    have h_ := mj_pF_s h; clear h; obtain ⟨b, r1, rfl, h⟩ := h_
    have h_ := mj_pF_s h; clear h; obtain ⟨a, r2, rfl, h⟩ := h_
    have h_ := mj_n32_s h; clear h; obtain ⟨h0, h⟩ := h_
    exact lv_fadd hx hb hd h0 (K _ _ _ _ h hn _ _ _ hl hr)
  | fsub  =>
    have h_ := mj_e_s h; clear h; obtain ⟨rfl, h⟩ := h_
    have h_ := mj_pF_s h; clear h; obtain ⟨b, r1, rfl, h⟩ := h_
    have h_ := mj_pF_s h; clear h; obtain ⟨a, r2, rfl, h⟩ := h_
    have h_ := mj_n32_s h; clear h; obtain ⟨h0, h⟩ := h_
    exact lv_fsub hx hb hd h0 (K _ _ _ _ h hn _ _ _ hl hr)
  | fmul  =>
    have h_ := mj_e_s h; clear h; obtain ⟨rfl, h⟩ := h_
    have h_ := mj_pF_s h; clear h; obtain ⟨b, r1, rfl, h⟩ := h_
    have h_ := mj_pF_s h; clear h; obtain ⟨a, r2, rfl, h⟩ := h_
    have h_ := mj_n32_s h; clear h; obtain ⟨h0, h⟩ := h_
    exact lv_fmul hx hb hd h0 (K _ _ _ _ h hn _ _ _ hl hr)
  | fdiv  =>
    have h_ := mj_e_s h; clear h; obtain ⟨rfl, h⟩ := h_
    have h_ := mj_pF_s h; clear h; obtain ⟨b, r1, rfl, h⟩ := h_
    have h_ := mj_pF_s h; clear h; obtain ⟨a, r2, rfl, h⟩ := h_
    have h_ := mj_n32_s h; clear h; obtain ⟨h0, h⟩ := h_
    exact lv_fdiv hx hb hd h0 (K _ _ _ _ h hn _ _ _ hl hr)
  | frem  =>
    have h_ := mj_e_s h; clear h; obtain ⟨rfl, h⟩ := h_
    have h_ := mj_pF_s h; clear h; obtain ⟨b, r1, rfl, h⟩ := h_
    have h_ := mj_pF_s h; clear h; obtain ⟨a, r2, rfl, h⟩ := h_
    have h_ := mj_n32_s h; clear h; obtain ⟨h0, h⟩ := h_
    exact lv_frem hx hb hd h0 (K _ _ _ _ h hn _ _ _ hl hr)
  | fneg  =>
    have h_ := mj_e_s h; clear h; obtain ⟨rfl, h⟩ := h_
    have h_ := mj_pF_s h; clear h; obtain ⟨a, r1, rfl, h⟩ := h_
    exact lv_fneg hx hb hd (K _ _ _ _ h hn _ _ _ hl hr)
  | fcmp op =>
    have h_ := mj_e_s h; clear h; obtain ⟨rfl, h⟩ := h_
    have h_ := mj_pF_s h; clear h; obtain ⟨b, r1, rfl, h⟩ := h_
    have h_ := mj_pF_s h; clear h; obtain ⟨a, r2, rfl, h⟩ := h_
    exact lv_fcmp hx hb hd (K _ _ _ _ h hn _ _ _ hl hr)
  | dadd  =>
    have h_ := mj_e_s h; clear h; obtain ⟨rfl, h⟩ := h_
    have h_ := mj_pD_s h; clear h; obtain ⟨b, r1, rfl, h⟩ := h_
    have h_ := mj_pD_s h; clear h; obtain ⟨a, r2, rfl, h⟩ := h_
    have h_ := mj_n64_s h; clear h; obtain ⟨h0, h⟩ := h_
    exact lv_dadd hx hb hd h0 (K _ _ _ _ h hn _ _ _ hl hr)
  | dsub  =>
    have h_ := mj_e_s h; clear h; obtain ⟨rfl, h⟩ := h_
    have h_ := mj_pD_s h; clear h; obtain ⟨b, r1, rfl, h⟩ := h_
    have h_ := mj_pD_s h; clear h; obtain ⟨a, r2, rfl, h⟩ := h_
    have h_ := mj_n64_s h; clear h; obtain ⟨h0, h⟩ := h_
    exact lv_dsub hx hb hd h0 (K _ _ _ _ h hn _ _ _ hl hr)
  | dmul  =>
    have h_ := mj_e_s h; clear h; obtain ⟨rfl, h⟩ := h_
    have h_ := mj_pD_s h; clear h; obtain ⟨b, r1, rfl, h⟩ := h_
    have h_ := mj_pD_s h; clear h; obtain ⟨a, r2, rfl, h⟩ := h_
    have h_ := mj_n64_s h; clear h; obtain ⟨h0, h⟩ := h_
    exact lv_dmul hx hb hd h0 (K _ _ _ _ h hn _ _ _ hl hr)
  | ddiv  =>
    have h_ := mj_e_s h; clear h; obtain ⟨rfl, h⟩ := h_
    have h_ := mj_pD_s h; clear h; obtain ⟨b, r1, rfl, h⟩ := h_
    have h_ := mj_pD_s h; clear h; obtain ⟨a, r2, rfl, h⟩ := h_
    have h_ := mj_n64_s h; clear h; obtain ⟨h0, h⟩ := h_
    exact lv_ddiv hx hb hd h0 (K _ _ _ _ h hn _ _ _ hl hr)
  | drem  =>
    have h_ := mj_e_s h; clear h; obtain ⟨rfl, h⟩ := h_
    have h_ := mj_pD_s h; clear h; obtain ⟨b, r1, rfl, h⟩ := h_
    have h_ := mj_pD_s h; clear h; obtain ⟨a, r2, rfl, h⟩ := h_
    have h_ := mj_n64_s h; clear h; obtain ⟨h0, h⟩ := h_
    exact lv_drem hx hb hd h0 (K _ _ _ _ h hn _ _ _ hl hr)
  | dneg  =>
    have h_ := mj_e_s h; clear h; obtain ⟨rfl, h⟩ := h_
    have h_ := mj_pD_s h; clear h; obtain ⟨a, r1, rfl, h⟩ := h_
    exact lv_dneg hx hb hd (K _ _ _ _ h hn _ _ _ hl hr)
  | dcmp op =>
    have h_ := mj_e_s h; clear h; obtain ⟨rfl, h⟩ := h_
    have h_ := mj_pD_s h; clear h; obtain ⟨b, r1, rfl, h⟩ := h_
    have h_ := mj_pD_s h; clear h; obtain ⟨a, r2, rfl, h⟩ := h_
    exact lv_dcmp hx hb hd (K _ _ _ _ h hn _ _ _ hl hr)
  | i2l  =>
    have h_ := mj_e_s h; clear h; obtain ⟨rfl, h⟩ := h_
    have h_ := mj_pI_s h; clear h; obtain ⟨a, r1, rfl, h⟩ := h_
    exact lv_i2l hx hb hd rfl (K _ _ _ _ h hn _ _ _ hl hr)
  | i2b  =>
    have h_ := mj_e_s h; clear h; obtain ⟨rfl, h⟩ := h_
    have h_ := mj_pI_s h; clear h; obtain ⟨a, r1, rfl, h⟩ := h_
    exact lv_i2b hx hb hd rfl (K _ _ _ _ h hn _ _ _ hl hr)
  | i2c  =>
    have h_ := mj_e_s h; clear h; obtain ⟨rfl, h⟩ := h_
    have h_ := mj_pI_s h; clear h; obtain ⟨a, r1, rfl, h⟩ := h_
    exact lv_i2c hx hb hd rfl (K _ _ _ _ h hn _ _ _ hl hr)
  | i2s  =>
    have h_ := mj_e_s h; clear h; obtain ⟨rfl, h⟩ := h_
    have h_ := mj_pI_s h; clear h; obtain ⟨a, r1, rfl, h⟩ := h_
    exact lv_i2s hx hb hd rfl (K _ _ _ _ h hn _ _ _ hl hr)
  | i2f  =>
    have h_ := mj_e_s h; clear h; obtain ⟨rfl, h⟩ := h_
    have h_ := mj_pI_s h; clear h; obtain ⟨a, r1, rfl, h⟩ := h_
    exact lv_i2f hx hb hd (K _ _ _ _ h hn _ _ _ hl hr)
  | i2d  =>
    have h_ := mj_e_s h; clear h; obtain ⟨rfl, h⟩ := h_
    have h_ := mj_pI_s h; clear h; obtain ⟨a, r1, rfl, h⟩ := h_
    exact lv_i2d hx hb hd (K _ _ _ _ h hn _ _ _ hl hr)
  | l2i  =>
    have h_ := mj_e_s h; clear h; obtain ⟨rfl, h⟩ := h_
    have h_ := mj_pL_s h; clear h; obtain ⟨a, r1, rfl, h⟩ := h_
    exact lv_l2i hx hb hd rfl (K _ _ _ _ h hn _ _ _ hl hr)
  | l2f  =>
    have h_ := mj_e_s h; clear h; obtain ⟨rfl, h⟩ := h_
    have h_ := mj_pL_s h; clear h; obtain ⟨a, r1, rfl, h⟩ := h_
    exact lv_l2f hx hb hd (K _ _ _ _ h hn _ _ _ hl hr)
  | l2d  =>
    have h_ := mj_e_s h; clear h; obtain ⟨rfl, h⟩ := h_
    have h_ := mj_pL_s h; clear h; obtain ⟨a, r1, rfl, h⟩ := h_
    exact lv_l2d hx hb hd (K _ _ _ _ h hn _ _ _ hl hr)
  | f2i  =>
    have h_ := mj_e_s h; clear h; obtain ⟨rfl, h⟩ := h_
    have h_ := mj_pF_s h; clear h; obtain ⟨a, r1, rfl, h⟩ := h_
    exact lv_f2i hx hb hd (K _ _ _ _ h hn _ _ _ hl hr)
  | f2l  =>
    have h_ := mj_e_s h; clear h; obtain ⟨rfl, h⟩ := h_
    have h_ := mj_pF_s h; clear h; obtain ⟨a, r1, rfl, h⟩ := h_
    exact lv_f2l hx hb hd (K _ _ _ _ h hn _ _ _ hl hr)
  | f2d  =>
    have h_ := mj_e_s h; clear h; obtain ⟨rfl, h⟩ := h_
    have h_ := mj_pF_s h; clear h; obtain ⟨a, r1, rfl, h⟩ := h_
    have h_ := mj_n64_s h; clear h; obtain ⟨h0, h⟩ := h_
    exact lv_f2d hx hb hd h0 (K _ _ _ _ h hn _ _ _ hl hr)
  | d2i  =>
    have h_ := mj_e_s h; clear h; obtain ⟨rfl, h⟩ := h_
    have h_ := mj_pD_s h; clear h; obtain ⟨a, r1, rfl, h⟩ := h_
    exact lv_d2i hx hb hd (K _ _ _ _ h hn _ _ _ hl hr)
  | d2l  =>
    have h_ := mj_e_s h; clear h; obtain ⟨rfl, h⟩ := h_
    have h_ := mj_pD_s h; clear h; obtain ⟨a, r1, rfl, h⟩ := h_
    exact lv_d2l hx hb hd (K _ _ _ _ h hn _ _ _ hl hr)
  | d2f  =>
    have h_ := mj_e_s h; clear h; obtain ⟨rfl, h⟩ := h_
    have h_ := mj_pD_s h; clear h; obtain ⟨a, r1, rfl, h⟩ := h_
    have h_ := mj_n32_s h; clear h; obtain ⟨h0, h⟩ := h_
    exact lv_d2f hx hb hd h0 (K _ _ _ _ h hn _ _ _ hl hr)
  | goto off =>
    have h_ := mj_e_s h; clear h; obtain ⟨rfl, h⟩ := h_
    have h_ := mj_j_s h; clear h; obtain ⟨t, ht, h⟩ := h_
    exact lv_goto hx hb hd ht (K _ _ _ _ h hn _ _ _ hl hr)
  | ifCond cnd off =>
    have h_ := mj_e_s h; clear h; obtain ⟨rfl, h⟩ := h_
    have h_ := mj_j_s h; clear h; obtain ⟨t, ht, h⟩ := h_
    have h_ := mj_pI_s h; clear h; obtain ⟨a, r1, rfl, h⟩ := h_
    cases cnd
    · exact lv_if_eq hx hb hd ht (fun q => K _ _ _ _ (by simpa [mj_if, q] using h) hn _ _ _ hl hr) (fun q => K _ _ _ _ (by simpa [mj_if, q] using h) hn _ _ _ hl hr)
    · exact lv_if_ne hx hb hd ht (fun q => K _ _ _ _ (by simpa [mj_if, q] using h) hn _ _ _ hl hr) (fun q => K _ _ _ _ (by simpa [mj_if, q] using h) hn _ _ _ hl hr)
    · exact lv_if_lt hx hb hd ht (fun q => K _ _ _ _ (by simpa [mj_if, q] using h) hn _ _ _ hl hr) (fun q => K _ _ _ _ (by simpa [mj_if, q] using h) hn _ _ _ hl hr)
    · exact lv_if_ge hx hb hd ht (fun q => K _ _ _ _ (by simpa [mj_if, q] using h) hn _ _ _ hl hr) (fun q => K _ _ _ _ (by simpa [mj_if, q] using h) hn _ _ _ hl hr)
    · exact lv_if_gt hx hb hd ht (fun q => K _ _ _ _ (by simpa [mj_if, q] using h) hn _ _ _ hl hr) (fun q => K _ _ _ _ (by simpa [mj_if, q] using h) hn _ _ _ hl hr)
    · exact lv_if_le hx hb hd ht (fun q => K _ _ _ _ (by simpa [mj_if, q] using h) hn _ _ _ hl hr) (fun q => K _ _ _ _ (by simpa [mj_if, q] using h) hn _ _ _ hl hr)
  | if_icmp cnd off =>
    have h_ := mj_e_s h; clear h; obtain ⟨rfl, h⟩ := h_
    have h_ := mj_j_s h; clear h; obtain ⟨t, ht, h⟩ := h_
    have h_ := mj_pI_s h; clear h; obtain ⟨b, r1, rfl, h⟩ := h_
    have h_ := mj_pI_s h; clear h; obtain ⟨a, r2, rfl, h⟩ := h_
    cases cnd
    · exact lv_icmp_eq hx hb hd ht (fun q => K _ _ _ _ (by simpa [mj_if, q] using h) hn _ _ _ hl hr) (fun q => K _ _ _ _ (by simpa [mj_if, q] using h) hn _ _ _ hl hr)
    · exact lv_icmp_ne hx hb hd ht (fun q => K _ _ _ _ (by simpa [mj_if, q] using h) hn _ _ _ hl hr) (fun q => K _ _ _ _ (by simpa [mj_if, q] using h) hn _ _ _ hl hr)
    · exact lv_icmp_lt hx hb hd ht (fun q => K _ _ _ _ (by simpa [mj_if, q] using h) hn _ _ _ hl hr) (fun q => K _ _ _ _ (by simpa [mj_if, q] using h) hn _ _ _ hl hr)
    · exact lv_icmp_ge hx hb hd ht (fun q => K _ _ _ _ (by simpa [mj_if, q] using h) hn _ _ _ hl hr) (fun q => K _ _ _ _ (by simpa [mj_if, q] using h) hn _ _ _ hl hr)
    · exact lv_icmp_gt hx hb hd ht (fun q => K _ _ _ _ (by simpa [mj_if, q] using h) hn _ _ _ hl hr) (fun q => K _ _ _ _ (by simpa [mj_if, q] using h) hn _ _ _ hl hr)
    · exact lv_icmp_le hx hb hd ht (fun q => K _ _ _ _ (by simpa [mj_if, q] using h) hn _ _ _ hl hr) (fun q => K _ _ _ _ (by simpa [mj_if, q] using h) hn _ _ _ hl hr)
  | tableswitch dflt lo hi offs =>
    exact mj_step_ts hx hb K h hn hl hr hd
  | lookupswitch dflt ps =>
    exact mj_step_lk hx hb K h hn hl hr hd
  | getfield idx =>
    exact mj_step_gf hx hb hown hts hK hci ok K h hn hl hr hd
  | putfield idx =>
    exact mj_step_pf hx hb hown hts hK hci ok K h hn hl hr hd
  | iaload  =>
    have h_ := mj_e_s h; clear h; obtain ⟨rfl, h⟩ := h_
    have h_ := mj_pI_s h; clear h; obtain ⟨i, r1, rfl, h⟩ := h_
    have h_ := mj_pA_s h; clear h; obtain ⟨a, r2, rfl, h⟩ := h_
    exact mj_step_ia hx hb hK ok hrN K h hn hl hr hd
  | baload  =>
    have h_ := mj_e_s h; clear h; obtain ⟨rfl, h⟩ := h_
    have h_ := mj_pI_s h; clear h; obtain ⟨i, r1, rfl, h⟩ := h_
    have h_ := mj_pA_s h; clear h; obtain ⟨a, r2, rfl, h⟩ := h_
    exact mj_step_ba hx hb hK ok hrN K h hn hl hr hd
  | laload  =>
    have h_ := mj_e_s h; clear h; obtain ⟨rfl, h⟩ := h_
    have h_ := mj_pI_s h; clear h; obtain ⟨i, r1, rfl, h⟩ := h_
    have h_ := mj_pA_s h; clear h; obtain ⟨a, r2, rfl, h⟩ := h_
    exact mj_step_la hx hb hK ok hrN K h hn hl hr hd
  | iastore  =>
    have h_ := mj_e_s h; clear h; obtain ⟨rfl, h⟩ := h_
    have h_ := mj_pI_s h; clear h; obtain ⟨v, r0, rfl, h⟩ := h_
    have h_ := mj_pI_s h; clear h; obtain ⟨i, r1, rfl, h⟩ := h_
    have h_ := mj_pA_s h; clear h; obtain ⟨a, r2, rfl, h⟩ := h_
    exact mj_step_is hx hb hK ok hrN K h hn hl hr hd
  | bastore  =>
    have h_ := mj_e_s h; clear h; obtain ⟨rfl, h⟩ := h_
    have h_ := mj_pI_s h; clear h; obtain ⟨v, r0, rfl, h⟩ := h_
    have h_ := mj_pI_s h; clear h; obtain ⟨i, r1, rfl, h⟩ := h_
    have h_ := mj_pA_s h; clear h; obtain ⟨a, r2, rfl, h⟩ := h_
    exact mj_step_bs hx hb hK ok hrN K h hn hl hr hd
  | lastore  =>
    have h_ := mj_e_s h; clear h; obtain ⟨rfl, h⟩ := h_
    have h_ := mj_pL_s h; clear h; obtain ⟨v, r0, rfl, h⟩ := h_
    have h_ := mj_pI_s h; clear h; obtain ⟨i, r1, rfl, h⟩ := h_
    have h_ := mj_pA_s h; clear h; obtain ⟨a, r2, rfl, h⟩ := h_
    exact mj_step_ls hx hb hK ok hrN K h hn hl hr hd
  | arraylength  =>
    have h_ := mj_e_s h; clear h; obtain ⟨rfl, h⟩ := h_
    have h_ := mj_pA_s h; clear h; obtain ⟨a, r2, rfl, h⟩ := h_
    exact mj_step_al hx hb hK ok hrN hrA K h hn hl hr hd
  | ireturn  =>
    exact mj_step_ir hx hb hlk hret hK h hr hd
  | lreturn  =>
    have h_ := mj_e_s h; clear h; obtain ⟨rfl, h⟩ := h_
    split at h
    · have h_ := mj_b_s h; clear h; obtain ⟨h1, h⟩ := h_
      have h1 := Nat.eq_of_beq_eq_true h1; subst h1; cases h
      exact W.lret hx hb hret (fun t ht hW => ⟨⟨rfl, by rw [ht]; exact hr.1, va_K.moved hW.alike hK, hr.2.1⟩, hr.2.2.F ht⟩) hr.2.2.2.2 hd hlk
    · cases h
  | freturn  =>
    have h_ := mj_e_s h; clear h; obtain ⟨rfl, h⟩ := h_
    split at h
    · have h_ := mj_b_s h; clear h; obtain ⟨h1, h⟩ := h_
      have h1 := Nat.eq_of_beq_eq_true h1; subst h1; cases h
      exact W.fret hx hb hret (fun t ht hW => ⟨⟨rfl, by rw [ht]; exact hr.1, va_K.moved hW.alike hK, hr.2.1⟩, hr.2.2.F ht⟩) hr.2.2.2.2 hd hlk
    · cases h
  | dreturn  =>
    have h_ := mj_e_s h; clear h; obtain ⟨rfl, h⟩ := h_
    split at h
    · have h_ := mj_b_s h; clear h; obtain ⟨h1, h⟩ := h_
      have h1 := Nat.eq_of_beq_eq_true h1; subst h1; cases h
      exact W.dret hx hb hret (fun t ht hW => ⟨⟨rfl, by rw [ht]; exact hr.1, va_K.moved hW.alike hK, hr.2.1⟩, hr.2.2.F ht⟩) hr.2.2.2.2 hd hlk
    · cases h
  | return_  =>
    have h_ := mj_e_s h; clear h; obtain ⟨rfl, h⟩ := h_
    split at h
    · have h_ := mj_b_s h; clear h; obtain ⟨h1, h⟩ := h_
      have h1 := Nat.eq_of_beq_eq_true h1; subst h1; cases h
      exact W.vret hx hb hret (fun t ht hW => ⟨⟨rfl, by rw [ht]; exact hr.1, va_K.moved hW.alike hK, hr.2.1⟩, hr.2.2.F ht⟩) hr.2.2.2.2 hd hlk
    · cases h
  | invokevirtual idx =>
    exact mj_step_iv hV hvok K h hn hl hr hd
  | invokestatic idx =>
    exact mj_step_is_ hC hvok K h hn hl hr hd
  | _ => cases h
end MjStep

