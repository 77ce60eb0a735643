/-! A METHOD OF THE SMALL MACHINE IS A CONTRACT OF THE REAL ONE -/
def mj_room (d : Nat) : Room := { frames := d + 4, cells := 0, slots := 0, locals := 44 * d + 200 }
theorem mj_ea_len (ad : Nat → Nat) : ∀ vs : List Value, (lg_sl (vs.map (mj_cv ad))).length = (mj_ea vs).length := by
  intro vs
  induction vs with
  | nil => rfl
  | cons v r ih =>
    have e : lg_sl ((v :: r).map (mj_cv ad)) = (if v.category = 2 then [.val (mj_cv ad v), .second] else [.val (mj_cv ad v)]) ++ lg_sl (r.map (mj_cv ad)) := by
      show (List.map (mj_cv ad) (v :: r)).flatMap _ = _
      rw [List.map_cons, List.flatMap_cons, mj_cv_cat]; rfl
    rw [e, List.length_append, ih]
    cases v <;> simp [mj_ea, Value.category] <;> omega
theorem mj_ea_get (ad : Nat → Nat) : ∀ (vs : List Value) (i : Nat) (w : Value), (mj_ea vs)[i]? = some (some w) → (lg_sl (vs.map (mj_cv ad)))[i]? = some (.val (mj_cv ad w)) := by
  intro vs
  induction vs with
  | nil => intro i w h; simp [mj_ea] at h
  | cons v r ih =>
    intro i w h
    have e : lg_sl ((v :: r).map (mj_cv ad)) = (if v.category = 2 then [.val (mj_cv ad v), .second] else [.val (mj_cv ad v)]) ++ lg_sl (r.map (mj_cv ad)) := by
      show (List.map (mj_cv ad) (v :: r)).flatMap _ = _
      rw [List.map_cons, List.flatMap_cons, mj_cv_cat]; rfl
    rw [e]
    have two : ∀ u : Value, u.category = 2 → (some u :: none :: mj_ea r)[i]? = some (some w) → ((if u.category = 2 then [.val (mj_cv ad u), .second] else [.val (mj_cv ad u)]) ++ lg_sl (r.map (mj_cv ad)))[i]? = some (.val (mj_cv ad w)) := by
      intro u hu h
      rw [if_pos hu]
      match i, h with
      | 0, h => cases h; rfl
      | 1, h => cases h
      | j + 2, h => exact ih j w h
    have one : ∀ u : Value, ¬ u.category = 2 → (some u :: mj_ea r)[i]? = some (some w) → ((if u.category = 2 then [.val (mj_cv ad u), .second] else [.val (mj_cv ad u)]) ++ lg_sl (r.map (mj_cv ad)))[i]? = some (.val (mj_cv ad w)) := by
      intro u hu h
      rw [if_neg hu]
      match i, h with
      | 0, h => cases h; rfl
      | j + 1, h => exact ih j w h
    cases v with
    | long q => exact two _ rfl h
    | double q => exact two _ rfl h
    | int q => exact one _ (by simp [Value.category]) h
    | float q => exact one _ (by simp [Value.category]) h
    | ref q => exact one _ (by simp [Value.category]) h
    | null => exact one _ (by simp [Value.category]) h
    | retAddr q => exact one _ (by simp [Value.category]) h
theorem mj_en_len {n : Nat} {vs : List Value} (h : (mj_ea vs).length ≤ n) : (mj_en n vs).length = n := by
  unfold mj_en
  rw [List.length_append, List.length_replicate]; omega
theorem mj_en_lv (ad : Nat → Nat) {n : Nat} {vs : List Value} (h : (mj_ea vs).length ≤ n) : mj_lv ad (mj_en n vs) ((lg_sl (vs.map (mj_cv ad)) ++ List.replicate (n - (lg_sl (vs.map (mj_cv ad))).length) Slot.unset).toArray) := by
  have hl := lv_entry (vs.map (mj_cv ad)) (n := n) (by rw [mj_ea_len]; exact h)
  refine ⟨by rw [mj_en_len h]; exact hl.1, hl.2.1, fun i v hi => ?_⟩
  unfold mj_en at hi
  by_cases h1 : i < (mj_ea vs).length
  · rw [List.getElem?_append_left h1] at hi
    rw [List.getElem?_toArray, List.getElem?_append_left (by rw [mj_ea_len]; exact h1)]
    exact mj_ea_get ad vs i v hi
  · rw [List.getElem?_append_right (by omega), List.getElem?_replicate] at hi
    split at hi <;> cases hi
/-- what is known of a class's methods: their links, their code by places, their descriptors -/
def mj_okm (P : mj_P) (own : String) (yn : Nat → MethodName) (cb : Nat → ByteArray) (sv : Nat → Bool) (M : Nat) : Prop :=
  (plainName own = true ∧ own ≠ "java/lang/invoke/MethodHandle" ∧ own ≠ "java/lang/invoke/VarHandle") ∧
  (∀ i m, P.1.2.2.2.2.1 i = m + 1 → m < 1000 → m < M ∧ (bif sv i then GoodIn lw_all (wsV own i own (yn m) (ws_ (yn m) (cb m) (P.2.2 m) (mj_rt (P.1.2.2.2.2.2.2 m)))) else GoodIn lw_all (va_wsS own i (yn m) (ws_ (yn m) (cb m) (P.2.2 m) (mj_rt (P.1.2.2.2.2.2.2 m)))))) ∧
  (∀ m, m < M → (∀ p q, P.2.1 m p = some q → decode (cb m) p = .ok q ∧ mj_vok sv q.1) ∧ (yn m).cls = own ∧ (parseMethodDescriptor (yn m).desc).map (fun d => d.parameters.length) = some (P.1.2.2.2.2.2.1 m) ∧ P.2.2 m ≤ 25)
section MjMet
variable {p : Program} {l : Launch} {e : Env} {R : Room} {s : State} {m : MethodId} {args : Array Value} {below : List Frame} {meth : Method} {c : Code} {cc : ByteArray}
  {D : va_G} {cl : List vw_C} {cd : mj_C} {own : String} {T : u_T} {N ci : Nat} {ad : Nat → Nat} {cA : Nat → ClassId} {A : Nat → Prop} {rt : Nat} {cal : Nat → List Value → mj_X → mj_R} {tab : mj_T} {sv : Nat → Bool}
theorem mj_exW {nL : Nat} {r : Option Value × mj_X} (hx : p.tables.exec = Jvm.exec) (hb : c.code = cc) (hlk : meth.locks = false) (hret : meth.sig.returnType = mj_rt rt) (hown : s.vm.findClass own = some m.cls) (hts : ∀ w ∈ lw_all, w.before args s = true) (hK : va_K D cl (mj_tys cd N cA) s) (hci : cl[ci]? = some (own, T, N)) (ok : mj_okc cd own T N) (hrA : ∀ f, 3 ≤ cd.2.1 f → f < N) (hV : mj_Cal p l e R s m args below meth c cc D cl cd N ci ad cA A cal nL sv true) (hC : mj_Cal p l e R s m args below meth c cc D cl cd N ci ad cA A cal nL sv false) (htab : ∀ p q, tab p = some q → decode cc p = .ok q ∧ mj_vok sv q.1) :
    ∀ n, mj_K p l e R s m args below meth c D cl cd N ci ad cA A nL (mj_ex cd rt tab cal n) r (MQ below (mj_Qc D cl cd N ci ad cA A r) args s 0 0 A) := by
  intro n
  induction n with
  | zero => intro pc ls st x h; cases h
  | succ n ih =>
    intro pc ls st x h hn H locs lc hl hr
    have h : mj_s0 cd rt tab cal (pc, ls, st, x) (mj_ex cd rt tab cal n) = some r := h
    unfold mj_s0 at h
    cases hq : tab pc with
    | none => rw [show tab (pc, ls, st, x).1 = none from hq] at h; cases h
    | some q =>
      rw [show tab (pc, ls, st, x).1 = some q from hq] at h
      obtain ⟨h1, h2⟩ := htab _ _ hq
      exact mj_step hx hb hlk hret hown hts hK hci ok (fun f a _ => hrA f a) hrA hV hC q.1 h2 ih h hn hl hr h1
/-- a call, whatever it gives -/
theorem mj_goes {H : Heap} {locs : List Loc} {pc : Nat} {lc : Array Slot} {st0 rest : List Value} {A1 A0 : Nat → Prop} {H0 : Heap} {Q : State → Prop} {Qa : State → Outcome → State → Prop} {v : Option Value} {B : State → Prop} {free : Addr → Prop} (hr : va_Run p l e R s m args below meth c H locs 0 0 0 0 (F0 m pc lc st0) rest Qa free) (hQ : ∀ st oc t, Qa st oc t → (oc = .returned v ∧ B t) ∧ va_F A1 st t) (hS : va_S A0 H0 H locs) (hA : ∀ q, q < H.size → A1 q → A0 q) (hf : ∀ q, free q → A0 q)
    (kk : ∀ (t : State) (H1 : Heap) (locs1 : List Loc), t.heap = H1 → s.vm.Alike t.vm → B t → va_S A0 H0 H1 locs1 → W p l e R s m args below meth c H1 locs1 0 0 Q (F0 m (pc + 3) lc (v.toList ++ rest))) : W p l e R s m args below meth c H locs 0 0 Q (F0 m pc lc st0) := by
  intro T hT X
  obtain ⟨v', st₀, t, T', L, h0, X', hL, e1, e2, hq, st⟩ := hr T hT X
  obtain ⟨⟨hv, hb⟩, hz, hk⟩ := hQ _ _ _ hq
  cases hv
  rw [h0] at hz hk
  obtain ⟨t2, a1, b1⟩ := kk t T'.heap (locs ++ L) e1.symm (by rw [← e2]; exact X'.warmed.alike) hb
    ⟨Nat.le_trans hS.1 (by rw [e1]; exact hz), fun q h1 h2 => by rw [e1, hk q (Nat.lt_of_lt_of_le h1 hS.1) (fun z => h2 (hA q (Nat.lt_of_lt_of_le h1 hS.1) z))]; exact hS.2.1 q h1 h2, fun q hq => by
      rcases List.mem_append.mp hq with h | h
      · exact hS.2.2 q h
      · exact hf _ (hL q h)⟩ T' rfl X'
  exact ⟨t2, st t2 a1, b1⟩
end MjMet
def mj_Pc (D : va_G) (cl : List vw_C) (cd : mj_C) (N ci : Nat) (ad : Nat → Nat) (cA : Nat → ClassId) (sz : Nat) (as : List Value) (x : mj_X) : Array Value → State → Prop :=
  va_Pc (as.map (mj_cv ad)) (fun U => U.heap.size = sz ∧ va_P D cl (mj_ws cd N ci ad cA x) U.heap ∧ va_K D cl (mj_tys cd N cA) U ∧ va_D (fun _ => True) (mj_ws cd N ci ad cA x))
theorem mj_blind {D : va_G} {cl : List vw_C} {cd : mj_C} {N ci : Nat} {ad : Nat → Nat} {cA : Nat → ClassId} {sz : Nat} {as : List Value} {x : mj_X} : FrameBlind (mj_Pc D cl cd N ci ad cA sz as x) := by
  intro a U g mk ⟨q0, q1, qP, qK, qD⟩
  exact ⟨q0, q1, qP, va_K.moved (u := U) (U := U.calling g mk a) (Vm.Alike.refl U.vm) qK, qD⟩
/-- the cells' addresses are the same whatever they hold -/
theorem mj_A_eq (cd : mj_C) (N ci : Nat) (ad : Nat → Nat) (cA : Nat → ClassId) (x y : mj_X) (sz q : Nat) (h : va_A (mj_ws cd N ci ad cA x) sz q) : va_A (mj_ws cd N ci ad cA y) sz q := by
  rcases h with ⟨k, v, h⟩ | h
  · left
    cases k with
    | zero => cases h; exact ⟨0, _, rfl⟩
    | succ k =>
      have h : ((mj_af cd N).map (fun f => (ad (f + 1), (Sum.inl (cA f, mj_ac cd x f) : va_E))))[k]? = some (q, v) := h
      rw [List.getElem?_map] at h
      cases hk : (mj_af cd N)[k]? with
      | none => rw [hk] at h; cases h
      | some f =>
        rw [hk] at h; cases h
        exact ⟨k + 1, _, mj_ws_a ci ad cA y hk⟩
  · exact Or.inr h
section MjMet2
variable {p : Program} {l : Launch} {e : Env} {R : Room} {s : State} {m : MethodId} {args : Array Value} {below : List Frame} {meth : Method} {c : Code} {cc : ByteArray}
  {D : va_G} {cl : List vw_C} {own : String} {T : u_T} {N ci : Nat} {ad : Nat → Nat} {cA : Nat → ClassId} {P : mj_P} {yn : Nat → MethodName} {cb : Nat → ByteArray} {sv : Nat → Bool} {M : Nat}
/-- the JDK's methods, called from a method of the class -/
def mj_okp (P : mj_P) (own : String) (T : u_T) (N : Nat) (sv : Nat → Bool) : Prop :=
  ∀ (p : Program) (l : Launch) (e : Env) (R : Room) (s : State) (m : MethodId) (args : Array Value) (below : List Frame) (meth : Method) (c : Code) (cc : ByteArray) (D : va_G) (cl : List vw_C) (ci : Nat) (ad : Nat → Nat) (cA : Nat → ClassId) (A : Nat → Prop) (nL : Nat), p.tables.exec = Jvm.exec → c.code = cc → c.maxLocals = nL → s.vm.findClass own = some m.cls → (∀ w ∈ lw_all, w.before args s = true) → va_K D cl (mj_tys P.1 N cA) s → cl[ci]? = some (own, T, N) → 4 ≤ R.frames → 200 ≤ R.locals → (∀ q, s.heap.size ≤ q → A q) →
    ∀ (Q : State → Prop) (i mm pc : Nat) (as rest : List Value) (x : mj_X) (H : Heap) (locs : List Loc) (lc : Array Slot) (r : Option Value × mj_X), sv i = false → P.1.2.2.2.2.1 i = mm + 1 → 1000 ≤ mm → mj_pr P.1 mm as x = some r → decode cc pc = .ok (.invokestatic i, 3) → lc.size = nL → (rest.map Value.category).sum ≤ 8 →
    mj_Rel D cl P.1 N ci ad cA A s x H locs → (∀ (H1 : Heap) (locs1 : List Loc), mj_Rel D cl P.1 N ci ad cA A s r.2 H1 locs1 → W p l e R s m args below meth c H1 locs1 0 0 Q (F0 m (pc + 3) lc ((r.1.map (mj_cv ad)).toList ++ rest.map (mj_cv ad)))) →
    W p l e R s m args below meth c H locs 0 0 Q (F0 m pc lc ((as.reverse ++ rest).map (mj_cv ad)))
set_option maxHeartbeats 1000000 in
theorem mj_met (okc : mj_okc P.1 own T N) (okm : mj_okm P own yn cb sv M) (okp : mj_okp P own T N sv) (hrA : ∀ f, 3 ≤ P.1.2.1 f → f < N) (hci : cl[ci]? = some (own, T, N)) :
    ∀ (d mm : Nat) (as : List Value) (x : mj_X) (r : Option Value × mj_X) (ad : Nat → Nat) (cA : Nat → ClassId) (sz : Nat), mm < M → mj_c0 P d mm as x = some r →
      Met l (yn mm) (ws_ (yn mm) (cb mm) (P.2.2 mm) (mj_rt (P.1.2.2.2.2.2.2 mm))) (mj_room d) (mj_Pc D cl P.1 N ci ad cA sz as x) (mj_Qc D cl P.1 N ci ad cA (va_A (mj_ws P.1 N ci ad cA x) sz) r) 0 0 (va_A (mj_ws P.1 N ci ad cA x) sz) := by
  intro d
  induction d with
  | zero => intro mm as x r ad cA sz hm h; cases h
  | succ d ih =>
    intro mm as x r ad cA sz hm h
    have h : (bif Nat.ble (mj_ea as).length (P.2.2 mm) then mj_run P.1 (P.1.2.2.2.2.2.2 mm) (P.2.1 mm) (mj_call P d) (0, mj_en (P.2.2 mm) as, [], x) else none) = some r := h
    obtain ⟨hlen, h⟩ := mj_b_s h
    have hlen := Nat.le_of_ble_eq_true hlen
    obtain ⟨n, h⟩ := mj_run_iff.mp h
    obtain ⟨htab, hcls, hdesc, hmL⟩ := okm.2.2 mm hm
    refine Met.ofW (cc := cb mm) (maxL := P.2.2 mm) (ret := mj_rt (P.1.2.2.2.2.2.2 mm)) (by rw [hcls]; exact okm.1.1) rfl ?_
    intro p e s m args below meth c s₁ B hml hv
    obtain ⟨rfl, hsz, hP, hK, hD0⟩ := hv
    have hx := B.exec
    have hb := B.bytes
    have hr := B.returns
    have hts := atoms_spec (ws := ws_ (yn mm) (cb mm) (P.2.2 mm) (mj_rt (P.1.2.2.2.2.2.2 mm))) B.pre
    have hts : ∀ w ∈ lw_all, w.before _ s = true := fun w h => hts w (List.mem_cons_of_mem _ h)
    have hown : s.vm.findClass own = some m.cls := by
      have := findClass_of_methodNamed B.named
      rw [hcls] at this; exact this
    have hlocks := B.notSynchronized
    subst hsz
    have hD := hD0.self (sz := s.heap.size)
    generalize hAe : va_A (mj_ws P.1 N ci ad cA x) s.heap.size = A at hD ⊢
    have hA : ∀ q : Nat, s.heap.size ≤ q → A q := fun q h => by rw [← hAe]; exact Or.inr h
    have hS : va_S A s.heap s.heap [] := va_S.rf
    rw [lg_entry_eq]
    have cal : ∀ virt : Bool, mj_Cal p l e (headSpec (ws_ (yn mm) (cb mm) (P.2.2 mm) (mj_rt (P.1.2.2.2.2.2.2 mm))) (mj_room (d + 1))).room s m (as.map (mj_cv ad)).toArray below meth c (cb mm) D cl P.1 N ci ad cA A (mj_call P d) (P.2.2 mm) sv virt := by
      intro virt Q i m2 pc as2 rest x2 H locs lc r2 hsv hmk hv1 has hcal hdec hsize hfew hrel kk
      by_cases hlt : m2 < 1000
      · have hb1 : Nat.blt m2 1000 = true := Nat.ble_eq_true_of_le hlt
        have hcal : mj_c0 P d m2 (bif virt then .ref 0 :: as2 else as2) x2 = some r2 := by
          unfold mj_call at hcal; rw [hb1] at hcal; exact hcal
        obtain ⟨hM2, hG⟩ := okm.2.1 i m2 hmk hlt
        obtain ⟨-, hcls2, hdesc2, hmL2⟩ := okm.2.2 m2 hM2
        have met := ih m2 _ x2 r2 ad cA H.size hM2 hcal
        have hsub : ∀ q, va_A (mj_ws P.1 N ci ad cA x2) H.size q → A q := by
          intro q hq
          rcases hq with ⟨k, v, hq⟩ | hq
          · exact hrel.2.1.2 k _ hq
          · exact hA q (Nat.le_trans hrel.2.2.1 hq)
        have fin : ∀ a st oc t, mj_Qc D cl P.1 N ci ad cA (va_A (mj_ws P.1 N ci ad cA x2) H.size) r2 a st oc t → (oc = .returned (r2.1.map (mj_cv ad)) ∧ (va_P D cl (mj_ws P.1 N ci ad cA r2.2) t.heap ∧ va_D A (mj_ws P.1 N ci ad cA r2.2))) ∧ va_F (va_A (mj_ws P.1 N ci ad cA x2) H.size) st t := by
          intro a st oc t ⟨⟨h1, h2, h3, h4⟩, h5⟩
          exact ⟨⟨h1, h2, h4.weaken (fun k q _ hq => hsub _ hq)⟩, h5⟩
        have pre : ∀ U : State, U.heap = H → s.WarmedH U.vm → mj_Pc D cl P.1 N ci ad cA H.size (bif virt then .ref 0 :: as2 else as2) x2 ((bif virt then .ref 0 :: as2 else as2).map (mj_cv ad)).toArray U := fun U hU hW =>
          ⟨rfl, by rw [hU], by rw [hU]; exact hrel.1, va_K.moved hW.alike hK, hrel.2.1.weaken (fun _ _ _ _ => trivial)⟩
        have room : (mj_room d).frames + 1 ≤ (mj_room (d + 1)).frames ∧ 8 + (P.2.2 m2 + 11) + (mj_room d).locals ≤ (mj_room (d + 1)).locals := by
          unfold mj_room; simp only; omega
        have hcat : ∀ rs : List Value, ((rs.map (mj_cv ad)).map fun v => v.category) = rs.map Value.category := fun rs => by
          rw [List.map_map]; exact List.map_congr_left (fun v _ => mj_cv_cat ad v)
        cases virt with
        | true =>
          rw [hsv] at hG
          have run := va_runV (p := p) (e := e) (below := below) (meth := meth) (H := H) (locs := locs) (cells := 0) (slots := 0) (As := as2.map (mj_cv ad)) (rest := rest.map (mj_cv ad)) (b := ad 0) (g := F0 m pc lc ((as2.reverse ++ .ref 0 :: rest).map (mj_cv ad))) ⟨hx, hb, hml, hown, hts⟩ met (cwV (P.1.2.2.2.2.2.1 m2) hts hG rfl rfl rfl ⟨hcls2, by rw [hcls2]; exact okm.1.2.1, by rw [hcls2]; exact okm.1.2.2, hdesc2⟩ room) ⟨mj_blind, va_recv hK hrel.1 hci (mj_ws_0 P.1 N ci ad cA x2), pre⟩ rfl (by rw [List.length_map]; exact has) hsize (by simp [mj_cv]) (lv_room (by rw [hcat]; exact hfew)) hdec ⟨Nat.le_refl _, Nat.le_refl _⟩
          exact mj_goes run (fin _) hrel.2.2 (fun q _ h => hsub q h) hsub (fun t H1 locs1 ht hvm hB hS1 => kk H1 locs1 ⟨by rw [← ht]; exact hB.1, hB.2, hS1⟩)
        | false =>
          rw [hsv] at hG
          have run := va_runS (p := p) (e := e) (below := below) (meth := meth) (H := H) (locs := locs) (cells := 0) (slots := 0) (As := as2.map (mj_cv ad)) (rest := rest.map (mj_cv ad)) (g := F0 m pc lc ((as2.reverse ++ rest).map (mj_cv ad))) ⟨hx, hb, hml, hown, hts⟩ met (va_cwS (P.1.2.2.2.2.2.1 m2) hts hG rfl rfl rfl ⟨by rw [hcls2]; exact okm.1.2.1, by rw [hcls2]; exact okm.1.2.2, hdesc2⟩ room) ⟨mj_blind, pre⟩ rfl (by rw [List.length_map]; exact has) hsize (by simp) (lv_room (by rw [hcat]; exact hfew)) hdec ⟨Nat.le_refl _, Nat.le_refl _⟩
          exact mj_goes run (fin _) hrel.2.2 (fun q _ h => hsub q h) hsub (fun t H1 locs1 ht hvm hB hS1 => kk H1 locs1 ⟨by rw [← ht]; exact hB.1, hB.2, hS1⟩)
      · have hb1 : Nat.blt m2 1000 = false := by
          apply Bool.eq_false_iff.mpr; intro q; exact hlt (Nat.le_of_ble_eq_true q)
        cases virt with
        | true => exact absurd (hv1 rfl) hlt
        | false =>
          have hcal : mj_pr P.1 m2 as2 x2 = some r2 := by
            unfold mj_call at hcal; rw [hb1] at hcal; exact hcal
          exact okp p l e _ s m _ below meth c (cb mm) D cl ci ad cA A (P.2.2 mm) hx hb hml hown hts hK hci (by show 4 ≤ d + 1 + 4; omega) (by show 200 ≤ 44 * (d + 1) + 200; omega) hA Q i m2 pc as2 rest x2 H locs lc r2 hsv hmk (by omega) hcal hdec hsize hfew hrel kk
    exact mj_exW (cc := cb mm) (tab := P.2.1 mm) (sv := sv) hx hb hlocks hr hown hts hK hci okc hrA (cal true) (cal false) htab n 0 _ [] x h (mj_en_len hlen) s.heap [] _ (mj_en_lv ad hlen) ⟨hP, hD, hS⟩
end MjMet2
