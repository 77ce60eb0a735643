/-! member(): what both answer -/
/-- two nodes are placed -/
def sp_mk (nt : sp_NT) (params body : Int32) : sp_NT := fun j i => if j = 5 ∧ (i = body.toNatClampNeg ∨ (¬ params = -1 ∧ i = params.toNatClampNeg)) then 1 else nt j i
def uFo (nt : sp_NT) : List Int32 → sp_SS → sp_SS
  | [], s => s
  | p :: r, s => uFo nt r (sp_fo s (nA nt p))
def uPls (nt : sp_NT) : List Int32 → Nat
  | [] => 0
  | p :: r => (w_tl (nT nt (nA nt p))).length + uPls nt r
def u_s0 (D : Nat → Int32) : sp_SS := (0, fun _ => false, D)
def u_good (nt : sp_NT) (N : Nat) (a1 a2 a3 : Int32) : Bool := decide (0 ≤ a1) && (decide (a1 ≤ 8) && ((decide (a2 = -1) || sp_fk nt (sp_fr nt N) a2 86) && sp_act nt (sp_fr nt N) a3))
def u_sc (nt : sp_NT) (D : Nat → Int32) (a2 a3 : Int32) : Bool × sp_SS := sp_sc nt 40 a3 (uFo nt (sp_chain nt 4001 a2) (u_s0 D))
/-- the answer, and how the member is written -/
def u_ans (nt : sp_NT) (N M : Nat) (D : Nat → Int32) (a1 a2 a3 : Int32) (o : Option Bool) : Int32 × Option Bool :=
  bif u_good nt N a1 a2 a3 then (bif (u_sc nt D a2 a3).1 then (bif sp_lf nt a1 40 a3 0 0 then (if M = 40 ∨ 255 < uPls nt (sp_chain nt 4001 a2) then (-4, none) else match o with
    | none => (-4, none)
    | some w => bif g_al (wW nt a1 a2 a3) then (-5, none) else (nI M, some w)) else (-3, none)) else (-2, none)) else (-1, none)
def u_D (nt : sp_NT) (N : Nat) (D : Nat → Int32) (a1 a2 a3 : Int32) : Nat → Int32 := bif u_good nt N a1 a2 a3 then (u_sc nt D a2 a3).2.2.2 else D
/-- scoping keeps what telling and forgetting keep -/
theorem sp_pop_P {P : sp_SS → Prop} (hp : ∀ s, P s → P (sp_pop1 s)) : ∀ (k : Nat) (s : sp_SS), P s → P (sp_pop k s) := by
  intro k
  induction k with
  | zero => intro s h; exact h
  | succ k ih => intro s h; exact ih _ (hp s h)
theorem sp_sc_P {nt : sp_NT} {P : sp_SS → Prop} (hf : ∀ s v, P s → P (sp_fo s v)) (hp : ∀ s, P s → P (sp_pop1 s)) : ∀ (f : Nat) (n : Int32) (s : sp_SS), P s → P (sp_sc nt f n s).2 := by
  intro f
  induction f with
  | zero => intro n s h; exact h
  | succ f ih =>
    intro n s h
    rw [sp_sc_s]
    have th : ∀ {r : Bool × sp_SS} {g : sp_SS → Bool × sp_SS}, P r.2 → (∀ s, P s → P (g s).2) → P (sp_th r g).2 := fun {r g} h1 h2 => by
      unfold sp_th
      cases r.1
      · exact h1
      · exact h2 _ h1
    have al : ∀ {c : Nat} {r : Bool × sp_SS}, P r.2 → P (sp_al c r).2 := fun {c r} h1 => sp_pop_P hp _ _ h1
    have opt : ∀ {b : Int32} {s : sp_SS}, P s → P ((if b = -1 then (true, s) else sp_sc nt f b s) : Bool × sp_SS).2 := fun {b s} h1 => by
      by_cases e : b = -1
      · rw [if_pos e]; exact h1
      · rw [if_neg e]; exact ih _ _ h1
    have ite : ∀ {c : Prop} [Decidable c] {x y : Bool × sp_SS}, P x.2 → P y.2 → P (if c then x else y).2 := fun {c _ x y} h1 h2 => by
      by_cases e : c
      · rw [if_pos e]; exact h1
      · rw [if_neg e]; exact h2
    unfold sp_sb
    refine ite h (ite h (ite (th h (fun s q => ih _ _ q)) (ite (ih _ _ h) (ite (opt h) (ite (ih _ _ h) (ite (th (ih _ _ h) (fun s q => hf _ _ q)) (ite (th (ih _ _ h) (fun s q => ih _ _ q)) (ite (al (ih _ _ h)) (ite (th (ih _ _ h) (fun s q => al (ih _ _ q))) (ite (th (al (ih _ _ h)) (fun s q => al (ih _ _ q))) (ite (th (al (ih _ _ h)) (fun s q => ih _ _ q)) (ite (opt h) (ite (th (ih _ _ h) (fun s q => opt q)) (ite (al (ih _ _ h)) (ite (al (ih _ _ (hf _ _ h))) (th (ih _ _ h) (fun s q => opt q)))))))))))))))))
/-- who is in force was told -/
def u_I (s : sp_SS) : Prop := ∀ v, s.2.1 v = true → ∃ j, j < s.1 ∧ (s.2.2 j).toNatClampNeg = v
theorem u_I.fo {s : sp_SS} (h : u_I s) (v : Int32) : u_I (sp_fo s v) := fun w hw => by
  have hw : (if w = v.toNatClampNeg then true else s.2.1 w) = true := hw
  by_cases e : w = v.toNatClampNeg
  · exact ⟨s.1, Nat.lt_succ_self _, by show (if s.1 = s.1 then v else s.2.2 s.1).toNatClampNeg = w; rw [if_pos rfl, e]⟩
  · rw [if_neg e] at hw
    obtain ⟨j, h1, h2⟩ := h w hw
    exact ⟨j, Nat.lt_succ_of_lt h1, by show (if j = s.1 then v else s.2.2 j).toNatClampNeg = w; rw [if_neg (by omega)]; exact h2⟩
theorem u_I.pop1 {s : sp_SS} (h : u_I s) : u_I (sp_pop1 s) := fun w hw => by
  have hw : (if w = (s.2.2 (s.1 - 1)).toNatClampNeg then false else s.2.1 w) = true := hw
  by_cases e : w = (s.2.2 (s.1 - 1)).toNatClampNeg
  · rw [if_pos e] at hw; cases hw
  · rw [if_neg e] at hw
    obtain ⟨j, h1, h2⟩ := h w hw
    refine ⟨j, ?_, h2⟩
    show j < s.1 - 1
    have : j ≠ s.1 - 1 := fun q => e (by rw [← q]; exact h2.symm)
    omega
theorem u_I.sc {nt : sp_NT} {s : sp_SS} (h : u_I s) (f : Nat) (n : Int32) : u_I (sp_sc nt f n s).2 := sp_sc_P (P := u_I) (fun _ v q => q.fo v) (fun _ q => q.pop1) f n s h
theorem u_I.clear {s : sp_SS} (h : u_I s) : sp_pop s.1 s = (0, fun _ => false, s.2.2) := by
  have p := sp_pop_P (P := u_I) (fun _ q => q.pop1) s.1 s h
  obtain ⟨e1, e2⟩ := sp_pop_1 s.1 s
  rw [Nat.sub_self] at e1
  have e3 : (sp_pop s.1 s).2.1 = fun _ => false := funext fun v => by
    cases q : (sp_pop s.1 s).2.1 v
    · rfl
    · obtain ⟨j, hj, -⟩ := p v q; rw [e1] at hj; exact absurd hj (Nat.not_lt_zero _)
  exact Prod.ext e1 (Prod.ext e3 e2)
section
variable {nt : sp_NT} {N M : Nat} {res par : Nat → Int32} {D : Nat → Int32} {a1 a2 a3 : Int32} {T : Nat → List Nat}
theorem uFo_1 (nt : sp_NT) : ∀ (l : List Int32) (s : sp_SS), (uFo nt l s).1 = s.1 + l.length := by
  intro l
  induction l with
  | nil => intro s; rfl
  | cons p r ih => intro s; show (uFo nt r (sp_fo s (nA nt p))).1 = _; rw [ih]; show s.1 + 1 + r.length = _; simp only [List.length_cons]; omega
theorem uFo_I (nt : sp_NT) : ∀ (l : List Int32) (s : sp_SS), u_I s → u_I (uFo nt l s) := by
  intro l
  induction l with
  | nil => intro s h; exact h
  | cons p r ih => intro s h; exact ih _ (h.fo _)
theorem uFo_m (nt : sp_NT) : ∀ (l : List Int32) (s : sp_SS) (v : Nat), (uFo nt l s).2.1 v = true → s.2.1 v = true ∨ ∃ p, p ∈ l ∧ v = (nA nt p).toNatClampNeg := by
  intro l
  induction l with
  | nil => intro s v h; exact Or.inl h
  | cons p r ih =>
    intro s v h
    rcases ih _ v h with q | ⟨x, hx, e⟩
    · have q : (if v = (nA nt p).toNatClampNeg then true else s.2.1 v) = true := q
      by_cases e : v = (nA nt p).toNatClampNeg
      · exact Or.inr ⟨p, List.mem_cons_self .., e⟩
      · rw [if_neg e] at q; exact Or.inl q
    · exact Or.inr ⟨x, List.mem_cons_of_mem _ hx, e⟩
theorem uFo_S (hN : N ≤ 64) : ∀ (l : List Int32) (q : Int32) (s : sp_SS), sp_Ch nt N 86 l q → sp_SI N s → s.1 + l.length ≤ 4000 → sp_SI N (uFo nt l s) := by
  intro l
  induction l with
  | nil => intro q s _ h _; exact h
  | cons p r ih =>
    intro q s hl h hn
    obtain ⟨rfl, e2, e3, e4, e5⟩ := hl
    simp only [List.length_cons] at hn
    exact ih _ _ e5 (h.fo (by omega) e4) (by show s.1 + 1 + _ ≤ _; omega)
theorem u_s0_S (D : Nat → Int32) : sp_SI N (u_s0 D) := ⟨Nat.zero_le _, fun j h => absurd h (Nat.not_lt_zero _)⟩
theorem u_s0_I (D : Nat → Int32) : u_I (u_s0 D) := fun v h => by cases h
/-- what a good call is about -/
theorem u_good_un (h : u_good nt N a1 a2 a3 = true) : 0 ≤ a1 ∧ a1 ≤ 8 ∧ (a2 = -1 ∨ sp_fk nt (sp_fr nt N) a2 86 = true) ∧ sp_act nt (sp_fr nt N) a3 = true := by
  unfold u_good at h
  simpa using h
theorem uPar_k (hT : wTb nt N M res par) : ∀ (l : List Int32) (q : Int32), sp_Ch nt N 86 l q → ∀ p, p ∈ l → nK nt (nA nt p) = 5 := by
  intro l
  induction l with
  | nil => intro q _ p hp; cases hp
  | cons c r ih =>
    intro q h p hp
    obtain ⟨rfl, f2, f3, f4, f5⟩ := h
    rcases List.mem_cons.mp hp with z | z
    · rw [z]
      obtain ⟨x, -⟩ := wE_param (f := 4000) hT f2 (by have := (hT.d f2).2; omega) f3
      exact x.2
    · exact ih _ f5 p z
theorem u_par (hT : wTb nt N M res par) (hN : N ≤ 64) (h : u_good nt N a1 a2 a3 = true) : ∃ l, sp_Ch nt N 86 l a2 ∧ sp_chain nt 4001 a2 = l ∧ l.length ≤ 64 ∧ ∀ p, p ∈ l → nK nt (nA nt p) = 5 := by
  rcases (u_good_un h).2.2.1 with e | e
  · exact ⟨[], e, by rw [e, sp_chain_no], by simp, fun p hp => by cases hp⟩
  · unfold sp_fk sp_fr at e
    simp only [Bool.and_eq_true, decide_eq_true_eq] at e
    obtain ⟨⟨e1, -⟩, e2⟩ := e
    obtain ⟨l, l1, l2⟩ := hT.1.chain hT.2.2 _ (sp_nd_lt hT.2.2 e1) (Or.inr (Or.inr (Or.inr e2)))
    have hn := sp_nd_lt hT.2.2 e1
    rw [← sp_nd_eq hT.2.2 e1, e2] at l1
    exact ⟨l, l1, sp_Ch_chain l _ 4001 l1 (by omega), by omega, uPar_k hT l a2 l1⟩
end
section
variable {nt : sp_NT} {N M : Nat} {res par : Nat → Int32} {D : Nat → Int32} {a1 a2 a3 : Int32} {T : Nat → List Nat}
theorem u_body (hT : wTb nt N M res par) (h : u_good nt N a1 a2 a3 = true) : wA nt N 40 a3 ∧ nt 5 a3.toNatClampNeg = 0 := by
  have := (u_good_un h).2.2.2
  unfold sp_act sp_fr at this
  simp only [Bool.and_eq_true, decide_eq_true_eq] at this
  exact ⟨⟨this.1.1, this.2, (hT.d this.1.1).2⟩, this.1.2⟩
/-- the jumps of good code go to labels that are gone to -/
theorem oI_go {ret : Nat} {E : wF} {G : wG} (h : oI nt N M res par ret E G) (ho : g_ov G = false) (w : Bool) (q : Nat × Nat × Nat × Bool) (hq : q ∈ w_fxs w w_z (g_it G)) : g_goes G q.2.2.1 = true := by
  obtain ⟨-, -, i, F, hm, hl⟩ := w_qin_all w (g_it G) q hq
  obtain ⟨k, hk⟩ := List.getElem?_of_mem (List.mem_reverse.mpr hm)
  obtain ⟨G', t, -, t2, -⟩ := (h.2.2 ho).1 k i F hk
  rcases hl with ⟨hl, e⟩ | ⟨x, hx, e⟩
  · obtain ⟨l, e2⟩ := t.2.2.2.2.2.2.1 hl
    have : (0, l) ∈ i.2.2.2.2 := by rw [e2]; exact List.mem_cons_self ..
    have e3 : w_l0 i = l := by unfold w_l0; rw [e2]
    rw [e, e3]; exact (t2 _ this).2.1
  · rw [e]; exact (t2 x hx).2.1
/-- a member that is judged good is written well -/
theorem u_okG (hT : wTb nt N M res par) (hN : N ≤ 64) (t : oTs nt N T) (hg : u_good nt N a1 a2 a3 = true) (hs : (u_sc nt D a2 a3).1 = true) (hl : sp_lf nt a1 40 a3 0 0 = true) :
    ∃ L, ¬ 12 ∈ L ∧ L = g_L (w_par nt (sp_chain nt 4001 a2) w_g0) ∧ oI nt N M res par a1.toNatClampNeg (L, []) (wW nt a1 a2 a3) := by
  obtain ⟨l, l1, l2, l3, l4⟩ := u_par hT hN hg
  obtain ⟨b1, b2⟩ := u_body hT hg
  have fp : a2 = -1 ∨ (sp_nd N a2 = true ∧ nt 5 a2.toNatClampNeg = 0 ∧ nt 0 a2.toNatClampNeg = 86) := by
    refine (u_good_un hg).2.2.1.imp id (fun q => ?_)
    unfold sp_fk sp_fr at q
    simp only [Bool.and_eq_true, decide_eq_true_eq] at q
    exact ⟨q.1.1, q.1.2, q.2⟩
  have pm := oPa_mem hT t.1 l a2 l1
  have dj : ¬ a2 = -1 → ∀ x, x ∈ oT T a2 → ¬ x ∈ oT T a3 := fun q => by
    obtain ⟨c1, c2, c3⟩ := fp.resolve_left q
    refine t.2 _ _ (sp_nd_lt hT.2.2 c1) (sp_nd_lt hT.2.2 b1.1) (fun e => ?_) c2 b2
    have : sp_Sk (nt 0 a3.toNatClampNeg) = true := b1.2.1
    rw [← e, c3] at this
    exact absurd this (by decide)
  have ln : l = [] ∨ ¬ a2 = -1 := by
    cases l with
    | nil => exact Or.inl rfl
    | cons p r =>
      have e : a2 = p := l1.1
      exact Or.inr (by rw [e]; exact nd_n1 l1.2.1)
  have lb := t.1.len hT.2.2 b1.1
  have sz : 2 * l.length + 2 * (oT T a3).length ≤ 240 := by
    rcases ln with e | e
    · rw [e]; simp only [List.length_nil]; omega
    · have := pm.2 e
      have := t.1.len hT.2.2 (fp.resolve_left e).1
      omega
  have key := oW_all (ret := a1.toNatClampNeg) (rs := a1) (T := T) hN hT t.1 rfl (u_good_un hg).1 l1 l2 l4 b1 hs hl (fun v hv => ?_) (fun p hp hx => ?_) sz
  · rw [l2]; exact key
  · rcases uFo_m nt _ _ v hv with q | q
    · cases q
    · rw [l2] at q; exact q
  · rcases ln with e | e
    · rw [e] at hp; cases hp
    · exact dj e _ (pm.1 p hp) hx
end
