/-! CodeWriter: member, whole -/
theorem sp_mk_ag (nt : sp_NT) (a b : Int32) (N : Nat) : sp_ag nt (sp_mk nt a b) N := fun j i hj _ => by
  show (if j = 5 ∧ _ then (1 : Int32) else nt j i) = nt j i
  rw [if_neg (fun q => by omega)]
section
variable {nt nt' : sp_NT} {N M M' ret : Nat} {res par res' par' bod D : Nat → Int32} {G : uG} {g : wG} {x y z : mj_X} {T : Nat → List Nat}
theorem wTb.mem (hT : wTb nt N M res par) (hN : N ≤ 64) (hM : M + 1 ≤ 40) {a1 a2 a3 : Int32} (hg : u_good nt N a1 a2 a3 = true) : wTb (sp_mk nt a2 a3) N (M + 1) (upd res M a1) (upd par M a2) := by
  obtain ⟨g1, g2, g3, -⟩ := u_good_un hg
  refine ⟨(hT.1.mem (by omega) (fun m hm => ⟨pk_un (by omega), pk_un (by omega)⟩) ?_ ?_).ag (by omega) (by omega) (sp_mk_ag nt a2 a3 N), by omega, hT.2.2⟩
  · rw [pk_us]
    rcases g3 with e | e
    · exact Or.inl e
    · refine Or.inr ⟨sp_fk_nd e, ?_⟩
      unfold sp_fk at e
      simp only [Bool.and_eq_true, decide_eq_true_eq] at e
      exact e.2
  · rw [pk_us]; exact ⟨g1, g2⟩
theorem oAr_ag (h : sp_ag nt nt' N) (hN : N ≤ 4000) : ∀ (l : List Int32) (p : Int32), sp_Ch nt N 86 l p → oAr nt' l = oAr nt l := by
  intro l
  induction l with
  | nil => intro p _; rfl
  | cons q r ih =>
    intro p hp
    obtain ⟨rfl, h1, h2, h3, h4⟩ := hp
    show oAr nt' r ++ w_tl (nT nt' (nA nt' p)) = oAr nt r ++ w_tl (nT nt (nA nt p))
    have e1 : nA nt' p = nA nt p := h 1 _ (by decide) (sp_nd_lt hN h1)
    have e3 : nT nt' (nA nt p) = nT nt (nA nt p) := congrArg Int32.toNatClampNeg (h 3 _ (by decide) (sp_nd_lt hN h3))
    rw [ih _ h4, e1, e3]
theorem oAr_par (hT : wTb nt N M res par) (h : sp_ag nt nt' N) {m : Nat} (hm : m < M) : oAr nt' (sp_chain nt' 4001 (par m)) = oAr nt (sp_chain nt 4001 (par m)) := by
  obtain ⟨l, l1, l2⟩ := hT.chain (K := 86) (p := par m) (by simp) (hT.1.2 m hm).1
  have l3 := (sp_Ch_ag hT.2.2 h l _ l1).1
  have len : l.length < 4001 := by
    rcases (hT.1.2 m hm).1 with e | ⟨e1, e2⟩
    · rw [e] at l1
      cases l with
      | nil => simp
      | cons a r => exact absurd l1.1.symm (nd_n1 l1.2.1)
    · have hlt := sp_nd_lt hT.2.2 e1
      obtain ⟨l', q1, q2⟩ := hT.1.chain hT.2.2 (par m).toNatClampNeg hlt (by rw [e2]; decide)
      rw [e2, ← sp_nd_eq hT.2.2 e1] at q1
      have := hT.2.2
      have := sp_Ch_chain l' _ 4001 q1 (by omega)
      rw [l2] at this; rw [this]; omega
  rw [sp_Ch_chain l _ 4001 l3 len, l2, oAr_ag h hT.2.2 l _ l1]
theorem cD.ag (hD : cD nt M res par ret g) (hM : M ≤ M') (hre : ∀ m, m < M → res' m = res m ∧ oAr nt' (sp_chain nt' 4001 (par' m)) = oAr nt (sp_chain nt 4001 (par m))) : cD nt' M' res' par' ret g := by
  refine ⟨fun k i F hk => ?_, hD.2⟩
  obtain ⟨K, ⟨t1, t2, t3, t4, t5, t6⟩, r⟩ := hD.1 k i F hk
  refine ⟨K, ⟨t1, t2, t3, fun a b => ?_, t5, t6⟩, r⟩
  obtain ⟨m, r', m1, m2, m3, m4⟩ := t4 a b
  exact ⟨m, r', by omega, m2, by rw [(hre m m1).2]; exact m3, by rw [(hre m m1).1]; exact m4⟩
theorem cK_S {cf pf rf lf c : Nat} (hM : M ≤ c) {k j : Nat} (h : cK cf pf rf lf k j = false) (h2 : k ≠ 12 ∧ k ≠ 14 ∧ k ≠ 15 ∧ k ≠ 16 ∧ k ≠ 17 ∧ k ≠ 21 ∧ k ≠ 23) (h0 : k ≠ 0) : cS M cf k j = false := by
  unfold cK at h
  unfold cS
  split
  all_goals first | omega | rfl | exact h | (exfalso; have h : Nat.ble 25 _ = false := h; simp at h)
/-- the writer's start -/
theorem cwU.yB {c : Nat} {w : Bool} (hU : cwU nt N M res par bod D G c x) (hB : uBd M G) (hM : M ≤ 39) (hc : c ≤ 64) (b : Nat) (hb : b ≤ 100000) (x48 : ∃ t, x.1 0 48 = nI t ∧ t ≤ 140000 * c + b) (x66 : ∃ t, x.1 0 66 = nI t ∧ t ≤ 140000 * c + b) (h31 : x.1 0 31 = sp_b w) : yB nt N (M, w, uCf G M, uPf G M, uRf G M, uLf G M, 140000 * c + b) (140000 * c + b) x := by
  obtain ⟨u1, u2, u3, u4, u5, u6, u7, u8, u9⟩ := hU
  obtain ⟨f12, f17, f21, f23⟩ := u8 M (Nat.le_refl _)
  obtain ⟨d1, d2, d3, d4⟩ := hB
  exact ⟨⟨u1, ⟨u2.1, u2.2.1, f12, d1⟩, f17, ⟨_, f21, Nat.le_refl _⟩, f23, by show uPf G M ≤ 7000; omega, by show uPf G M ≤ 8000; omega, d4, by show 140000 * c + b ≤ 1000000000; omega, fun v p hv hp => by cases hp⟩, hM, f21, d3, h31, x48, x66, by omega⟩
end
