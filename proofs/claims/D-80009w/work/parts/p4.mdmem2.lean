/-! CodeWriterModel: member -/
theorem u_way_ex (cf rf lf : Nat) (G : wG) : ∃ o, u_way cf rf lf G o := by
  rcases Classical.em (u_over false cf rf lf G) with h | h
  · exact ⟨none, Or.inl h⟩
  · cases f : w_far false G
    · exact ⟨some false, h, f⟩
    · rcases Classical.em (u_over true cf rf lf G) with h' | h'
      · exact ⟨none, Or.inr ⟨f, h'⟩⟩
      · exact ⟨some true, h', f⟩
theorem zw3_U {ba pf rf lf : Nat} {x y : mj_X} (f : zfr (zw3 ba pf rf lf) x y) : zfr zU x y := f.mono' (fun k j h => by
  unfold zU at h
  by_cases k0 : k = 0
  · subst k0
    rw [if_pos rfl] at h
    have hj : 74 < j := Nat.lt_of_not_le (fun q => by rw [Nat.ble_eq.mpr q] at h; cases h)
    unfold zw3 zw2 zw
    simp only [List.elem_eq_mem, List.mem_cons, List.not_mem_nil, or_false, Bool.or_eq_false_iff, decide_eq_false_iff_not]
    omega
  · rw [if_neg k0] at h
    have hk : 75 < k := Nat.lt_of_not_le (fun q => by rw [Nat.ble_eq.mpr q] at h; cases h)
    unfold zw3 zw2 zw
    simp only [Bool.or_eq_false_iff]
    refine ⟨⟨?_, ?_⟩, ?_⟩ <;> first | trivial | (split <;> first | rfl | omega))
theorem oTs.wt {nt : sp_NT} {N : Nat} {T : Nat → List Nat} (t : oTs nt N T) : sp_WT nt N (fun n => (T n).length) := fun n hn => by
  have := (t.1 n hn).1
  show (T n).length = _
  rw [this]
  simp only [List.length_cons, List.length_append]
  cases sp_pa (nt 0 n) (nt 1 n) <;> cases sp_pb (nt 0 n) (nt 2 n) <;> simp only [cond_true, cond_false, List.length_nil] <;> omega
section
variable {nt : sp_NT} {N M : Nat} {res par bod D : Nat → Int32} {G : uG} {x y z : mj_X} {T : Nat → List Nat}
theorem m_mem56 {d : Nat} (hd : 2 ≤ d) (hT : wTb nt N M res par) {b : mj_X} (hb : md_T b nt N) {a1 a2 a3 : Int32} : ∀ (l : List Int32) (q : Int32) (s : sp_SS) (pl : Nat), sp_Ch nt N 86 l q → s.1 + l.length ≤ 4000 → pl + 2 * l.length ≤ 100000 →
    rX1_member d (56, [some (.ref 0), some (.int a1), some (.int a2), some (.int a3), some (.int (nI pl)), some (.int q), none, none], [], md_sc b s) = rX1_member d (56, [some (.ref 0), some (.int a1), some (.int a2), some (.int a3), some (.int (nI (pl + uPls nt l))), some (.int (-1 : Int32)), none, none], [], md_sc b (uFo nt l s)) := by
  intro l
  induction l with
  | nil => intro q s pl h _ _; rw [show q = -1 from h]; rfl
  | cons p r ih =>
    intro q s pl h hs hp
    obtain ⟨rfl, e2, e3, e4, e5⟩ := h
    simp only [List.length_cons] at hs hp
    have e4 : sp_nd N (nA nt q) = true := e4
    have t8 := (hT.t e4).1
    have g1 : ∀ r : mj_R, mj_g q 4000 r = r := fun r => mj_g_k (sp_nd_in hT.2.2 e2 (Nat.le_refl _)) r
    have g2 : ∀ r : mj_R, mj_g (nA nt q) 4000 r = r := fun r => mj_g_k (sp_nd_in hT.2.2 e4 (Nat.le_refl _)) r
    have tl := w_tl_2 (nT nt (nA nt q))
    have T1 := md_sc_T hb s
    have T2 := md_sc_T hb (sp_fo s (nA nt q))
    rw [bX1_member_56, if_neg (nd_n1 e2), g1, show (md_sc b s).1 3 q.toNatClampNeg = nA nt q by rw [T1.2.2.2.1], sX1_declare (by omega) hT.2.2 b (by omega) e4, mj_rV_k, g1, show (md_sc b (sp_fo s (nA nt q))).1 3 q.toNatClampNeg = nA nt q by rw [T2.2.2.2.1], g2, show (md_sc b (sp_fo s (nA nt q))).1 5 (nA nt q).toNatClampNeg = nI (nT nt (nA nt q)) by rw [T2.2.2.2.2.2.1, hT.ty e4], sX1_placesOf (by omega), mj_rI_k, g1, show (md_sc b (sp_fo s (nA nt q))).1 4 q.toNatClampNeg = nB nt q by rw [T2.2.2.2.2.1], sp_pl_n t8, nI_add]
    rw [ih (nB nt q) (sp_fo s (nA nt q)) (pl + (w_tl (nT nt (nA nt q))).length) e5 (by show s.1 + 1 + r.length ≤ 4000; omega) (by omega), Nat.add_assoc]
    rfl
/-- what a member that is written leaves -/
theorem zO.mdE {w : Bool} {ba pf rf lf m : Nat} {g : wG} (h : zO nt N M w ba pf rf lf x g) (h0 : ∃ k : Int32, x.1 0 34 = k) (h13 : z.1 13 m = x.1 0 39) (h14 : z.1 14 m = x.1 0 37) (h15 : z.1 15 m = x.1 0 33) (ha : ∀ k, 19 ≤ k → k ≤ 25 → z.1 k = x.1 k) : mdE (g, w) ba pf rf lf m z ∧ x.1 0 32 = nI (uLen (g, w)) ∧ x.1 0 42 = nI (g_po g).length ∧ x.1 0 44 = nI (g_rg g).length ∧ x.1 0 45 = nI (g_ln g).length ∧ (g_po g).length ≤ 100 ∧ g_ov g = false ∧ rf + (g_rg g).length ≤ 20000 ∧ lf + (g_ln g).length ≤ 20000 := by
  obtain ⟨c, lm, lv, x0, A, hR, h00, e, hA⟩ := h
  have ov := hR.ov0 h00
  obtain ⟨⟨-, -, q⟩, r39, -, r1, r2, r3, r4⟩ := hR
  rcases q with ⟨n3, z34, ⟨b1, b2, b3, b4, b5⟩, zf, zl, ⟨p1, p2, p3, p4⟩, ⟨l1, l2, l3, l4, l5, l6⟩, ⟨s1, s2, s3, s4⟩⟩ | ⟨q, -⟩
  · have X : ∀ k, k ≠ 19 → x.1 k = x0.1 k := fun k hk => by rw [e]; exact set19_n A x0 hk
    have X19 : x.1 19 = A := by rw [e]; show (if (19 : Nat) = 19 then A else x0.1 19) = A; exact if_pos rfl
    refine ⟨⟨⟨b4, s4⟩, ?_, ?_, ?_, ?_, ?_, ?_, ?_⟩, ?_, ?_, ?_, ?_, p3, ov, r2, l4⟩
    · rw [ha 19 (by decide) (by decide), X19]; exact hA
    · rw [h13, X 0 (by decide)]; exact r39
    · rw [h14, X 0 (by decide)]; exact s3
    · rw [h15, X 0 (by decide)]; exact b2
    · rw [ha 20 (by decide) (by decide), ha 21 (by decide) (by decide), ha 22 (by decide) (by decide), ha 23 (by decide) (by decide), X 20 (by decide), X 21 (by decide), X 22 (by decide), X 23 (by decide)]; exact p4
    · rw [ha 24 (by decide) (by decide), X 24 (by decide)]; exact r4
    · rw [ha 25 (by decide) (by decide), X 25 (by decide)]; exact l6
    · rw [X 0 (by decide)]; exact b3
    · rw [X 0 (by decide)]; exact p1
    · rw [X 0 (by decide)]; exact r1
    · rw [X 0 (by decide)]; exact l1
  · exact absurd h00 (by rw [q.1]; decide)
/-- the member that is added -/
theorem mdU.add (hU : mdU nt N M res par bod D G x) {D' : Nat → Int32} {w : Bool} {g : wG} {a1 a2 a3 : Int32} (hM : M ≤ 39) (h3 : sp_nd N a3 = true) (h2 : ¬ a2 = -1 → sp_nd N a2 = true)
    (hBd : uBd M G) (hO : mdE (g, w) (uCf G M) (uPf G M) (uRf G M) (uLf G M) M z) (hpo : (g_po g).length ≤ 100) (hov : ¬ u_over w (uCf G M) (uRf G M) (uLf G M) g) (hcx : g_cx g = [])
    (fr : ∀ k, 1 ≤ k → k ≤ 6 → z.1 k = x.1 k) (z0 : z.1 0 0 = x.1 0 0) (h7 : z.1 7 = fun i => if i = a3.toNatClampNeg ∨ (¬ a2 = -1 ∧ i = a2.toNatClampNeg) then 1 else x.1 7 i) (z7 : z.1 0 7 = nI (M + 1))
    (z9 : z.1 9 = upd (x.1 9) M a1) (z10 : z.1 10 = upd (x.1 10) M a2) (z11 : z.1 11 = upd (x.1 11) M a3)
    (z12 : ∀ m, m ≤ M → z.1 12 m = x.1 12 m ∧ z.1 16 m = x.1 16 m ∧ z.1 17 m = x.1 17 m ∧ z.1 18 m = x.1 18 m) (z12' : z.1 12 (M + 1) = nI (uCf G M + uLen (g, w)) ∧ z.1 16 (M + 1) = nI (uPf G M + (g_po g).length) ∧ z.1 17 (M + 1) = nI (uRf G M + (g_rg g).length) ∧ z.1 18 (M + 1) = nI (uLf G M + (g_ln g).length))
    (z13 : ∀ m, m < M → z.1 13 m = x.1 13 m ∧ z.1 14 m = x.1 14 m ∧ z.1 15 m = x.1 15 m) (z26 : ∀ j, z.1 26 j = 0) (z27 : z.1 27 = D') (z74 : ∀ k, ∃ m, m < 300000 ∧ z.1 74 k = nI m)
    (f19 : ∀ j, j < uCf G M → z.1 19 j = x.1 19 j) (fp : ∀ k j, 20 ≤ k → k ≤ 23 → j < uPf G M → z.1 k j = x.1 k j) (f24 : ∀ j, j < 4 * uRf G M → z.1 24 j = x.1 24 j) (f25 : ∀ j, j < 2 * uLf G M → z.1 25 j = x.1 25 j) :
    mdU (sp_mk nt a2 a3) N (M + 1) (upd res M a1) (upd par M a2) (upd bod M a3) D' (uAdd G M (g, w)) z ∧ uBd (M + 1) (uAdd G M (g, w)) := by
  obtain ⟨⟨t1, t2, t3, t4, t5, t6, t7, t8⟩, ⟨m1, m2, m3, m4⟩, hb, h26, h27, h74, hf, hE⟩ := hU
  have G0 : ∀ m, m < M → uAdd G M (g, w) m = G m := fun m hm => if_neg (by omega)
  have GM : uAdd G M (g, w) M = (g, w) := if_pos rfl
  have c0 : ∀ m, m ≤ M → uCf (uAdd G M (g, w)) m = uCf G m ∧ uPf (uAdd G M (g, w)) m = uPf G m ∧ uRf (uAdd G M (g, w)) m = uRf G m ∧ uLf (uAdd G M (g, w)) m = uLf G m := fun m hm =>
    ⟨uS_cg m (fun k hk => by rw [G0 k (by omega)]), uS_cg m (fun k hk => by rw [G0 k (by omega)]), uS_cg m (fun k hk => by rw [G0 k (by omega)]), uS_cg m (fun k hk => by rw [G0 k (by omega)])⟩
  obtain ⟨cM1, cM2, cM3, cM4⟩ := c0 M (Nat.le_refl _)
  have s1 : uCf (uAdd G M (g, w)) (M + 1) = uCf G M + uLen (g, w) := by show uCf (uAdd G M (g, w)) M + uLen (uAdd G M (g, w) M) = _; rw [cM1, GM]
  have s2 : uPf (uAdd G M (g, w)) (M + 1) = uPf G M + (g_po g).length := by show uPf (uAdd G M (g, w)) M + (g_po (uAdd G M (g, w) M).1).length = _; rw [cM2, GM]
  have s3 : uRf (uAdd G M (g, w)) (M + 1) = uRf G M + (g_rg g).length := by show uRf (uAdd G M (g, w)) M + (g_rg (uAdd G M (g, w) M).1).length = _; rw [cM3, GM]
  have s4 : uLf (uAdd G M (g, w)) (M + 1) = uLf G M + (g_ln g).length := by show uLf (uAdd G M (g, w)) M + (g_ln (uAdd G M (g, w) M).1).length = _; rw [cM4, GM]
  refine ⟨⟨⟨by rw [z0]; exact t1, t2, ?_, ?_, ?_, ?_, ?_, ?_⟩, ⟨z7, by omega, by rw [z9, m3], by rw [z10, m4]⟩, by rw [z11, hb], z26, z27, z74, fun m hm => ?_, fun m hm => ?_⟩, ?_⟩
  · rw [fr 2 (by decide) (by decide), t3]; rfl
  · rw [fr 3 (by decide) (by decide), t4]; rfl
  · rw [fr 4 (by decide) (by decide), t5]; rfl
  · rw [fr 5 (by decide) (by decide), t6]; rfl
  · rw [fr 6 (by decide) (by decide), t7]; rfl
  · rw [h7, t8]
    funext i
    show _ = (if (5 : Nat) = 5 ∧ _ then (1 : Int32) else nt 5 i)
    by_cases q : i = a3.toNatClampNeg ∨ (¬ a2 = -1 ∧ i = a2.toNatClampNeg)
    · rw [if_pos q, if_pos ⟨rfl, q⟩]
    · rw [if_neg q, if_neg (fun r => q r.2)]
  · by_cases q : m = M + 1
    · rw [q, s1, s2, s3, s4]; exact z12'
    · have hm' : m ≤ M := by omega
      obtain ⟨c1, c2, c3, c4⟩ := c0 m hm'
      obtain ⟨q1, q2, q3, q4⟩ := z12 m hm'
      rw [c1, c2, c3, c4, q1, q2, q3, q4]; exact hf m hm'
  · by_cases q : m = M
    · rw [q, GM, cM1, cM2, cM3, cM4]; exact hO
    · have hm' : m < M := by omega
      obtain ⟨c1, c2, c3, c4⟩ := c0 m (by omega)
      rw [G0 m hm', c1, c2, c3, c4]
      have l1 := uS_le (fun m => uLen (G m)) (show m + 1 ≤ M by omega)
      have l2 := uS_le (fun m => (g_po (G m).1).length) (show m + 1 ≤ M by omega)
      have l3 := uS_le (fun m => (g_rg (G m).1).length) (show m + 1 ≤ M by omega)
      have l4 := uS_le (fun m => (g_ln (G m).1).length) (show m + 1 ≤ M by omega)
      have l1 : uCf G m + uLen (G m) ≤ uCf G M := l1
      have l2 : uPf G m + (g_po (G m).1).length ≤ uPf G M := l2
      have l3 : uRf G m + (g_rg (G m).1).length ≤ uRf G M := l3
      have l4 : uLf G m + (g_ln (G m).1).length ≤ uLf G M := l4
      exact (hE m hm').fr (fun j hj => f19 j (by omega)) (fun k j h1 h2 hj => fp k j h1 h2 (by omega)) (fun j hj => f24 j (by omega)) (fun j hj => f25 j (by omega)) (z13 m hm')
  · obtain ⟨d1, d2, d3, d4⟩ := hBd
    have n1 : ¬ 90000 < uCf G M + uLen (g, w) := fun q => hov (Or.inr q)
    have n3 : ¬ 20000 < uRf G M + (g_rg g).length := fun q => hov (Or.inl (Or.inr (Or.inr (Or.inl (by unfold w_ph; rw [hcx]; exact q)))))
    have n4 : ¬ 20000 < uLf G M + (g_ln g).length := fun q => hov (Or.inl (Or.inr (Or.inr (Or.inr q))))
    exact ⟨by rw [s1]; omega, by rw [s2]; omega, by rw [s3]; omega, by rw [s4]; omega⟩
end
