/-! every value and condition, all well -/
section
variable {nt : sp_NT} {N M : Nat} {res par : Nat → Int32} {ret : Nat} {E : wF} {f n : Nat} {s r : List Nat} {g h : wG} {rec : wR}
theorem oU.tr {l : Nat} {F : wF} (u : oU g l F) (le : oLe g h) (e : g_lat h l = g_lat g l) : oU h l F :=
  ⟨Nat.lt_of_lt_of_le u.1 le.2.1, (le.2.2.1 l u.1).1.trans u.2.1, fun j q => le.2.2.2.2.2.2.2 _ _ (u.2.2 j (by rw [← e]; exact q))⟩
theorem oEnt_mem (hT : wTb nt N M res par) {n : Int32} (hn : sp_nd N n = true) : oEn nt n.toNatClampNeg ∈ oEnt nt N := by
  unfold oEnt
  exact List.mem_cons_of_mem _ (List.mem_cons_of_mem _ (List.mem_map.mpr ⟨_, List.mem_range.mpr (sp_nd_lt hT.2.2 hn), rfl⟩))
theorem chain_len (hT : wTb nt N M res par) {K p : Int32} (hK : K = 49 ∨ K = 76 ∨ K = 82 ∨ K = 86) (hp : p = -1 ∨ (sp_nd N p = true ∧ nK nt p = K)) : (sp_chain nt 4001 p).length ≤ N := by
  rcases hp with e | ⟨h1, h2⟩
  · rw [e]; exact Nat.zero_le _
  · have hlt := sp_nd_lt hT.2.2 h1
    obtain ⟨l, l1, l2⟩ := hT.1.chain hT.2.2 _ hlt (by rw [show nt 0 p.toNatClampNeg = K from h2]; exact hK)
    rw [← sp_nd_eq hT.2.2 h1] at l1
    have := hT.2.2
    rw [sp_Ch_chain l p 4001 l1 (by omega)]
    omega
theorem chain_len_d (hT : wTb nt N M res par) : ∀ (c f : Nat) (p : Int32), (p = -1 ∨ (sp_nd N p = true ∧ nD nt p ≤ f ∧ nK nt p = 49)) → (sp_chain nt c p).length + 1 ≤ max f 1 := by
  intro c
  induction c with
  | zero => intro f p _; show 0 + 1 ≤ _; omega
  | succ c ih =>
    intro f p h
    unfold sp_chain
    by_cases e : p = -1
    · rw [if_pos e]; show 0 + 1 ≤ _; omega
    · rw [if_neg e]
      rcases h with h | ⟨h1, h2, h3⟩
      · exact absurd h e
      · have d1 := (hT.d h1).1
        obtain ⟨f, rfl⟩ : ∃ g, f = g + 1 := ⟨f - 1, by omega⟩
        obtain ⟨⟨a1, -⟩, a2⟩ := wE_given hT h1 h2 h3
        have d2 := (hT.d a1.1).1
        have d3 := a1.2.2
        have := ih f (nB nt p) a2
        show (sp_chain nt c (nt 2 p.toNatClampNeg)).length + 1 + 1 ≤ _
        have e2 : nt 2 p.toNatClampNeg = nB nt p := rfl
        rw [e2]; omega
theorem bits_ok {n : Int32} (h : nK nt n = 1 ∨ nK nt n = 3) : w_bits nt n = (w_bits nt n).toInt32.toInt64 := by
  unfold w_bits
  rcases h with e | e
  · rw [if_pos e]; simp
  · rw [if_neg (by rw [e]; decide), if_pos e]; simp
theorem wE_bin2 (h : wTb nt N M res par) {n : Int32} (hn : sp_nd N n = true) (h1 : 15 ≤ nK nt n) (h2 : nK nt n ≤ 20) : nT nt (nA nt n) ≤ 2 := by
  obtain ⟨ho, hT⟩ := h.ok hn
  obtain ⟨j, hj, e⟩ := i_enum (a := 15) (c := 5) h1 h2 rfl rfl
  have hj : j = 0 ∨ j = 1 ∨ j = 2 ∨ j = 3 ∨ j = 4 ∨ j = 5 := by omega
  rcases hj with rfl | rfl | rfl | rfl | rfl | rfl
  · exact i_hi (sp_k15 ho hT e).2.1 rfl
  · exact i_hi (sp_k16 ho hT e).2.1 rfl
  · exact i_hi (sp_k17 ho hT e).2.1 rfl
  · exact i_hi (sp_k18 ho hT e).2.1 rfl
  · exact i_hi (sp_k19 ho hT e).2.1 rfl
  · exact i_hi (sp_k20 ho hT e).2.1 rfl
theorem wE_chg2 (h : wTb nt N M res par) {n : Int32} (hn : sp_nd N n = true) (h1 : 40 ≤ nK nt n) (h2 : nK nt n ≤ 45) : nT nt (nA nt n) ≤ 2 := by
  obtain ⟨ho, hT⟩ := h.ok hn
  obtain ⟨j, hj, e⟩ := i_enum (a := 40) (c := 5) h1 h2 rfl rfl
  have hj : j = 0 ∨ j = 1 ∨ j = 2 ∨ j = 3 ∨ j = 4 ∨ j = 5 := by omega
  rcases hj with rfl | rfl | rfl | rfl | rfl | rfl
  · exact i_hi (sp_k40 ho hT e).2.2.1 rfl
  · exact i_hi (sp_k41 ho hT e).2.2.1 rfl
  · exact i_hi (sp_k42 ho hT e).2.2.1 rfl
  · exact i_hi (sp_k43 ho hT e).2.2.1 rfl
  · exact i_hi (sp_k44 ho hT e).2.2.1 rfl
  · exact i_hi (sp_k45 ho hT e).2.2.1 rfl
theorem i_15 {k : Int32} (h : 15 ≤ k.toNatClampNeg) : 15 ≤ k := by
  have h : 15 ≤ k.toInt.toNat := h
  rw [Int32.le_iff_toInt_le]; show (15 : Int) ≤ _; omega
theorem i_40 {k : Int32} (h1 : 35 ≤ k) (h2 : k ≤ 45) (h : 15 ≤ (k - 25).toNatClampNeg) : 40 ≤ k := by
  obtain ⟨j, hj, e⟩ := i_enum (a := 35) (c := 10) h1 h2 rfl rfl
  have hj : j = 0 ∨ j = 1 ∨ j = 2 ∨ j = 3 ∨ j = 4 ∨ j = 5 ∨ j = 6 ∨ j = 7 ∨ j = 8 ∨ j = 9 ∨ j = 10 := by omega
  subst e
  rcases hj with rfl | rfl | rfl | rfl | rfl | rfl | rfl | rfl | rfl | rfl | rfl <;> first | decide | exact absurd h (by decide)
theorem i_opr {k : Int32} (h1 : 35 ≤ k) (h2 : k ≤ 45) : 10 ≤ (k - 25).toNatClampNeg ∧ (k - 25).toNatClampNeg ≤ 20 := by
  obtain ⟨j, hj, e⟩ := i_enum (a := 35) (c := 10) h1 h2 rfl rfl
  have hj : j = 0 ∨ j = 1 ∨ j = 2 ∨ j = 3 ∨ j = 4 ∨ j = 5 ∨ j = 6 ∨ j = 7 ∨ j = 8 ∨ j = 9 ∨ j = 10 := by omega
  subst e
  rcases hj with rfl | rfl | rfl | rfl | rfl | rfl | rfl | rfl | rfl | rfl | rfl <;> decide
theorem i_hA {lo hi k : Int32} {a c : Nat} (h1 : lo ≤ k) (h2 : k ≤ hi) (e1 : lo.toInt = a) (e2 : hi.toInt = a + c) (h : ∀ j, j < c + 1 → sp_hA (nI (a + j)) = true ∧ sp_hB (nI (a + j)) = true) : sp_hA k = true ∧ sp_hB k = true := by
  obtain ⟨j, hj, e⟩ := i_enum h1 h2 e1 e2
  rw [e]; exact h j (by omega)
theorem oP_v0 (hN : N ≤ 64) (hT : wTb nt N M res par) (R : ∀ c, wE nt N f c → wSh nt rec c) (O : ∀ c, wE nt N f c → oSh nt N M res par ret E rec f c) {B : Nat} (a : oI nt N M res par ret E g) (hq : w_q g = false) {n : Int32} (hE : wE nt N (f + 1) n) (v : oVs nt n g) (m : oRb B g) (hB : B + 4 * (f + 1) ≤ 20002) (hf : f + 1 ≤ 40) (hs : (g_st g).length + 84 * (f + 1) ≤ 3361) (hk : ¬ (23 ≤ nK nt n ∧ nK nt n ≤ 31)) : oQ nt N M res par ret E (f + 1) g (w_v0 nt rec n g) := by
  have hE' := hE
  obtain ⟨hn, hEx, hd⟩ := hE
  have m' : oRm f B g := ⟨m, by omega, by omega⟩
  have s0 := oP.rf (f := f) (n := g_nl g) a hq rfl
  have hm : g_nl g ≤ g_nl g := Nat.le_refl _
  have fin : ∀ {s k}, oP nt N M res par ret E f (g_nl g) s g k → oQ nt N M res par ret E (f + 1) g k := fun q => q.2.mono (Nat.le_succ _)
  unfold w_v0
  simp only
  by_cases c1 : 10 ≤ nK nt n ∧ nK nt n ≤ 20
  · rw [if_pos c1]
    obtain ⟨wa, wb, a1, a2, tb, t⟩ := wE_bin hT hn hd c1.1 c1.2
    have la := w_tl_2l (nT nt (nA nt n))
    have ka : sp_hA (nK nt n) = true ∧ sp_hB (nK nt n) = true := i_hA (a := 10) (c := 10) c1.1 c1.2 rfl rfl (by decide)
    have bop : Nat.ble 18 (nK nt n).toNatClampNeg = decide (18 ≤ (nK nt n).toNatClampNeg) := by
      by_cases q : 18 ≤ (nK nt n).toNatClampNeg
      · rw [decide_eq_true q]; exact Nat.ble_eq.mpr q
      · rw [decide_eq_false q]; exact Bool.eq_false_iff.mpr (fun z => q (Nat.ble_eq.mp z))
    have e18 : decide (18 ≤ (nK nt n).toNatClampNeg) = decide (18 ≤ nK nt n) := by rw [← bop]; exact i_b18 c1.1 c1.2
    refine fin ((((s0.rc hm (R _ wa) (O _ wa) (v.a (sp_pa_of ka.1 (nd_n1 wa.1))) m' (by omega)).rc hm (R _ wb) (O _ wb) (v.b (sp_pb_of ka.2 (nd_n1 wb.1))) m' (by rw [List.length_append]; omega))).bin hN ⟨a1, a2⟩ (i_lo c1.1 rfl) (i_hi c1.2 rfl) ?_ ?_ (by omega))
    · intro h15
      exact wE_bin2 hT hn (i_15 h15) c1.2
    · rw [tb]
      by_cases q : 18 ≤ nK nt n
      · rw [if_pos q, if_pos (of_decide_eq_true (by rw [e18]; exact decide_eq_true q))]; rfl
      · rw [if_neg q, if_neg (of_decide_eq_false (by rw [e18]; exact decide_eq_false q))]
  rw [if_neg c1]
  by_cases c2 : 35 ≤ nK nt n ∧ nK nt n ≤ 45
  · rw [if_pos c2]
    obtain ⟨x1, x2, x3, x4, x5, b, tb, t⟩ := wE_chg hT hn hd c2.1 c2.2
    have ka : sp_hA (nK nt n) = true ∧ sp_hB (nK nt n) = true := i_hA (a := 35) (c := 10) c2.1 c2.2 rfl rfl (by decide)
    refine fin (oP_chg hN hT R O a hq hm x1 x2 x3 ⟨x4, x5⟩ (fun _ => b) (fun _ => ?_) (fun q => absurd q (nd_n1 b.1)) (i_opr c2.1 c2.2).1 (i_opr c2.1 c2.2).2 (fun z => wE_chg2 hT hn (i_40 c2.1 c2.2 z) c2.2) (v.a (sp_pa_of ka.1 (nd_n1 x1))) (fun _ => v.b (sp_pb_of ka.2 (nd_n1 b.1))) m' (by omega) true)
    rw [tb, i_op c2.1 c2.2]
    by_cases q : 43 ≤ nK nt n
    · rw [if_pos q, decide_eq_true q]; rfl
    · rw [if_neg q, decide_eq_false q]; rfl
  rw [if_neg c2]
  by_cases c3 : nK nt n = 1 ∨ nK nt n = 2 ∨ nK nt n = 3 ∨ nK nt n = 4
  · rw [if_pos c3]
    have k14 : 1 ≤ nK nt n ∧ nK nt n ≤ 4 := by rcases c3 with e | e | e | e <;> rw [e] <;> decide
    have tk := wE_con hT hn hd k14.1 k14.2
    have mem := oEnt_mem hT hn
    unfold oEn at mem
    rw [if_neg (by rcases c3 with e | e | e | e <;> rw [show nt 0 n.toNatClampNeg = nK nt n from rfl, e] <;> decide), ← sp_nd_eq hT.2.2 hn] at mem
    refine fin (s0.k hN ?_ (fun _ => ⟨mem, fun z => bits_ok ?_⟩) (by omega))
    · rw [tk]; rcases c3 with e | e | e | e <;> rw [e] <;> exact ⟨by decide, by decide⟩
    · rw [tk] at z
      rcases c3 with e | e | e | e
      · exact Or.inl e
      · rw [e] at z; exact absurd z (by decide)
      · exact Or.inr e
      · rw [e] at z; exact absurd z (by decide)
  rw [if_neg c3]
  by_cases c4 : nK nt n = 51
  · rw [if_pos c4]
    have hnil := wE_nil hT hn hd c4
    exact fin (oP.em hN s0 rfl rfl (fun po => oTy.of ⟨rfl, Or.inr ⟨rfl, nT nt n, w_arr5_of hnil.1 hnil.2, rfl⟩⟩ (by decide) (by decide) (by decide)) (by show (nT nt n :: g_st g).length < 3370; simp only [List.length_cons]; omega) (Nat.zero_le _))
  rw [if_neg c4]
  by_cases c5 : nK nt n = 6
  · rw [if_pos c5]
    obtain ⟨y1, -, t⟩ := wE_load hT hn hd c5
    obtain ⟨v1, v2⟩ := oP.vr v (Or.inl c5)
    have ht := (hT.t y1).1
    have ht1 : 1 ≤ nT nt (nA nt n) := by rw [← t]; exact (hT.t hn).2 (Or.inl (by rw [c5]; decide))
    exact fin ((s0.okk v2).ld hN ht1 ht v1 (by omega))
  rw [if_neg c5]
  by_cases c6 : nK nt n = 7
  · rw [if_pos c6]
    obtain ⟨y1, y2, b, tb, t⟩ := wE_store hT hn hd c6
    obtain ⟨v1, v2⟩ := oP.vr v (Or.inr c6)
    have ht : 0 < nT nt (nA nt n) := (hT.t y1).2 (Or.inl (by rw [y2]; decide))
    have l2 := w_tl_2l (nT nt (nA nt n))
    have s1 := (s0.okk (P := g_pl g (nA nt n).toNatClampNeg ≠ none) v2).rc hm (R _ b) (O _ b) (v.b (sp_pb_k c6 (by decide) (nd_n1 b.1))) m' (by omega)
    rw [tb] at s1
    have h8 := (hT.t y1).1
    have s2 := s1.dup hN ht h8 (by omega)
    refine fin (s2.st hN ht h8 ?_ (by rw [List.length_append]; omega))
    have : w_pl (w_dup (nT nt (nA nt n)) (rec (nB nt n) 0 0 (w_pk (nA nt n) g))) (nA nt n) = w_pl g (nA nt n) := congrArg (fun q : Nat → Option Nat => (q (nA nt n).toNatClampNeg).getD 0) s2.1.1.1.2.2.2.2.2.2
    rw [this]; exact v1
  rw [if_neg c6]
  by_cases c7 : nK nt n = 8
  · rw [if_pos c7]
    obtain ⟨wa, wb, a1, a2, b1, -⟩ := wE_at hT hn hd c7
    have la := w_tl_2l (nT nt (nA nt n))
    have s2 := (s0.rc hm (R _ wa) (O _ wa) (v.a (sp_pa_k c7 (by decide) (nd_n1 wa.1))) m' (by omega)).rc hm (R _ wb) (O _ wb) (v.b (sp_pb_k c7 (by decide) (nd_n1 wb.1))) m' (by rw [List.length_append]; omega)
    rw [b1, w_tl_1 (Or.inr ⟨a1, a2⟩)] at s2
    exact fin (oP.eld hN (r := g_st g) s2 (w_arr5_of a1 a2) (by omega))
  rw [if_neg c7]
  by_cases c8 : nK nt n = 9
  · rw [if_pos c8]
    obtain ⟨x1, x2, x3, b, tb, t⟩ := wE_put hT hn hd c8
    exact fin (oP_pe9 hN hT R O a hq hm x1 x2 x3 b tb (v.a (sp_pa_k c8 (by decide) (nd_n1 x1))) (v.b (sp_pb_k c8 (by decide) (nd_n1 b.1))) m' (by omega) true)
  rw [if_neg c8]
  by_cases c9 : nK nt n = 21
  · rw [if_pos c9]
    obtain ⟨wa, a1, a2, t⟩ := wE_neg hT hn hd c9
    have la := w_tl_2l (nT nt (nA nt n))
    have s1 := s0.rc hm (R _ wa) (O _ wa) (v.a (sp_pa_k c9 (by decide) (nd_n1 wa.1))) m' (by omega)
    have e : w_tl (nT nt (nA nt n)) ++ (w_tl (nT nt (nA nt n)) ++ g_st g).drop (w_tl (nT nt (nA nt n))).length = w_tl (nT nt (nA nt n)) ++ g_st g := by rw [List.drop_left]
    exact fin (oP.em hN s1 rfl rfl (fun po => oTy.of ⟨by rw [e], ⟨a1, a2⟩, g_st g, rfl⟩ (by decide) (by decide) (by decide)) (by rw [e, List.length_append]; omega) (by rw [List.length_append]; omega))
  rw [if_neg c9]
  by_cases c10 : nK nt n = 22
  · rw [if_pos c10]
    obtain ⟨b, b1, b2, b3, b4, t⟩ := wE_cast hT hn hd c10
    exact fin ((s0.rc hm (R _ b) (O _ b) (v.b (sp_pb_k c10 (by decide) (nd_n1 b.1))) m' (by omega)).cast hN ⟨b1, b2⟩ b3 (by omega))
  rw [if_neg c10]
  by_cases c11 : nK nt n = 32
  · rw [if_pos c11]
    obtain ⟨wa, ta, b1, b2, b3, t⟩ := wE_choose hT hn hd c11
    have hf : ∃ f', f = f' + 1 := by
      cases f with
      | zero => have := (hT.d b1).1; omega
      | succ f => exact ⟨f, rfl⟩
    obtain ⟨f', rfl⟩ := hf
    obtain ⟨p, r, p1, p2, tr, tp⟩ := wE_pair hT b1 b2 b3
    have wp := p.mono (Nat.le_succ _)
    have wr := r.mono (Nat.le_succ _)
    have Rp := R _ wp
    have Rr := R _ wr
    have vb := v.b (sp_pb_k c11 (by decide) (nd_n1 b1))
    have l2 := w_tl_2l (nT nt (nA nt (nB nt n)))
    rw [t, tp]
    refine (oQ_dia (f := f' + 1) hq a m (by omega) (by omega) (by omega) l2 (((R _ wa).2 (w_lb (g_L g, w_tl (nT nt (nA nt (nB nt n))) ++ g_st g) (w_lb (g_L g, g_st g) g)) (g_nl g + 2) hq (Nat.le_refl _)).2.2 ta (g_nl g) (by show g_nl g < g_nl g + 1 + 1; omega)).2 (fun i1 => ?_) (fun k q => (Rp.1 k q).1) (fun k q hk => (Rp.2 k _ q hk).1) (fun k q => (Rr.1 k q).1) (fun k q hk => ?_) (fun k z1 z2 z3 z4 z5 z6 => ?_) (fun k z1 z2 z3 z4 z5 z6 => ?_)).mono (Nat.le_succ _)
    · have ml : oRm (f' + 1) (B + 2) (w_lb (g_L g, w_tl (nT nt (nA nt (nB nt n))) ++ g_st g) (w_lb (g_L g, g_st g) g)) := ⟨(m.lb (by omega)).lb (by omega), by omega, by omega⟩
      refine ((O _ wa (w_lb (g_L g, w_tl (nT nt (nA nt (nB nt n))) ++ g_st g) (w_lb (g_L g, g_st g) g)) (B + 2) hq i1 ((v.a (sp_pa_k c11 (by decide) (nd_n1 wa.1))).cg rfl rfl) ml (by show (g_st g).length + _ ≤ _; omega)).2.2 ta (g_nl g) ⟨by show g_nl g < g_nl g + 1 + 1; omega, ?_, ?_⟩).2
      · show (if g_nl g = g_nl g + 1 then _ else if g_nl g = g_nl g then (g_L g, g_st g) else _) = _
        rw [if_neg (by omega), if_pos rfl]; rfl
      · intro j q
        have q : (if g_nl g = g_nl g + 1 then none else if g_nl g = g_nl g then none else g_lat g (g_nl g)) = some j := q
        rw [if_neg (by omega), if_pos rfl] at q; simp at q
    · have := (Rr.2 k _ q hk).1
      rw [tr] at this; exact this
    · exact ((O _ wp) k (B + 2) z1 z5 ((vb.a (sp_pa_k b3 (by decide) (nd_n1 p.1))).cg z2 z4) ⟨z6, by omega, by omega⟩ (by rw [z3]; omega)).1
    · exact ((O _ wr) k (B + 2) z1 z5 ((vb.b (sp_pb_k b3 (by decide) (nd_n1 r.1))).cg z2 z4) ⟨z6, by omega, by omega⟩ (by rw [z3]; omega)).1
  rw [if_neg c11]
  by_cases c12 : nK nt n = 34
  · rw [if_pos c12]
    obtain ⟨x1, x2, x3, x4, x5, -, -, t⟩ := wE_stp hT hn hd c12
    exact fin (oP_stp hN hT R O a hq hm x1 x2 x3 ⟨x4, x5⟩ (v.a (sp_pa_k c12 (by decide) (nd_n1 x1))) m' (by omega) true)
  rw [if_neg c12]
  by_cases c13 : nK nt n = 46
  · rw [if_pos c13]
    obtain ⟨a1, a2, -, b, tb, t⟩ := wE_make hT hn hd c13
    have s1 := s0.rc hm (R _ b) (O _ b) (v.b (sp_pb_k c13 (by decide) (nd_n1 b.1))) m' (by omega)
    rw [tb] at s1
    exact fin (oP.em hN s1 (off := 1) (on := [(nA nt n).toNatClampNeg]) rfl rfl (fun po => oTy.of ⟨rfl, w_arr5_of a1 a2, g_st g, rfl, rfl⟩ (by decide) (by decide) (by decide)) (by show ((nA nt n).toNatClampNeg :: g_st g).length < 3370; simp only [List.length_cons]; omega) (by simp [w_tl]))
  rw [if_neg c13]
  by_cases c14 : nK nt n = 47
  · rw [if_pos c14]
    obtain ⟨wa, a1, a2, t⟩ := wE_len hT hn hd c14
    have s1 := s0.rc hm (R _ wa) (O _ wa) (v.a (sp_pa_k c14 (by decide) (nd_n1 wa.1))) m' (by omega)
    rw [w_tl_1 (Or.inr ⟨a1, a2⟩)] at s1
    exact fin (oP.em hN s1 (off := 1) (on := [1]) rfl rfl (fun po => oTy.of ⟨rfl, _, g_st g, w_arr5_of a1 a2, rfl, rfl⟩ (by decide) (by decide) (by decide)) (by show (1 :: g_st g).length < 3370; simp only [List.length_cons]; omega) (by simp))
  rw [if_neg c14]
  have e48 : nK nt n = 48 := by
    apply Int32.toInt_inj.mp
    show (nK nt n).toInt = 48
    have q := sp_E_iff.mp hEx
    have z : ∀ v : Int32, ¬ nK nt n = v → (nK nt n).toInt ≠ v.toInt := fun v => i_ne
    simp only [i_le, not_or] at c1 c2 c3 hk
    have y1 : (nK nt n).toInt ≠ 1 := z 1 c3.1
    have y2 : (nK nt n).toInt ≠ 2 := z 2 c3.2.1
    have y3 : (nK nt n).toInt ≠ 3 := z 3 c3.2.2.1
    have y4 : (nK nt n).toInt ≠ 4 := z 4 c3.2.2.2
    have y51 : (nK nt n).toInt ≠ 51 := z 51 c4
    have y6 : (nK nt n).toInt ≠ 6 := z 6 c5
    have y7 : (nK nt n).toInt ≠ 7 := z 7 c6
    have y8 : (nK nt n).toInt ≠ 8 := z 8 c7
    have y9 : (nK nt n).toInt ≠ 9 := z 9 c8
    have y21 : (nK nt n).toInt ≠ 21 := z 21 c9
    have y22 : (nK nt n).toInt ≠ 22 := z 22 c10
    have y32 : (nK nt n).toInt ≠ 32 := z 32 c11
    have y34 : (nK nt n).toInt ≠ 34 := z 34 c12
    have y46 : (nK nt n).toInt ≠ 46 := z 46 c13
    have y47 : (nK nt n).toInt ≠ 47 := z 47 c14
    have l1 : (10 : Int32).toInt = 10 := rfl
    have l2 : (20 : Int32).toInt = 20 := rfl
    have l3 : (35 : Int32).toInt = 35 := rfl
    have l4 : (45 : Int32).toInt = 45 := rfl
    have l5 : (23 : Int32).toInt = 23 := rfl
    have l6 : (31 : Int32).toInt = 31 := rfl
    omega
  obtain ⟨ha, hb, hr, hp⟩ := wE_call hT hn hd e48
  have ch := hT.ch (Or.inl rfl) 4001 hb
  have cl := chain_len_d hT 4001 f (nB nt n) hb
  have vs : ∀ q, q ∈ sp_chain nt 4001 (nB nt n) → oVs nt (nA nt q) g := by
    by_cases e : nB nt n = -1
    · rw [e]; intro q hq; cases hq
    · refine oVs.args 4001 _ (fun q hq => ?_) (v.b (sp_pb_k e48 (by decide) e))
      obtain ⟨y1, y2, y3⟩ := ch q hq
      refine ⟨y3, nd_n1 (N := N) ?_⟩
      cases f with
      | zero => have := (hT.d y1).1; omega
      | succ f => exact (wE_given hT y1 y2 y3).1.1.1
  have s1 := oP_args hN hT R O hm m' _ ch vs s0 (by omega)
  have al := oAr_len nt (sp_chain nt 4001 (nB nt n))
  have mem := oEnt_mem hT hn
  unfold oEn at mem
  rw [if_pos (show nt 0 n.toNatClampNeg = 48 from e48)] at mem
  have hM : (nA nt n).toNatClampNeg < M := sp_nd_lt (by have := hT.2.1; omega) ha
  have hMe : nA nt n = nI (nA nt n).toNatClampNeg := sp_nd_eq (by have := hT.2.1; omega) ha
  obtain ⟨w, q⟩ := s1
  have l2 := w_tl_2l (nT nt n)
  have es := w.2.2.2
  have ed : (g_st (w_args nt rec (sp_chain nt 4001 (nB nt n)) g)).drop (w_sum nt (sp_chain nt 4001 (nB nt n))) = g_st g := by rw [es, ← al, List.drop_left]
  refine ((q.tr (oQ.pe (tag := 15) (off := w_sum nt (sp_chain nt 4001 (nB nt n))) (on := w_tl (nT nt n)) hN q.1.1 w.2.1 mem rfl ⟨⟨rfl, Or.inl rfl⟩, fun _ => w_px_pf _ _ _, fun z => absurd z (by show ¬ (15 : Nat) = 1; decide), fun _ _ => ⟨_, g_st g, hM, by show (nA nt n).toInt64 = _; rw [← hMe], ?_, ?_⟩, (fun z => absurd z (by show ¬ (15 : Nat) = 16; decide)), oShp0 rfl (by decide)⟩ ?_ ?_)).mono (Nat.le_succ f))
  · show g_st (w_args nt rec (sp_chain nt 4001 (nB nt n)) g) = _
    rw [es, oAr_tya nt _ _ hp]
  · show w_tl (nT nt n) ++ (g_st (w_args nt rec (sp_chain nt 4001 (nB nt n)) g)).drop _ = _
    rw [ed]
    have : nT nt n = (res (nA nt n).toNatClampNeg).toNatClampNeg := by show (nt 3 n.toNatClampNeg).toNatClampNeg = _; rw [hr]
    rw [this]
  · rw [ed, List.length_append]; omega
  · rw [es, ← al, List.length_append]; omega
/-- labels of a condition that is both, or either -/
theorem oQ_both {B l : Nat} {X1 X2 : wG → wG} (hq : w_q g = false) (a : oI nt N M res par ret E g) (m : oRb B g) (hB : B + 1 ≤ 20010) (hf : f ≤ 40) (hs : (g_st g).length + 2 ≤ 3366) (hl : oU g l (g_L g, g_st g))
    (hc : wCd (g_nl g + 1) (g_nl g) (w_lb (g_L g, g_st g) g) (X1 (w_lb (g_L g, g_st g) g)))
    (oc : oI nt N M res par ret E (w_lb (g_L g, g_st g) g) → oRb (B + 1) (w_lb (g_L g, g_st g) g) → oU (w_lb (g_L g, g_st g) g) (g_nl g) (g_L g, g_st g) → oQ nt N M res par ret E f (w_lb (g_L g, g_st g) g) (X1 (w_lb (g_L g, g_st g) g)))
    (q2 : ∀ k, w_q k = true → X2 k = k) (p2 : ∀ k, w_q k = false → g_nl g + 1 ≤ g_nl k → wCd (g_nl g + 1) l k (X2 k))
    (o2 : ∀ k, w_q k = false → g_L k = g_L g → g_st k = g_st g → g_pl k = g_pl g → oI nt N M res par ret E k → oRb (B + 1) k → oU k l (g_L g, g_st g) → oQ nt N M res par ret E f k (X2 k)) :
    oQ nt N M res par ret E (f + 1) g (w_sl true (g_nl g) (w_put (g_nl g) (X2 (X1 (w_lb (g_L g, g_st g) g))))) := by
  have i1 : oI nt N M res par ret E (w_lb (g_L g, g_st g) g) := a.lb (by show (g_st g).length < 3370; omega) m.1 m.2.1 m.2.2
  have m1 : oRb (B + 1) (w_lb (g_L g, g_st g) g) := m.lb hB
  have le1 : oLe g (w_lb (g_L g, g_st g) g) := oLe_lb
  have n1 : g_nl (w_lb (g_L g, g_st g) g) = g_nl g + 1 := rfl
  have by1 : g_by (w_lb (g_L g, g_st g) g) = g_by g := rfl
  have us1 : g_us (w_lb (g_L g, g_st g) g) = g_us g + 1 := rfl
  have ac1 : g_ac (w_lb (g_L g, g_st g) g) = g_ac g := rfl
  have it1 : g_it (w_lb (g_L g, g_st g) g) = g_it g := rfl
  have un1 : g_n1 (w_lb (g_L g, g_st g) g) + g_fm g = g_n1 g + g_fm (w_lb (g_L g, g_st g) g) + 1 ∧ g_fm (w_lb (g_L g, g_st g) g) = g_fm g - 1 := by
    show (if g_fm g = 0 then g_n1 g + 1 else g_n1 g) + g_fm g = g_n1 g + (g_fm g - 1) + 1 ∧ g_fm g - 1 = g_fm g - 1
    split <;> omega
  have lF0 : g_lF (w_lb (g_L g, g_st g) g) (g_nl g) = (g_L g, g_st g) := if_pos rfl
  have lat0 : g_lat (w_lb (g_L g, g_st g) g) (g_nl g) = none := if_pos rfl
  have go0 : g_goes (w_lb (g_L g, g_st g) g) (g_nl g) = false := if_pos rfl
  have go1 : ∀ k, k < g_nl g → g_goes (w_lb (g_L g, g_st g) g) k = g_goes g k := fun k hk => if_neg (by omega)
  have hl1 : oU (w_lb (g_L g, g_st g) g) l (g_L g, g_st g) := hl.tr le1 (if_neg (by have := hl.1; omega))
  have L1 : g_L (w_lb (g_L g, g_st g) g) = g_L g ∧ g_st (w_lb (g_L g, g_st g) g) = g_st g ∧ g_pl (w_lb (g_L g, g_st g) g) = g_pl g := ⟨rfl, rfl, rfl⟩
  replace oc := oc i1 m1 ⟨Nat.lt_succ_self _, lF0, fun j q => by rw [lat0] at q; simp at q⟩
  generalize w_lb (g_L g, g_st g) g = g1 at *
  have hlw := hl.1
  generalize hw : g_nl g = w at *
  obtain ⟨cX, cov, cc⟩ := hc
  have c11 : w_cg (g_goes g1) (w + 1) = w_cg (g_goes g) w := by
    show w_cg (g_goes g1) w + (bif g_goes g1 w then 1 else 0) = _
    rw [go0, w_cg_eq go1]; rfl
  -- both conditions
  have s3 : ∃ g3, g3 = X2 (X1 g1) ∧ oQ nt N M res par ret E f g1 g3 ∧ g_lat g3 w = none ∧ g_ac g3 = g_ac g ∧ g_lF g3 w = (g_L g, g_st g) ∧ (g_al g3 = true → g_L g3 = g_L g ∧ g_st g3 = g_st g) := by
    refine ⟨_, rfl, ?_⟩
    have latX := (cX.2.2.2.1 w (by omega)).1.trans lat0
    have lFX := (cX.2.2.2.1 w (by omega)).2.1.trans lF0
    rcases cc with ⟨al2, Lg2, st2⟩ | ⟨al2, lk⟩
    · have hq2 : w_q (X1 g1) = false := (w_q_iff _).mpr ⟨al2, cov⟩
      obtain ⟨yX, yov, yc⟩ := p2 _ hq2 (by have := cX.2.2.1; omega)
      have m2 := m1.tr oc hf cX.1.2.2.2.1
      have o := o2 _ hq2 (Lg2.trans L1.1) (st2.trans L1.2.1) (cX.1.2.2.2.2.2.2.trans L1.2.2) oc.1.1 m2 (hl1.tr oc.1.2.1 (cX.2.2.2.1 l (by omega)).1)
      refine ⟨oc.tr o, (yX.2.2.2.1 w (by omega)).1.trans latX, by rw [yX.1.2.2.2.1, cX.1.2.2.2.1, ac1], (yX.2.2.2.1 w (by omega)).2.1.trans lFX, fun z => ?_⟩
      rcases yc with ⟨y1, y2, y3⟩ | ⟨y1, y2⟩
      · exact ⟨y2.trans (Lg2.trans L1.1), y3.trans (st2.trans L1.2.1)⟩
      · rw [y1] at z; exact absurd z (by decide)
    · have hq2 : w_q (X1 g1) = true := by unfold w_q; rw [al2]; rfl
      rw [q2 _ hq2]
      exact ⟨oc, latX, by rw [cX.1.2.2.2.1, ac1], lFX, fun z => by rw [al2] at z; exact absurd z (by decide)⟩
  obtain ⟨g3, e3, o3, lat3, ac3, lF3, al3⟩ := s3
  rw [← e3]
  clear e3 o2 p2 q2
  have o4 := oQ.put (f := f) (l := w) o3.1.1 (by have := o3.1.2.1.2.1; omega) lat3 (fun z => by rw [(al3 z).1, (al3 z).2, lF3]; exact w_fit.rf _) (by rw [lF3, o3.2.1, L1.1])
  have o14 := o3.tr o4
  have ac4 : g_ac (w_put w g3) = g_ac g := (wX_put (n := 0) (m := w) (g := g3) (Nat.zero_le _)).1.2.2.2.1.trans ac3
  generalize w_put w g3 = g4 at *
  have fm4 := o14.1.2.2.2.2
  obtain ⟨o5, le5⟩ := o14.1.1.sl (by have := m.2.2; omega) true w
  obtain ⟨x1, x2, x3, x4, x5, x6, x7, x8, x9⟩ := w_sl_n true w g4
  have x10 := (w_sl_f true w g4).2.2.2.1
  generalize w_sl true w g4 = g5 at *
  obtain ⟨⟨-, le14, ⟨p1', p2', p3', p4', p5', p6'⟩, us14, -⟩, L14, nw14⟩ := o14
  rw [n1, c11] at p5' p6'
  rw [show w_cg (g_goes g4) (w + 1) = w_cg (g_goes g4) w + (bif g_goes g4 w then 1 else 0) from rfl] at p5' p6'
  have by5 : g_by g5 = g_by g4 := by unfold g_by; rw [x5]
  have le := (le1.tr le14).tr le5
  have us5 : g_us g5 + 1 = g_us g4 + (bif g_goes g4 w then 1 else 0) := by
    rw [x8]; cases g_goes g4 w <;> simp only [cond_true, cond_false] <;> omega
  have fm5 : g_fm g5 + (bif g_goes g4 w then 1 else 0) = g_fm g4 + 1 := by
    rw [x9]; cases g_goes g4 w <;> simp only [cond_true, cond_false]
  have top : (bif g_goes g4 w then 1 else 0) ≤ 1 := by cases g_goes g4 w <;> decide
  generalize (bif g_goes g4 w then 1 else 0) = b4 at *
  refine ⟨⟨o5, le, ⟨by rw [hw]; omega, fun k hk q => (le.2.2.1 k (by omega)).2.1 q, by omega, by omega, ?_, ?_⟩, by omega, by omega⟩, by rw [x10, L14, L1.1], fun k i F h1 h2 => by rw [x5] at h2; rw [← L1.1]; exact nw14 k i F (by rw [it1]; exact h1) h2⟩
  · rw [hw, x2]; omega
  · rw [hw, x2, x7, x6]; omega
theorem w_op_le {k : Int32} (h1 : 23 ≤ k) (h2 : k ≤ 28) (so : Bool) : w_op k so ≤ 5 := by
  obtain ⟨j, hj, e⟩ := i_enum (a := 23) (c := 5) h1 h2 rfl rfl
  have hj : j = 0 ∨ j = 1 ∨ j = 2 ∨ j = 3 ∨ j = 4 ∨ j = 5 := by omega
  subst e
  cases so <;> rcases hj with rfl | rfl | rfl | rfl | rfl | rfl <;> decide
theorem oP.br {l op : Nat} {u : List Nat} (a : oP nt N M res par ret E f (g_nl g) (u ++ g_st g) g h) (h1 : (153 ≤ op ∧ op ≤ 158 ∧ u = [1]) ∨ (159 ≤ op ∧ op ≤ 164 ∧ u = [1, 1])) (hU : oU g l (g_L g, g_st g)) (h9 : (g_st g).length + 4 ≤ 3370) : oQ nt N M res par ret E f g (w_br op u.length l h) := by
  obtain ⟨w, q⟩ := a
  have es := w.2.2.2
  have ed : (g_st h).drop u.length = g_st g := by rw [es, List.drop_left]
  refine q.tr (oQ.br q.1.1 w.2.1 ?_ ?_ ?_)
  · rcases h1 with ⟨p1, p2, e⟩ | ⟨p1, p2, e⟩
    · exact Or.inl ⟨p1, p2, by rw [e]; rfl, g_st g, by rw [es, e]; rfl⟩
    · exact Or.inr ⟨p1, p2, by rw [e]; rfl, g_st g, by rw [es, e]; rfl⟩
  · rw [ed, w.2.2.1]; exact hU.tr q.1.2.1 (w.1.2.2.2.1 l hU.1).1
  · rw [es, List.length_append]
    rcases h1 with ⟨p1, p2, e⟩ | ⟨p1, p2, e⟩ <;> rw [e] <;> simp only [List.length_cons, List.length_nil] <;> omega
theorem oQ_cd (hN : N ≤ 64) (hT : wTb nt N M res par) (R : ∀ c, wE nt N f c → wSh nt rec c) (O : ∀ c, wE nt N f c → oSh nt N M res par ret E rec f c) {B : Nat} (a : oI nt N M res par ret E g) (hq : w_q g = false) {n : Int32} (hE : wE nt N (f + 1) n) (v : oVs nt n g) (m : oRb B g) (hB : B + 4 * (f + 1) ≤ 20002) (hf : f + 1 ≤ 40) (hs : (g_st g).length + 84 * (f + 1) ≤ 3361) (ht : nT nt n = 1) (so : Bool) {l : Nat} (hl : oU g l (g_L g, g_st g)) : oQ nt N M res par ret E (f + 1) g (w_cd nt rec n so l g) := by
  have hE' := hE
  obtain ⟨hn, -, hd⟩ := hE'
  have m' : oRm f B g := ⟨m, by omega, by omega⟩
  have s0 := oP.rf (f := f) (n := g_nl g) a hq rfl
  have hm : g_nl g ≤ g_nl g := Nat.le_refl _
  have Rc : ∀ {c : Int32} {k : wG} {l' m' : Nat} (s : Bool), wE nt N f c → nT nt c = 1 → w_q k = false → m' ≤ g_nl k → l' < g_nl k → wCd m' l' k (rec c (bif s then 2 else 3) l' k) := by
    intro c k l' m' s h1 h2 h3 h4 h5
    have := ((R c h1).2 k m' h3 h4).2.2 h2 l' h5
    cases s
    · exact this.2
    · exact this.1
  have Oc : ∀ {c : Int32} {k : wG} {l' B' : Nat} (s : Bool), wE nt N f c → nT nt c = 1 → w_q k = false → oI nt N M res par ret E k → oVs nt c k → oRm f B' k → g_st k = g_st g → oU k l' (g_L k, g_st k) → oQ nt N M res par ret E f k (rec c (bif s then 2 else 3) l' k) := by
    intro c k l' B' s h1 h2 h3 h4 h5 h6 h7 h8
    have := (O c h1 k B' h3 h4 h5 h6 (by rw [h7]; omega)).2.2 h2 l' h8
    cases s
    · exact this.2
    · exact this.1
  have Rq : ∀ {c : Int32} {k : wG} (s : Bool) (l' : Nat), wE nt N f c → w_q k = true → rec c (bif s then 2 else 3) l' k = k := by
    intro c k s l' h1 h2
    have := ((R c h1).1 k h2).2 l'
    cases s
    · exact this.2
    · exact this.1
  have no : ∀ s : Bool, (bif s then 3 else 2) = (bif !s then 2 else 3) := by intro s; cases s <;> rfl
  unfold w_cd
  rw [hq]
  simp only [cond_false]
  by_cases c1 : nK nt n = 1
  · rw [if_pos c1]
    cases (!decide (nA nt n = 0) == so)
    · exact oQ.rf a
    · exact oQ.go a (fun _ => ⟨hl.1, by rw [hl.2.1]; exact w_fit.rf _, by rw [hl.2.1]; exact hl.2.2⟩) (by omega)
  rw [if_neg c1]
  by_cases c2 : nK nt n = 31
  · rw [if_pos c2]
    obtain ⟨wa, ta, -⟩ := wE_not hT hn hd c2
    rw [no]; exact (Oc _ wa ta hq a (v.a (sp_pa_k c2 (by decide) (nd_n1 wa.1))) m' rfl hl).mono (Nat.le_succ _)
  rw [if_neg c2]
  by_cases c3 : nK nt n = 29 ∨ nK nt n = 30
  · rw [if_pos c3]
    have hab : wE nt N f (nA nt n) ∧ nT nt (nA nt n) = 1 ∧ wE nt N f (nB nt n) ∧ nT nt (nB nt n) = 1 := by
      rcases c3 with c | c
      · obtain ⟨a, ta, b, tb, -⟩ := wE_both hT hn hd c; exact ⟨a, ta, b, tb⟩
      · obtain ⟨a, ta, b, tb, -⟩ := wE_either hT hn hd c; exact ⟨a, ta, b, tb⟩
    obtain ⟨wa, ta, wb, tb⟩ := hab
    have ka : sp_hA (nK nt n) = true ∧ sp_hB (nK nt n) = true := by rcases c3 with e | e <;> rw [e] <;> decide
    have va := v.a (sp_pa_of ka.1 (nd_n1 wa.1))
    have vb := v.b (sp_pb_of ka.2 (nd_n1 wb.1))
    cases (decide (nK nt n = 29) == so)
    · simp only [cond_false]
      obtain ⟨X1, o1, z1⟩ := Rc (l' := l) (m' := g_nl g) so wa ta hq (Nat.le_refl _) hl.1
      have q1 := Oc (l' := l) so wa ta hq a va m' rfl hl
      rcases z1 with ⟨z1, z2, z3⟩ | ⟨z1, z2⟩
      · have q2 := Oc (l' := l) so wb tb ((w_q_iff _).mpr ⟨z1, o1⟩) q1.1.1 (vb.cg z2 X1.1.2.2.2.2.2.2) (m'.tr q1 X1.1.2.2.2.1) z3 (by rw [z2, z3]; exact hl.tr q1.1.2.1 (X1.2.2.2.1 l hl.1).1)
        exact (q1.tr q2).mono (Nat.le_succ _)
      · rw [Rq so l wb (by unfold w_q; rw [z1]; rfl)]
        exact q1.mono (Nat.le_succ _)
    · simp only [cond_true]
      rw [no]
      exact oQ_both (f := f) (X1 := fun k => rec (nA nt n) (bif !so then 2 else 3) (g_nl g) k) (X2 := fun k => rec (nB nt n) (bif so then 2 else 3) l k) hq a m (by omega) (by omega) (by omega) hl
        (Rc _ wa ta hq (Nat.le_refl _) (Nat.lt_succ_self _)) (fun i1 m1 u1 => Oc (B' := B + 1) _ wa ta hq i1 (va.cg rfl rfl) ⟨m1, by omega, by omega⟩ rfl u1) (fun k q => Rq so l wb q)
        (fun k q hk => Rc so wb tb q hk (by have := hl.1; omega)) (fun k q e1 e2 e3 i m u => Oc (B' := B + 1) so wb tb q i (vb.cg e1 e3) ⟨m, by omega, by omega⟩ e2 (by rw [e1, e2]; exact u))
  rw [if_neg c3]
  by_cases c4 : 23 ≤ nK nt n ∧ nK nt n ≤ 28
  · rw [if_pos c4]
    obtain ⟨wa, wb, h1, h2, tb, -⟩ := wE_cmp hT hn hd c4.1 c4.2
    have ka : sp_hA (nK nt n) = true ∧ sp_hB (nK nt n) = true := i_hA (a := 23) (c := 5) c4.1 c4.2 rfl rfl (by decide)
    have la := w_tl_2l (nT nt (nA nt n))
    have ol := w_op_le c4.1 c4.2 so
    have s1 := s0.rc hm (R _ wa) (O _ wa) (v.a (sp_pa_of ka.1 (nd_n1 wa.1))) m' (by omega)
    have s2 := s1.rc hm (R _ wb) (O _ wb) (v.b (sp_pb_of ka.2 (nd_n1 wb.1))) m' (by rw [List.length_append]; omega)
    unfold w_cmp
    simp only
    by_cases d1 : nT nt (nA nt n) = 1 ∧ nK nt (nB nt n) = 1 ∧ nA nt (nB nt n) = 0
    · rw [if_pos d1]
      rw [d1.1] at s1
      exact (oP.br (u := [1]) s1 (Or.inl ⟨by omega, by omega, rfl⟩) hl (by omega)).mono (Nat.le_succ _)
    rw [if_neg d1]
    by_cases d2 : nT nt (nA nt n) = 1
    · rw [if_pos d2]
      rw [tb, d2] at s2
      exact (oP.br (u := [1, 1]) s2 (Or.inr ⟨by omega, by omega, rfl⟩) hl (by omega)).mono (Nat.le_succ _)
    rw [if_neg d2]
    rw [tb] at s2
    have e : [1] ++ (w_tl (nT nt (nA nt n)) ++ (w_tl (nT nt (nA nt n)) ++ g_st g)).drop (2 * (w_tl (nT nt (nA nt n))).length) = [1] ++ g_st g := by rw [Nat.two_mul, ← List.drop_drop, List.drop_left, List.drop_left]
    have s3 := (oP.em hN s2 (i := (12, (if nT nt (nA nt n) = 2 then 148 else (if nT nt (nA nt n) = 3 then 149 else 151) + (if nK nt n = 25 ∨ nK nt n = 28 then 1 else 0)), 0, 0, [])) (off := 2 * (w_tl (nT nt (nA nt n))).length) (on := [1]) rfl rfl (fun po => oTy.of ⟨rfl, nT nt (nA nt n), g_st g, by omega, h2, ?_, rfl, e⟩ (by decide) (by decide) (by decide)) (by rw [e]; show (1 :: g_st g).length < 3370; simp only [List.length_cons]; omega) (by simp only [List.length_append]; omega)).cg e
    · exact (oP.br (u := [1]) s3 (Or.inl ⟨by omega, by omega, rfl⟩) hl (by omega)).mono (Nat.le_succ _)
    · have : nT nt (nA nt n) = 2 ∨ nT nt (nA nt n) = 3 ∨ nT nt (nA nt n) = 4 := by omega
      by_cases z : nK nt n = 25 ∨ nK nt n = 28
      · rcases this with q | q | q <;> rw [q] <;> simp [z]
      · rcases this with q | q | q <;> rw [q] <;> simp [z]
  rw [if_neg c4]
  have wp := wP_v0 hT R hq (Nat.le_refl (g_nl g)) hE (fun q => by
    simp only [i_le, not_or] at c3 c4 q
    have y1 : (nK nt n).toInt ≠ 29 := i_ne c3.1
    have y2 : (nK nt n).toInt ≠ 30 := i_ne c3.2
    have y3 : (nK nt n).toInt ≠ 31 := i_ne c2
    have l1 : (23 : Int32).toInt = 23 := rfl
    have l2 : (31 : Int32).toInt = 31 := rfl
    have l3 : (28 : Int32).toInt = 28 := rfl
    omega)
  have wo := oP_v0 hN hT R O a hq hE v m hB hf hs (fun q => by
    simp only [i_le, not_or] at c3 c4 q
    have y1 : (nK nt n).toInt ≠ 29 := i_ne c3.1
    have y2 : (nK nt n).toInt ≠ 30 := i_ne c3.2
    have y3 : (nK nt n).toInt ≠ 31 := i_ne c2
    have l1 : (23 : Int32).toInt = 23 := rfl
    have l2 : (31 : Int32).toInt = 31 := rfl
    have l3 : (28 : Int32).toInt = 28 := rfl
    omega)
  rw [ht] at wp
  refine oP.br (u := [1]) (⟨wp, wo⟩ : oP nt N M res par ret E (f + 1) (g_nl g) ([1] ++ g_st g) g _) (Or.inl ?_) hl (by omega)
  cases so
  · exact ⟨by decide, by decide, rfl⟩
  · exact ⟨by decide, by decide, rfl⟩
theorem oQ_k1 (hN : N ≤ 64) (a : oI nt N M res par ret E g) (hq : w_q g = false) {v : Int64} (hv : w_sm 1 v = true) (h9 : (g_st g).length + 4 ≤ 3370) : oQ nt N M res par ret E f g (w_em (0, 1, 0, v, []) 0 [1] g) :=
  oQ.em hN a hq rfl rfl (oTy.of ⟨rfl, Or.inl ⟨⟨(Nat.le_refl 1 : (1 : Nat) ≤ 1), (by decide : (1 : Nat) ≤ 4)⟩, hv, rfl⟩⟩ (by decide) (by decide) (by decide)) (by show (1 :: g_st g).length < 3370; simp only [List.length_cons]; omega) (Nat.zero_le _)
theorem oQ_vl (hN : N ≤ 64) (hT : wTb nt N M res par) (R : ∀ c, wE nt N f c → wSh nt rec c) (O : ∀ c, wE nt N f c → oSh nt N M res par ret E rec f c) {B : Nat} (a : oI nt N M res par ret E g) (hq : w_q g = false) {n : Int32} (hE : wE nt N (f + 1) n) (v : oVs nt n g) (m : oRm (f + 1) B g) (hs : (g_st g).length + 84 * (f + 1) ≤ 3361) : oQ nt N M res par ret E (f + 1) g (w_vl nt rec n g) := by
  obtain ⟨m1, m2, m3⟩ := m
  unfold w_vl
  rw [hq]
  simp only [cond_false]
  by_cases c : 23 ≤ nK nt n ∧ nK nt n ≤ 31
  · rw [if_pos c]
    refine oQ_dia (f := f + 1) (ty := [1]) hq a m1 (by omega) m3 (by omega) (by decide) (wCd_cd hT R (g := w_lb (g_L g, 1 :: g_st g) (w_lb (g_L g, g_st g) g)) hq (Nat.le_refl _) (show g_nl g < g_nl g + 1 + 1 by omega) hE (nT_b hT hE c) false) (fun i1 => ?_) (fun k q => w_em_q q) (fun k q _ => (wP_em q).cg (by simp)) (fun k q => w_em_q q) (fun k q _ => (wP_em q).cg (by simp)) (fun k z1 z2 z3 z4 z5 z6 => oQ_k1 hN z5 z1 rfl (by rw [z3]; omega)) (fun k z1 z2 z3 z4 z5 z6 => oQ_k1 hN z5 z1 rfl (by rw [z3]; omega))
    refine oQ_cd hN hT R O (g := w_lb (g_L g, 1 :: g_st g) (w_lb (g_L g, g_st g) g)) i1 hq hE (v.cg rfl rfl) (B := B + 2) ((m1.lb (by omega)).lb (by omega)) (by omega) m3 hs (nT_b hT hE c) false ⟨by show g_nl g < g_nl g + 1 + 1; omega, ?_, ?_⟩
    · show (if g_nl g = g_nl g + 1 then _ else if g_nl g = g_nl g then (g_L g, g_st g) else _) = _
      rw [if_neg (by omega), if_pos rfl]; rfl
    · intro j q
      have q : (if g_nl g = g_nl g + 1 then none else if g_nl g = g_nl g then none else g_lat g (g_nl g)) = some j := q
      rw [if_neg (by omega), if_pos rfl] at q; simp at q
  · rw [if_neg c]; exact oP_v0 hN hT R O a hq hE v m1 (by omega) m3 hs c
theorem oQ_an (hN : N ≤ 64) (hT : wTb nt N M res par) (R : ∀ c, wE nt N f c → wSh nt rec c) (O : ∀ c, wE nt N f c → oSh nt N M res par ret E rec f c) {B : Nat} (a : oI nt N M res par ret E g) (hq : w_q g = false) {n : Int32} (hE : wE nt N (f + 1) n) (v : oVs nt n g) (m : oRm (f + 1) B g) (hs : (g_st g).length + 84 * (f + 1) ≤ 3361) : oQ nt N M res par ret E (f + 1) g (w_an nt rec n g) := by
  have hE' := hE
  obtain ⟨hn, hEx, hd⟩ := hE'
  have m' : oRm f B g := ⟨m.1, by have := m.2.1; omega, by have := m.2.2; omega⟩
  have s0 := oP.rf (f := f) (n := g_nl g) a hq rfl
  have hm : g_nl g ≤ g_nl g := Nat.le_refl _
  have fin : ∀ {s k}, oP nt N M res par ret E f (g_nl g) s g k → oQ nt N M res par ret E (f + 1) g k := fun q => q.2.mono (Nat.le_succ _)
  unfold w_an
  simp only
  by_cases c6 : nK nt n = 7
  · rw [if_pos c6]
    obtain ⟨y1, y2, b, tb, -⟩ := wE_store hT hn hd c6
    obtain ⟨v1, v2⟩ := oP.vr v (Or.inr c6)
    have ht : 0 < nT nt (nA nt n) := (hT.t y1).2 (Or.inl (by rw [y2]; decide))
    have s1 := (s0.okk (P := g_pl g (nA nt n).toNatClampNeg ≠ none) v2).rc hm (R _ b) (O _ b) (v.b (sp_pb_k c6 (by decide) (nd_n1 b.1))) m' (by omega)
    rw [tb] at s1
    refine fin (s1.st hN ht (hT.t y1).1 ?_ (by omega))
    have : w_pl (rec (nB nt n) 0 0 (w_pk (nA nt n) g)) (nA nt n) = w_pl g (nA nt n) := congrArg (fun q : Nat → Option Nat => (q (nA nt n).toNatClampNeg).getD 0) s1.1.1.1.2.2.2.2.2.2
    rw [this]; exact v1
  rw [if_neg c6]
  by_cases c8 : nK nt n = 9
  · rw [if_pos c8]
    obtain ⟨x1, x2, x3, b, tb, -⟩ := wE_put hT hn hd c8
    exact fin (oP_pe9 hN hT R O a hq hm x1 x2 x3 b tb (v.a (sp_pa_k c8 (by decide) (nd_n1 x1))) (v.b (sp_pb_k c8 (by decide) (nd_n1 b.1))) m' (by omega) false)
  rw [if_neg c8]
  by_cases c12 : nK nt n = 34
  · rw [if_pos c12]
    obtain ⟨x1, x2, x3, x4, x5, -⟩ := wE_stp hT hn hd c12
    exact fin (oP_stp hN hT R O a hq hm x1 x2 x3 ⟨x4, x5⟩ (v.a (sp_pa_k c12 (by decide) (nd_n1 x1))) m' (by omega) false)
  rw [if_neg c12]
  by_cases c2 : 35 ≤ nK nt n ∧ nK nt n ≤ 45
  · rw [if_pos c2]
    obtain ⟨x1, x2, x3, x4, x5, b, tb, -⟩ := wE_chg hT hn hd c2.1 c2.2
    have ka : sp_hA (nK nt n) = true ∧ sp_hB (nK nt n) = true := i_hA (a := 35) (c := 10) c2.1 c2.2 rfl rfl (by decide)
    refine fin (oP_chg hN hT R O a hq hm x1 x2 x3 ⟨x4, x5⟩ (fun _ => b) (fun _ => ?_) (fun q => absurd q (nd_n1 b.1)) (i_opr c2.1 c2.2).1 (i_opr c2.1 c2.2).2 (fun z => wE_chg2 hT hn (i_40 c2.1 c2.2 z) c2.2) (v.a (sp_pa_of ka.1 (nd_n1 x1))) (fun _ => v.b (sp_pb_of ka.2 (nd_n1 b.1))) m' (by omega) false)
    rw [tb, i_op c2.1 c2.2]
    by_cases q : 43 ≤ nK nt n
    · rw [if_pos q, decide_eq_true q]; rfl
    · rw [if_neg q, decide_eq_false q]; rfl
  rw [if_neg c2]
  have w := wP_vl hT R hq (Nat.le_refl (g_nl g)) hE
  have o := oQ_vl hN hT R O a hq hE v m hs
  by_cases c0 : nT nt n = 0
  · rw [if_pos c0]; exact o
  · rw [if_neg c0]
    have s : oP nt N M res par ret E (f + 1) (g_nl g) (w_tl (nT nt n) ++ g_st g) g (w_vl nt rec n g) := ⟨w, o⟩
    have e86 : (7 : Nat) ≠ 1 ∧ (7 : Nat) ≠ 15 ∧ (7 : Nat) ≠ 16 := by decide
    have e : [] ++ (w_tl (nT nt n) ++ g_st g).drop (w_tl (nT nt n)).length = g_st g := by rw [List.drop_left]; rfl
    refine (oP.em hN s rfl rfl (fun po => oTy.of ?_ (by decide) (by decide) (by decide)) (by rw [e]; omega) (by rw [List.length_append]; omega)).2
    rw [e]
    have t8 := (hT.t hn).1
    refine ⟨rfl, ?_⟩
    rcases w_tl_c (by omega) t8 with ⟨-, c | c⟩ | ⟨c, c2⟩
    · rw [c.1]; exact Or.inl ⟨rfl, _, c.2, rfl⟩
    · rw [c]; exact Or.inr (Or.inl ⟨rfl, _, rfl⟩)
    · rw [c2]; exact Or.inl ⟨rfl, _, by unfold w_arr5 at c; omega, rfl⟩
/-- every value, every expression alone, every condition -/
theorem oV_all (hN : N ≤ 64) (hT : wTb nt N M res par) : ∀ (f : Nat) (n : Int32), wE nt N f n → oSh nt N M res par ret E (wV nt f) f n := by
  intro f
  induction f with
  | zero => intro n hn; have := (hT.d hn.1).1; have := hn.2.2; omega
  | succ f ih =>
    intro n hE g B hq hi v m hs
    have R := wV_sh hT f
    exact ⟨oQ_vl hN hT R ih hi hq hE v m hs, oQ_an hN hT R ih hi hq hE v m hs, fun ht l hl => ⟨oQ_cd hN hT R ih hi hq hE v m.1 (by have := m.2.1; omega) m.2.2 hs ht true hl, oQ_cd hN hT R ih hi hq hE v m.1 (by have := m.2.1; omega) m.2.2 hs ht false hl⟩⟩
end
