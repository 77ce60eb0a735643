/-! CodeWriter: statements: ways out, the walks that write nothing -/
theorem z_at_app : ∀ (A B : List wSl) (j : Nat), z_at (A ++ B) (A.length + j) = z_at B j := by
  intro A
  induction A with
  | nil => intro B j; show z_at B (0 + j) = _; rw [Nat.zero_add]
  | cons s r ih => intro B j; rw [show (s :: r).length + j = (r.length + j) + 1 by simp only [List.length_cons]; omega]; exact ih B j
/-- how many of the first k have an end -/
def y_ends : Nat → List wSl → Nat
  | 0, _ => 0
  | _ + 1, [] => 0
  | k + 1, s :: r => (if 3 ≤ s.2.2.1 then 1 else 0) + y_ends k r
theorem y_ends_le : ∀ (k : Nat) (V : List wSl), y_ends k V ≤ k := by
  intro k
  induction k with
  | zero => intro V; exact Nat.le_refl _
  | succ k ih =>
    intro V
    cases V with
    | nil => exact Nat.zero_le _
    | cons s r =>
      have := ih r
      show (if 3 ≤ s.2.2.1 then 1 else 0) + y_ends k r ≤ k + 1
      split <;> omega
theorem y_ends_any : ∀ (V : List wSl), (V.map (fun s => s.2.2)).any (fun c => Nat.ble 3 c.1) = decide (0 < y_ends V.length V) := by
  intro V
  induction V with
  | nil => rfl
  | cons s r ih =>
    show (Nat.ble 3 s.2.2.1 || (r.map (fun s => s.2.2)).any (fun c => Nat.ble 3 c.1)) = decide (0 < (if 3 ≤ s.2.2.1 then 1 else 0) + y_ends r.length r)
    rw [ih]
    by_cases q : 3 ≤ s.2.2.1
    · rw [if_pos q, Nat.ble_eq_true_of_le q]
      symm; rw [Bool.true_or]; exact decide_eq_true (by omega)
    · rw [if_neg q, Nat.zero_add]
      have : Nat.ble 3 s.2.2.1 = false := by rw [← Bool.not_eq_true, Nat.ble_eq]; exact q
      rw [this, Bool.false_or]
/-- the facts of contexts that the walks read -/
def y_cxs (x : mj_X) (V : List wSl) : Prop := ∀ s, s ∈ V → x.1 50 s.1 = nI s.2.2.1 ∧ x.1 51 s.1 = s.2.1 ∧ s.2.2.1 ≤ 4
section
variable {nt : sp_NT} {N M : Nat} {P : yP} {hp : Nat} {H V : List wSl} {O : List (Int32 × List (Nat × Nat))} {K u sb : Nat} {C : Nat → Prop} {o : Option Int32} {lm lm' lm1 : Nat → Nat} {lv lv' lv1 ct ct' : Nat → Bool} {x y x1 : mj_X} {g G : wG} {res par : Nat → Int32} {f : Nat} {n : Int32}
theorem Y2.cxs (h : Y2 nt N P hp H O K u sb C o V lm lv ct x g) : y_cxs x V := fun s hs => h.sk (s := s) (List.mem_append.mpr (Or.inr hs))
theorem k_cnt {d : Nat} {to a2 a3 a4 : Int32} (hK : K ≤ 2000) : ∀ (k : Nat) (V : List wSl) (hr : Int32) (K' cnt : Nat), k ≤ V.length → to = z_at V k → z_ch hr K' V → K' ≤ K → y_cxs x V → rX0_leave d (15, [some (.ref 0), some (.int to), some (.int a2), some (.int a3), some (.int a4), some (.int (nI cnt)), some (.int hr), none, none, none, none, none, none], [], x) = rX0_leave d (15, [some (.ref 0), some (.int to), some (.int a2), some (.int a3), some (.int a4), some (.int (nI (cnt + y_ends k V))), some (.int to), none, none, none, none, none, none], [], x) := by
  intro k
  induction k with
  | zero =>
    intro V hr K' cnt _ hto hch _ _
    rw [show hr = to by rw [hto]; exact hch.at0]; rfl
  | succ k ih =>
    intro V hr K' cnt hk hto hch hKK hcx
    cases V with
    | nil => simp at hk
    | cons s r =>
      obtain ⟨c1, c2, c3⟩ := hch
      subst c1
      rw [z_at_s] at hto
      have hs2 : s.1 < 2000 := by omega
      obtain ⟨e1, e2, e3⟩ := hcx s (by simp)
      have hk' : k ≤ r.length := by simpa using hk
      have hr' : y_cxs x r := fun t ht => hcx t (List.mem_cons_of_mem _ ht)
      rw [bX0_leave_15, if_neg (by rw [hto]; exact z_at_ne c3 (by omega)), n2 hs2, n2 hs2, nI_clamp (by omega), e1]
      have go : ∀ i : Nat, i = (if 3 ≤ s.2.2.1 then 1 else 0) → rX0_leave d (50, [some (.ref 0), some (.int to), some (.int a2), some (.int a3), some (.int a4), some (.int (nI cnt)), some (.int (nI s.1)), none, none, none, none, none, none], [.int (nI i), .int (nI cnt)], x) = rX0_leave d (15, [some (.ref 0), some (.int to), some (.int a2), some (.int a3), some (.int a4), some (.int (nI (cnt + y_ends (k + 1) (s :: r)))), some (.int to), none, none, none, none, none, none], [], x) := by
        intro i hi
        rw [bX0_leave_50, n2 hs2, nI_clamp (by omega), e2, nI_add, ih r s.2.1 s.1 (cnt + i) hk' hto c3 (by omega) hr']
        have : cnt + i + y_ends k r = cnt + y_ends (k + 1) (s :: r) := by
          show _ = cnt + ((if 3 ≤ s.2.2.1 then 1 else 0) + y_ends k r); omega
        rw [this]
      by_cases q3 : s.2.2.1 = 3
      · rw [if_pos (by rw [q3]; rfl)]
        exact go 1 (by rw [if_pos (by omega)])
      · rw [if_neg (show ¬ nI s.2.2.1 = (3 : Int32) from fun e => q3 ((nI_eq (b := 3) (by omega) (by omega)).mp e))]
        by_cases q4 : s.2.2.1 = 4
        · rw [if_pos (by rw [q4]; rfl)]
          exact go 1 (by rw [if_pos (by omega)])
        · rw [if_neg (show ¬ nI s.2.2.1 = (4 : Int32) from fun e => q4 ((nI_eq (b := 4) (by omega) (by omega)).mp e))]
          exact go 0 (by rw [if_neg (by omega)])
/-- nothing is done when it was much -/
theorem k_aloneM {d : Nat} (hd : 2 ≤ d) (h0 : ¬ x.1 0 29 = 0) (v : Int32) : kX0 d 75 [.ref 0, .int v] x = some (none, mj_wI x 0 32 (x.1 0 32)) := by
  obtain ⟨d, rfl⟩ : ∃ e, d = (e + 1) + 1 := ⟨d - 2, by omega⟩
  rw [eX0_actAlone]
  have e : kX0 (d + 1) 34 [.ref 0, .int v] x = some (none, x) := by
    rw [eX0_act, if_neg h0]
    by_cases q : x.1 0 30 = 0
    · rw [if_pos q]
    · rw [if_neg q]
  rw [e, mj_rV_k]
theorem k_finM {d : Nat} (hd : 5 ≤ d) (h0 : ¬ x.1 0 29 = 0) (a1 a2 a3 a4 : Int32) : kX0 d 83 [.ref 0, .int a1, .int a2, .int a3, .int a4] x = some (none, x) ∨ kX0 d 83 [.ref 0, .int a1, .int a2, .int a3, .int a4] x = some (none, mj_wI x 0 32 (x.1 0 32)) := by
  obtain ⟨d, rfl⟩ : ∃ e, d = e + 1 := ⟨d - 1, by omega⟩
  rw [eX0_finish]
  by_cases q : x.1 0 30 = 0
  · rw [if_pos q]; exact Or.inl rfl
  · rw [if_neg q]
    by_cases q2 : a2 = 0
    · rw [if_pos q2, k_aloneM (by omega) h0, mj_rV_k]; exact Or.inr rfl
    · rw [if_neg q2, c_ldq (by omega) (Or.inr h0), mj_rV_k, c_codeq (by omega) (Or.inr h0), mj_rV_k]; exact Or.inl rfl
/-- the end of what is guarded -/
theorem k_end {d : Nat} {c : wC} {a1 a2 va3 va4 : Int32} (hd : 6 * f + 262 ≤ d) (hf : f ≤ 200) (h3 : 3 ≤ c.1) (h4 : c.1 ≤ 4) (ha2 : a2 = sp_b (decide (c.1 = 4))) (hcok : w_cok nt N c) (hT : wTb nt N M res par) (R : ∀ m, wA nt N 40 m → kS nt N f m) (hC : ∀ c, c ∈ g_cx g → w_cok nt N c) (h : Y2 nt N P hp H O K (200 - f) (sb + 1) C none V lm lv ct x g)
    (hx : x.1 0 29 = 0 → (c.1 = 3 → va4 = c.2.1) ∧ (c.1 = 4 → va3 = c.2.1)) (hok : g_ok (w_end (wS nt f) c g)) :
    KS nt N P hp H O K (200 - f) (sb + 1) (g_nl g) (z_skl V) C ct g (kX0 d 83 [.ref 0, .int a1, .int a2, .int va3, .int va4] x) x lm lv (w_end (wS nt f) c g) := by
  obtain ⟨d, rfl⟩ : ∃ e, d = e + 1 := ⟨d - 1, by omega⟩
  rw [eX0_finish]
  by_cases q4 : c.1 = 4
  · have e : w_end (wS nt f) c g = w_em (16, 195, 0, 0, []) 1 [] (w_ld 5 c.2.1.toNatClampNeg [11] g) := by unfold w_end; rw [if_pos q4]
    obtain ⟨p, p1, p2⟩ := hcok.2 q4
    have p3 : c.2.1.toNatClampNeg = p := by rw [p2]; exact nI_clamp (by omega)
    rw [p3] at e
    rw [e] at hok ⊢
    by_cases a0 : x.1 0 30 = 0
    · rw [if_pos a0]
      by_cases h0 : x.1 0 29 = 0
      · have hq := (h.dead (Or.inl a0) h0).2.2
        have e1 : w_ld 5 p [11] g = g := by unfold w_ld w_em; rw [hq]; rfl
        have e2 : w_em (16, 195, 0, 0, []) 1 [] g = g := by unfold w_em; rw [hq]; rfl
        rw [e1, e2]; exact KS.id_ h
      · exact KS.skip h h0 (((wM.rf g).ld _ _ _).em _ _ _) (Nat.le_refl _)
    · have hb : ¬ a2 = 0 := by rw [ha2, q4]; decide
      rw [if_neg a0, if_neg hb]
      refine KS.b (Nat.le_refl _) (Nat.le_refl _) (KS.ldn (d := d) (t := 5) (q := p) (on := [11]) (by omega) (by decide) (by decide) h (fun z => ⟨by rw [(hx z).2 q4, p2], p1⟩)) (fun V1 C1 lm1 lv1 ct1 x1 q1 v1 c1 l1 f1 mm1 => ?_)
      rw [← v1]
      exact (KS.e1 (d := d) (i := (16, 195, 0, 0, [])) (off := 1) (on := []) (cc := 195) (by omega) q1 ⟨fun _ => rfl, fun _ _ => rfl⟩).end_.le ((wM.rf g).ld _ _ _).nl
  · have e : w_end (wS nt f) c g = w_aln (wS nt f) c.2.1 g := by unfold w_end; rw [if_neg q4]
    rw [e] at hok ⊢
    have hm : wM g (w_aln (wS nt f) c.2.1 g) := (wM.rf g).aln (wS_mono nt f) _
    have ha0 : a2 = 0 := by rw [ha2, decide_eq_false q4]; rfl
    by_cases a0 : x.1 0 30 = 0
    · rw [if_pos a0]
      by_cases h0 : x.1 0 29 = 0
      · have hq := (h.dead (Or.inl a0) h0).2.2
        have e1 : wS nt f c.2.1 g = g := by
          cases f with
          | zero => show (bif w_q g then g else _) = g; rw [hq]; rfl
          | succ f => show (bif w_q g then g else _) = g; rw [hq]; rfl
        have e2 : w_aln (wS nt f) c.2.1 g = s_nx (g_nx g) (s_L ((g_L g).take (g_nx g)) g) := by unfold w_aln; simp only [e1]
        rw [e2]
        have h' : Y2 nt N P hp H O K (200 - f) (sb + 1) C none V lm lv ct x (s_nx (g_nx g) (s_L ((g_L g).take (g_nx g)) g)) := h
        exact KS.ret h' (yfr.rf _ _ _) (fun w => ⟨w, yT.rf rfl rfl rfl⟩)
      · exact KS.skip h h0 hm (Nat.le_refl _)
    · rw [if_neg a0, if_pos ha0]
      obtain ⟨ff, hA⟩ := hcok.1 (by omega)
      have hA40 : wA nt N 40 c.2.1 := ⟨hA.1, hA.2.1, (hT.d hA.1).2⟩
      by_cases h0 : x.1 0 29 = 0
      · rw [(hx h0).1 (by omega)]
        exact (KS.alone (R _ hA40) (d := d) (by omega) (by omega) h hC hok).end_
      · rw [k_aloneM (by omega) h0, mj_rV_k]
        have q : Y2 nt N P hp H O K (200 - f) (sb + 1) C none V lm lv ct (mj_wI x 0 32 (x.1 0 32)) (s_nx (g_nx g) g) := h.nx (fun z => absurd z h0)
        have hm' : wM (s_nx (g_nx g) g) (w_aln (wS nt f) c.2.1 g) := hm
        exact (KS.skip q h0 hm' (Nat.le_refl _)).pre ((yfr.rf _ _ x).w _ rfl) (fun w => absurd w h0)
/-- what was left goes on behind: whatever is marked -/
theorem k_on {d pf : Nat} {to a2 a3 a4 a5 a6 a7 a8 a9 a10 : Int32} : ∀ (k : Nat) (V : List wSl) (hr : Int32) (K' : Nat) (a11 : Int32) (x : mj_X), k ≤ V.length → to = z_at V k → z_ch hr K' V → K' ≤ 2000 → y_cxs x V →
    ∃ y, rX0_leave d (375, [some (.ref 0), some (.int to), some (.int a2), some (.int a3), some (.int a4), some (.int a5), some (.int a6), some (.int a7), some (.int a8), some (.int a9), some (.int a10), some (.int a11), some (.int hr)], [], x) = some (none, y) ∧ yfr y58 pf x y ∧ y.2 = x.2 := by
  intro k
  induction k with
  | zero =>
    intro V hr K' a11 x _ hto hch _ _
    rw [bX0_leave_375, if_pos (by rw [hto]; exact hch.at0)]
    exact ⟨x, rfl, yfr.rf _ _ _, rfl⟩
  | succ k ih =>
    intro V hr K' a11 x hk hto hch hK hcx
    cases V with
    | nil => simp at hk
    | cons s r =>
      obtain ⟨c1, c2, c3⟩ := hch
      subst c1
      rw [z_at_s] at hto
      have hs2 : s.1 < 2000 := by omega
      obtain ⟨e1, e2, e3⟩ := hcx s (by simp)
      have hk' : k ≤ r.length := by simpa using hk
      have hr' : y_cxs x r := fun t ht => hcx t (List.mem_cons_of_mem _ ht)
      rw [bX0_leave_375, if_neg (by rw [hto]; exact z_at_ne c3 (by omega))]
      by_cases q11 : a11 = 0
      · rw [if_pos q11]; exact ⟨x, rfl, yfr.rf _ _ _, rfl⟩
      rw [if_neg q11, n2 hs2, n2 hs2, nI_clamp (by omega)]
      have go : ∀ z : mj_X, yfr y58 pf x z → z.2 = x.2 → y_cxs z r → z.1 51 s.1 = s.2.1 → ∃ y, rX0_leave d (408, [some (.ref 0), some (.int to), some (.int a2), some (.int a3), some (.int a4), some (.int a5), some (.int a6), some (.int a7), some (.int a8), some (.int a9), some (.int a10), some (.int a11), some (.int (nI s.1))], [], z) = some (none, y) ∧ yfr y58 pf x y ∧ y.2 = x.2 := by
        intro z fz z2 zc z51
        rw [bX0_leave_408, n2 hs2, n2 hs2, nI_clamp (by omega), z51]
        by_cases q9 : nI s.1 = a9
        · rw [if_pos q9]
          obtain ⟨y, y1, y2, y3⟩ := ih r s.2.1 s.1 0 z hk' hto c3 (by omega) zc
          exact ⟨y, y1, fz.tr y2, y3.trans z2⟩
        · rw [if_neg q9]
          obtain ⟨y, y1, y2, y3⟩ := ih r s.2.1 s.1 1 z hk' hto c3 (by omega) zc
          exact ⟨y, y1, fz.tr y2, y3.trans z2⟩
      by_cases q50 : x.1 50 s.1 < 2
      · rw [if_pos q50]; exact go x (yfr.rf _ _ _) rfl hr' e2
      · rw [if_neg q50]
        exact go (mj_wI x 58 s.1 (x.1 0 28)) ((yfr.rf _ _ x).w _ rfl) rfl hr' e2
/-- what was left goes on behind -/
theorem k_onE {d pf : Nat} {to a2 a3 a4 a5 a6 a7 a8 a9 a10 : Int32} : ∀ (A B : List wSl) (hr : Int32) (K' j : Nat) (x : mj_X), j ≤ B.length → to = z_at (A ++ B) (A.length + j) → z_ch hr K' (A ++ B) → K' ≤ 2000 → y_cxs x (A ++ B) → (A = [] → hr = to) → (∀ l, A.getLast? = some l → a9 = nI l.1) →
    ∃ y, rX0_leave d (375, [some (.ref 0), some (.int to), some (.int a2), some (.int a3), some (.int a4), some (.int a5), some (.int a6), some (.int a7), some (.int a8), some (.int a9), some (.int a10), some (.int (1 : Int32)), some (.int hr)], [], x) = some (none, y) ∧ yfr y58 pf x y ∧ y.2 = x.2 ∧ (∀ t, t ∈ A → 2 ≤ t.2.2.1 → y.1 58 t.1 = x.1 0 28) ∧ (∀ i, (∀ t, t ∈ A → t.1 ≠ i) → y.1 58 i = x.1 58 i) := by
  intro A
  induction A with
  | nil =>
    intro B hr K' j x _ _ _ _ _ h0 _
    rw [bX0_leave_375, if_pos (h0 rfl)]
    exact ⟨x, rfl, yfr.rf _ _ _, rfl, fun t ht => absurd ht (by simp), fun _ _ => rfl⟩
  | cons s r ih =>
    intro B hr K' j x hj hto hch hK hcx _ hl
    have hch : z_ch hr K' (s :: (r ++ B)) := hch
    obtain ⟨c1, c2, c3⟩ := hch
    subst c1
    have hto : to = z_at (r ++ B) (r.length + j) := by
      rw [hto, show (s :: r).length + j = (r.length + j) + 1 by simp only [List.length_cons]; omega]; rfl
    have hs2 : s.1 < 2000 := by omega
    obtain ⟨e1, e2, e3⟩ := hcx s (by simp)
    have hr' : y_cxs x (r ++ B) := fun t ht => hcx t (List.mem_cons_of_mem _ ht)
    rw [bX0_leave_375, if_neg (by rw [hto]; exact z_at_ne c3 (by omega)), if_neg (by decide), n2 hs2, n2 hs2, nI_clamp (by omega), e1]
    -- from 408 on
    have go : ∀ z : mj_X, yfr y58 pf x z → z.2 = x.2 → (∀ k, k ≠ 58 → z.1 k = x.1 k) → (2 ≤ s.2.2.1 → z.1 58 s.1 = x.1 0 28) → (∀ i, i ≠ s.1 → z.1 58 i = x.1 58 i) → ∃ y, rX0_leave d (408, [some (.ref 0), some (.int to), some (.int a2), some (.int a3), some (.int a4), some (.int a5), some (.int a6), some (.int a7), some (.int a8), some (.int a9), some (.int a10), some (.int (1 : Int32)), some (.int (nI s.1))], [], z) = some (none, y) ∧ yfr y58 pf x y ∧ y.2 = x.2 ∧ (∀ t, t ∈ s :: r → 2 ≤ t.2.2.1 → y.1 58 t.1 = x.1 0 28) ∧ (∀ i, (∀ t, t ∈ s :: r → t.1 ≠ i) → y.1 58 i = x.1 58 i) := by
      intro z fz z2 zE zs zo
      have zc : y_cxs z (r ++ B) := fun t ht => by
        have := hr' t ht
        rw [zE 50 (by decide), zE 51 (by decide)]; exact this
      have z51 : z.1 51 s.1 = s.2.1 := by rw [zE 51 (by decide)]; exact e2
      rw [bX0_leave_408, n2 hs2, n2 hs2, nI_clamp (by omega), z51]
      cases r with
      | nil =>
        have h9 : a9 = nI s.1 := hl s rfl
        rw [if_pos h9.symm, bX0_leave_375]
        refine ⟨z, ?_, fz, z2, fun t ht h2 => ?_, fun i hi => zo i (fun q => hi s (by simp) q.symm)⟩
        · by_cases q : s.2.1 = to
          · rw [if_pos q]
          · rw [if_neg q, if_pos rfl]
        · rcases List.mem_cons.mp ht with rfl | q
          · exact zs h2
          · cases q
      | cons s2 r2 =>
        obtain ⟨l, hl1⟩ : ∃ l, (s2 :: r2).getLast? = some l := ⟨_, List.getLast?_eq_some_getLast (by simp)⟩
        have hlm : l ∈ s2 :: r2 := List.mem_of_getLast? hl1
        have h9 : a9 = nI l.1 := hl l (by rw [List.getLast?_cons_cons]; exact hl1)
        have hlt : ∀ t, t ∈ s2 :: r2 → t.1 < s.1 := fun t ht => c3.lt t (List.mem_append.mpr (Or.inl ht))
        have := hlt l hlm
        rw [if_neg (show ¬ nI s.1 = a9 by rw [h9]; exact fun e => by have := (nI_eq (by omega) (by omega)).mp e; omega)]
        obtain ⟨y, y1, y2, y3, y4, y5⟩ := ih B s.2.1 s.1 j z hj hto c3 (by omega) zc (fun q => by cases q) (fun l' hl' => by rw [h9]; rw [hl1] at hl'; injection hl' with hl'; rw [hl'])
        refine ⟨y, y1, fz.tr y2, y3.trans z2, fun t ht h2 => ?_, fun i hi => ?_⟩
        · rcases List.mem_cons.mp ht with rfl | q
          · rw [y5 t.1 (fun t' ht' q => by have := hlt t' ht'; omega)]; exact zs h2
          · rw [y4 t q h2, zE 0 (by decide)]
        · rw [y5 i (fun t ht => hi t (List.mem_cons_of_mem _ ht))]
          exact zo i (fun q => hi s (by simp) q.symm)
    by_cases q2 : s.2.2.1 < 2
    · rw [if_pos (show nI s.2.2.1 < (2 : Int32) from nI_lt (b := 2) (by omega) (by omega))]
      exact go x (yfr.rf _ _ _) rfl (fun _ _ => rfl) (fun q => by omega) (fun _ _ => rfl)
    · rw [if_neg (show ¬ nI s.2.2.1 < (2 : Int32) from nI_nlt (b := 2) (by omega) (by omega))]
      refine go (mj_wI x 58 s.1 (x.1 0 28)) ((yfr.rf _ _ x).w _ rfl) rfl (fun k hk => funext fun j => by rw [mj_wI_1, if_neg hk]) (fun _ => pk_us) (fun i hi => pk_un hi)
end
