/-! CodeWriter: statements: ways out, the ends -/
theorem wM.cons1 {c : wC} {g h : wG} (m : wM g h) : wM (s_cx (c :: g_cx g) g) (s_cx (c :: g_cx h) h) := ⟨m.1, m.2.1, m.2.2.1, m.2.2.2.1, m.2.2.2.2.1, ⟨wK1.rf c, m.2.2.2.2.2.1⟩, m.2.2.2.2.2.2⟩
section
variable {nt : sp_NT} {N M : Nat} {P : yP} {hp : Nat} {H V : List wSl} {O : List (Int32 × List (Nat × Nat))} {K u sb : Nat} {C : Nat → Prop} {o : Option Int32} {lm lm' lm1 : Nat → Nat} {lv lv' lv1 ct ct' : Nat → Bool} {x y x1 : mj_X} {g G : wG} {res par : Nat → Int32} {f : Nat} {n : Int32}
theorem y32w {P : yP} {K : Nat} {x : mj_X} {v : Int32} : yfr (yw2 P K) (p_pf P) x (mj_wI x 0 32 v) := (yfr.rf _ _ x).w _ rfl
theorem Y2.nxM {v : Int32} (h : Y2 nt N P hp H O K u sb C o V lm lv ct x g) (h0 : ¬ x.1 0 29 = 0) : Y2 nt N P hp H O K u sb C o V lm lv ct (mj_wI x 0 32 v) g := by
  have q : Y2 nt N P hp H O K u sb C o V lm lv ct (mj_wI x 0 32 v) (s_nx (g_nx g) g) := h.nx (fun z => absurd z h0)
  exact q
/-- the end of one context when it was much -/
theorem k_endM {d : Nat} {s : wSl} {w to a2 a3 a4 a5 a6 a7 a8 a9 a10 : Int32} (hd : 5 ≤ d) (h : Y2 nt N P hp H O K u sb C (some w) V lm lv ct x g) (hs : s ∈ V) (h0 : ¬ x.1 0 29 = 0) :
    ∃ x2 b10, rX0_leave d (156, [some (.ref 0), some (.int to), some (.int a2), some (.int a3), some (.int a4), some (.int a5), some (.int a6), some (.int a7), some (.int a8), some (.int a9), some (.int a10), some (.int (nI s.1)), none], [], x) = rX0_leave d (128, [some (.ref 0), some (.int to), some (.int a2), some (.int a3), some (.int a4), some (.int a5), some (.int a6), some (.int a7), some (.int a8), some (.int (nI s.1)), some (.int b10), some (.int s.2.1), none], [], x2)
      ∧ Y2 nt N P hp H O K u sb C (some w) V lm lv ct x2 g ∧ yfr (yw2 P K) (p_pf P) x x2 ∧ ¬ x2.1 0 29 = 0 := by
  have hlo := h.low (s := s) (List.mem_append.mpr (Or.inr hs))
  have hs2 : s.1 < 2000 := by omega
  have fin : ∀ (y : mj_X) (b : Int32), Y2 nt N P hp H O K u sb C (some w) V lm lv ct y g → rX0_leave d (262, [some (.ref 0), some (.int to), some (.int a2), some (.int a3), some (.int a4), some (.int a5), some (.int a6), some (.int a7), some (.int a8), some (.int a9), some (.int b), some (.int (nI s.1)), none], [], y) = rX0_leave d (128, [some (.ref 0), some (.int to), some (.int a2), some (.int a3), some (.int a4), some (.int a5), some (.int a6), some (.int a7), some (.int a8), some (.int (nI s.1)), some (.int b), some (.int s.2.1), none], [], y) := by
    intro y b q
    rw [bX0_leave_262, n2 hs2, nI_clamp (by omega), (q.cxs s hs).2.1]
  have e178 : ∃ x2 b10, rX0_leave d (178, [some (.ref 0), some (.int to), some (.int a2), some (.int a3), some (.int a4), some (.int a5), some (.int a6), some (.int a7), some (.int a8), some (.int a9), some (.int a10), some (.int (nI s.1)), none], [], x) = rX0_leave d (128, [some (.ref 0), some (.int to), some (.int a2), some (.int a3), some (.int a4), some (.int a5), some (.int a6), some (.int a7), some (.int a8), some (.int (nI s.1)), some (.int b10), some (.int s.2.1), none], [], x2)
      ∧ Y2 nt N P hp H O K u sb C (some w) V lm lv ct x2 g ∧ yfr (yw2 P K) (p_pf P) x x2 ∧ ¬ x2.1 0 29 = 0 := by
    rw [bX0_leave_178, n2 hs2, n2 hs2, n2 hs2, nI_clamp (by omega)]
    obtain ⟨z, hz⟩ : ∃ z, z = mj_wI (mj_wI x 0 59 (x.1 51 s.1)) 0 32 (mj_max (x.1 56 s.1) a7) := ⟨_, rfl⟩
    have qz : Y2 nt N P hp H O K u sb C (some w) V lm lv ct z g := by
      rw [hz]; exact (h.set59 (v := x.1 51 s.1) (w := w) rfl).nxM h0
    have z0 : ¬ z.1 0 29 = 0 := by rw [hz]; exact h0
    have fz : yfr (yw2 P K) (p_pf P) x z := by rw [hz]; exact y59w.tr y32w
    rw [← hz]
    have e224 : ∀ s2 : Int32, ∃ x2 b10, rX0_leave d (224, [some (.ref 0), some (.int to), some (.int a2), some (.int a3), some (.int a4), some (.int a5), some (.int a6), some (.int a7), some (.int a8), some (.int a9), some (.int a10), some (.int (nI s.1)), none], [.int s2, .int (nI s.1), .ref 0], z) = rX0_leave d (128, [some (.ref 0), some (.int to), some (.int a2), some (.int a3), some (.int a4), some (.int a5), some (.int a6), some (.int a7), some (.int a8), some (.int (nI s.1)), some (.int b10), some (.int s.2.1), none], [], x2)
        ∧ Y2 nt N P hp H O K u sb C (some w) V lm lv ct x2 g ∧ yfr (yw2 P K) (p_pf P) x x2 ∧ ¬ x2.1 0 29 = 0 := by
      intro s2
      rw [bX0_leave_224, n2 hs2, n2 hs2, nI_clamp (by omega)]
      have step : ∀ y : mj_X, Y2 nt N P hp H O K u sb C (some w) V lm lv ct y g → yfr (yw2 P K) (p_pf P) x y → ¬ y.1 0 29 = 0 → ∃ x2 b10, (if (y.1 0 30) = 0 then rX0_leave d (262, [some (.ref 0), some (.int to), some (.int a2), some (.int a3), some (.int a4), some (.int a5), some (.int a6), some (.int a7), some (.int a8), some (.int a9), some (.int (0 : Int32)), some (.int (nI s.1)), none], [], y) else if (y.1 0 29) = 0 then rX0_leave d (262, [some (.ref 0), some (.int to), some (.int a2), some (.int a3), some (.int a4), some (.int a5), some (.int a6), some (.int a7), some (.int a8), some (.int a9), some (.int (1 : Int32)), some (.int (nI s.1)), none], [], y) else rX0_leave d (262, [some (.ref 0), some (.int to), some (.int a2), some (.int a3), some (.int a4), some (.int a5), some (.int a6), some (.int a7), some (.int a8), some (.int a9), some (.int (0 : Int32)), some (.int (nI s.1)), none], [], y)) = rX0_leave d (128, [some (.ref 0), some (.int to), some (.int a2), some (.int a3), some (.int a4), some (.int a5), some (.int a6), some (.int a7), some (.int a8), some (.int (nI s.1)), some (.int b10), some (.int s.2.1), none], [], x2)
          ∧ Y2 nt N P hp H O K u sb C (some w) V lm lv ct x2 g ∧ yfr (yw2 P K) (p_pf P) x x2 ∧ ¬ x2.1 0 29 = 0 := by
        intro y qy fy y0
        by_cases q30 : y.1 0 30 = 0
        · rw [if_pos q30]; exact ⟨y, 0, fin y 0 qy, qy, fy, y0⟩
        · rw [if_neg q30, if_neg y0]; exact ⟨y, 0, fin y 0 qy, qy, fy, y0⟩
      rcases k_finM hd z0 (nI s.1) s2 (z.1 57 s.1) (z.1 53 s.1) with e | e
      · rw [e, mj_rV_k]; exact step z qz fz z0
      · rw [e, mj_rV_k]; exact step _ (qz.nxM z0) (fz.tr y32w) z0
    split
    · exact e224 _
    · exact e224 _
  rw [bX0_leave_156, n2 hs2, n2 hs2, nI_clamp (by omega)]
  split
  · exact e178
  · split
    · exact e178
    · exact ⟨x, a10, fin x a10 h, h, yfr.rf _ _ _, h0⟩
theorem k_endsM {d : Nat} {w to a2 a3 a4 a5 a6 a7 a8 : Int32} (hd : 5 ≤ d) : ∀ (k : Nat) (r : List wSl) (hr : Int32) (K' : Nat) (a9 a10 : Int32) (x : mj_X), k ≤ r.length → to = z_at r k → z_ch hr K' r → (∀ t, t ∈ r → t ∈ V) → ¬ x.1 0 29 = 0 → Y2 nt N P hp H O K u sb C (some w) V lm lv ct x g →
    ∃ x' v b10 b11, rX0_leave d (128, [some (.ref 0), some (.int to), some (.int a2), some (.int a3), some (.int a4), some (.int a5), some (.int a6), some (.int a7), some (.int a8), some (.int a9), some (.int a10), some (.int hr), none], [], x) = rX0_leave d (278, [some (.ref 0), some (.int to), some (.int a2), some (.int a3), some (.int a4), some (.int a5), some (.int a6), some (.int a7), some (.int a8), some (.int v), some (.int b10), some (.int b11), none], [], x')
      ∧ Y2 nt N P hp H O K u sb C (some w) V lm lv ct x' g ∧ yfr (yw2 P K) (p_pf P) x x' ∧ ¬ x'.1 0 29 = 0 := by
  intro k
  induction k with
  | zero =>
    intro r hr K' a9 a10 x _ hto hch _ h0 h
    rw [bX0_leave_128, if_pos (by rw [hto]; exact hch.at0)]
    exact ⟨x, a9, a10, hr, rfl, h, yfr.rf _ _ _, h0⟩
  | succ k ih =>
    intro r hr K' a9 a10 x hk hto hch hV h0 h
    cases r with
    | nil => simp at hk
    | cons s r =>
      obtain ⟨c1, c2, c3⟩ := hch
      subst c1
      rw [z_at_s] at hto
      have hsV := hV s (by simp)
      have hlo := h.low (s := s) (List.mem_append.mpr (Or.inr hsV))
      have hs2 : s.1 < 2000 := by omega
      have hk' : k ≤ r.length := by simpa using hk
      rw [bX0_leave_128, if_neg (by rw [hto]; exact z_at_ne c3 (by omega))]
      by_cases q10 : a10 = 0
      · rw [if_pos q10]; exact ⟨x, a9, a10, nI s.1, rfl, h, yfr.rf _ _ _, h0⟩
      rw [if_neg q10, n2 hs2, nI_clamp (by omega)]
      have go : ∀ y : mj_X, Y2 nt N P hp H O K u sb C (some w) V lm lv ct y g → yfr (yw2 P K) (p_pf P) x y → ¬ y.1 0 29 = 0 → ∃ x' v b10 b11, rX0_leave d (156, [some (.ref 0), some (.int to), some (.int a2), some (.int a3), some (.int a4), some (.int a5), some (.int a6), some (.int a7), some (.int a8), some (.int a9), some (.int a10), some (.int (nI s.1)), none], [], y) = rX0_leave d (278, [some (.ref 0), some (.int to), some (.int a2), some (.int a3), some (.int a4), some (.int a5), some (.int a6), some (.int a7), some (.int a8), some (.int v), some (.int b10), some (.int b11), none], [], x')
          ∧ Y2 nt N P hp H O K u sb C (some w) V lm lv ct x' g ∧ yfr (yw2 P K) (p_pf P) x x' ∧ ¬ x'.1 0 29 = 0 := by
        intro y qy fy y0
        obtain ⟨x2, b10, e1, e2, e3, e4⟩ := k_endM (to := to) (a2 := a2) (a3 := a3) (a4 := a4) (a5 := a5) (a6 := a6) (a7 := a7) (a8 := a8) (a9 := a9) (a10 := a10) hd qy hsV y0
        obtain ⟨x3, v, b, b', f1, f2, f3, f4⟩ := ih r s.2.1 s.1 (nI s.1) b10 x2 hk' hto c3 (fun t ht => hV t (List.mem_cons_of_mem _ ht)) e4 e2
        exact ⟨x3, v, b, b', e1.trans f1, f2, (fy.tr e3).tr f3, f4⟩
      split
      · exact go x h (yfr.rf _ _ _) h0
      · obtain ⟨y, e1, e2, e3, e4⟩ := Y2.cutM (d := d) (by omega) h hsV h0
        rw [e1, mj_rV_k]; exact go y e2 e3 e4
set_option maxHeartbeats 4000000 in
theorem k_ends {d : Nat} (hd : 6 * f + 262 ≤ d) (hf : f ≤ 200) (hT : wTb nt N M res par) (R : ∀ m, wA nt N 40 m → kS nt N f m) {ab : Nat} (hab : ab ≤ 8000) {to a2 a3 a4 a5 a6 a8 : Int32} :
    ∀ (k hp : Nat) (H V : List wSl) (C : Nat → Prop) (lm : Nat → Nat) (lv ct : Nat → Bool) (x : mj_X) (g : wG) (hr a9 : Int32), k ≤ V.length → to = z_at V k → z_ch hr K V → (∀ c, c ∈ g_cx g → w_cok nt N c) → x.1 0 29 = 0 → w_q g = false → Y2 nt N P hp H O K (200 - f) (sb + 1) C (some hr) V lm lv ct x g → g_ok (w_ends (wS nt f) ab k g).1 →
      ∃ C' lm' lv' ct' x' v b10 b11, rX0_leave d (128, [some (.ref 0), some (.int to), some (.int a2), some (.int a3), some (.int a4), some (.int a5), some (.int a6), some (.int (nI ab)), some (.int a8), some (.int a9), some (.int (1 : Int32)), some (.int hr), none], [], x) = rX0_leave d (278, [some (.ref 0), some (.int to), some (.int a2), some (.int a3), some (.int a4), some (.int a5), some (.int a6), some (.int (nI ab)), some (.int a8), some (.int v), some (.int b10), some (.int b11), none], [], x')
        ∧ (∀ k, C k → C' k) ∧ (∀ l, l < g_nl g → lm' l = lm l ∧ lv' l = lv l ∧ ct' l = ct l) ∧ yfr (yw2 P K) (p_pf P) x x' ∧ (x'.1 0 29 = 0 → yT x g x' (w_ends (wS nt f) ab k g).1)
        ∧ ((x'.1 0 29 = 0 ∧ ∃ A B, Y2 nt N P (hp + yhp A) (A.reverse ++ H) O K (200 - f) (sb + 1) C' (some (z_at B 0)) B lm' lv' ct' x' (s_cx (B.map (fun s => s.2.2)) (w_ends (wS nt f) ab k g).1) ∧ g_cx (w_ends (wS nt f) ab k g).1 = A.map (fun s => s.2.2) ++ B.map (fun s => s.2.2) ∧ A.length = (w_ends (wS nt f) ab k g).2 ∧ z_skl (A ++ B) = z_skl V ∧ (k ≠ 0 → A ≠ []) ∧ (A = [] → v = a9) ∧ (∀ l, A.getLast? = some l → v = nI l.1))
          ∨ (¬ x'.1 0 29 = 0 ∧ ∃ V', Y2 nt N P hp H O K (200 - f) (sb + 1) C' (some hr) V' lm' lv' ct' x' (w_ends (wS nt f) ab k g).1 ∧ z_skl V' = z_skl V)) := by
  intro k
  induction k with
  | zero =>
    intro hp H V C lm lv ct x g hr a9 hk hto hch hC h0 hq h hok
    rw [bX0_leave_128, if_pos (by rw [hto]; exact hch.at0)]
    refine ⟨C, lm, lv, ct, x, a9, 1, hr, rfl, fun _ q => q, fun _ _ => ⟨rfl, rfl, rfl⟩, yfr.rf _ _ _, fun _ => yT.rf rfl rfl rfl, Or.inl ⟨h0, [], V, ?_, h.2.1.1.symm, rfl, rfl, fun q => absurd rfl q, fun _ => rfl, fun l hl => by cases hl⟩⟩
    rw [h.2.1.1, ← hch.at0]; exact h
  | succ k ih =>
    intro hp H V C lm lv ct x g hr a9 hk hto hch hC h0 hq h hok
    cases V with
    | nil => simp at hk
    | cons s r =>
      obtain ⟨hr1, hsK, hchr⟩ := hch
      subst hr1
      rw [z_at_s] at hto
      have hkr : k ≤ r.length := by simpa using hk
      have hlo := h.low (s := s) (by simp)
      have hs2 : s.1 < 2000 := by omega
      have hcx : g_cx g = s.2.2 :: r.map (fun s => s.2.2) := h.2.1.1.symm
      have tl : (g_cx g).tail = r.map (fun s => s.2.2) := by rw [hcx]; rfl
      have wsh : w_shut g = s_cx (r.map (fun s => s.2.2)) g := by unfold w_shut; rw [tl]
      have mAll := wM_ends (wS_mono nt f) ab (k + 1) g
      rw [w_ends_s hq hcx] at hok mAll ⊢
      obtain ⟨k1, k2, k3⟩ := h.cxs s (by simp)
      have hC1 : w_cok nt N s.2.2 := hC _ (by rw [hcx]; simp)
      have hCr : ∀ c, c ∈ r.map (fun s => s.2.2) → w_cok nt N c := fun c hc => hC c (by rw [hcx]; exact List.mem_cons_of_mem _ hc)
      rw [bX0_leave_128, if_neg (by rw [hto]; exact z_at_ne hchr (by omega)), if_neg (by decide), n2 hs2, nI_clamp (by omega), k1]
      -- from 156 on, once the piece is cut
      have from156 : ∀ (c1 : wC) (x1 : mj_X), wCs c1 = wCs s.2.2 → (if 2 ≤ s.2.2.1 then w_pc (g_it g).length s.2.2 else s.2.2) = c1 → yfr (yw2 P K) (p_pf P) x x1 → (x1.1 0 29 = 0 → yT x g x1 g) → Y2 nt N P (hp + (c_ps c1).length) ((s.1, s.2.1, c1) :: H) O K (200 - f) (sb + 1) C (some s.2.1) r lm lv ct x1 (s_cx (r.map (fun s => s.2.2)) g) →
          ∃ C' lm' lv' ct' x' v b10 b11, rX0_leave d (156, [some (.ref 0), some (.int to), some (.int a2), some (.int a3), some (.int a4), some (.int a5), some (.int a6), some (.int (nI ab)), some (.int a8), some (.int a9), some (.int (1 : Int32)), some (.int (nI s.1)), none], [], x1) = rX0_leave d (278, [some (.ref 0), some (.int to), some (.int a2), some (.int a3), some (.int a4), some (.int a5), some (.int a6), some (.int (nI ab)), some (.int a8), some (.int v), some (.int b10), some (.int b11), none], [], x')
            ∧ (∀ k, C k → C' k) ∧ (∀ l, l < g_nl g → lm' l = lm l ∧ lv' l = lv l ∧ ct' l = ct l) ∧ yfr (yw2 P K) (p_pf P) x x' ∧ (x'.1 0 29 = 0 → yT x g x' (s_cx (c1 :: g_cx (w_ends (wS nt f) ab k (if 3 ≤ s.2.2.1 then w_fin (wS nt f) ab s.2.2 (s_cx (r.map (fun s => s.2.2)) g) else s_cx (r.map (fun s => s.2.2)) g)).1) (w_ends (wS nt f) ab k (if 3 ≤ s.2.2.1 then w_fin (wS nt f) ab s.2.2 (s_cx (r.map (fun s => s.2.2)) g) else s_cx (r.map (fun s => s.2.2)) g)).1))
            ∧ ((x'.1 0 29 = 0 ∧ ∃ A B, Y2 nt N P (hp + yhp A) (A.reverse ++ H) O K (200 - f) (sb + 1) C' (some (z_at B 0)) B lm' lv' ct' x' (s_cx (B.map (fun s => s.2.2)) (w_ends (wS nt f) ab k (if 3 ≤ s.2.2.1 then w_fin (wS nt f) ab s.2.2 (s_cx (r.map (fun s => s.2.2)) g) else s_cx (r.map (fun s => s.2.2)) g)).1) ∧ c1 :: g_cx (w_ends (wS nt f) ab k (if 3 ≤ s.2.2.1 then w_fin (wS nt f) ab s.2.2 (s_cx (r.map (fun s => s.2.2)) g) else s_cx (r.map (fun s => s.2.2)) g)).1 = A.map (fun s => s.2.2) ++ B.map (fun s => s.2.2) ∧ A.length = (w_ends (wS nt f) ab k (if 3 ≤ s.2.2.1 then w_fin (wS nt f) ab s.2.2 (s_cx (r.map (fun s => s.2.2)) g) else s_cx (r.map (fun s => s.2.2)) g)).2 + 1 ∧ z_skl (A ++ B) = z_skl (s :: r) ∧ (k + 1 ≠ 0 → A ≠ []) ∧ (A = [] → v = a9) ∧ (∀ l, A.getLast? = some l → v = nI l.1))
              ∨ (¬ x'.1 0 29 = 0 ∧ ∃ V', Y2 nt N P hp H O K (200 - f) (sb + 1) C' (some (nI s.1)) V' lm' lv' ct' x' (s_cx (c1 :: g_cx (w_ends (wS nt f) ab k (if 3 ≤ s.2.2.1 then w_fin (wS nt f) ab s.2.2 (s_cx (r.map (fun s => s.2.2)) g) else s_cx (r.map (fun s => s.2.2)) g)).1) (w_ends (wS nt f) ab k (if 3 ≤ s.2.2.1 then w_fin (wS nt f) ab s.2.2 (s_cx (r.map (fun s => s.2.2)) g) else s_cx (r.map (fun s => s.2.2)) g)).1) ∧ z_skl V' = z_skl (s :: r))) := by
        intro c1 x1 hw hc1 f1 t1 q1
        have w1 : c1.1 = s.2.2.1 := by have := congrArg Prod.fst hw; exact this
        have w2 : c1.2.1 = s.2.2.2.1 := by have := congrArg (fun q => q.2.1) hw; exact this
        have w5 : c1.2.2.2.2.1 = s.2.2.2.2.2.2.1 := by have := congrArg (fun q => q.2.2.2.2) hw; exact this
        -- what is behind, when it was much already
        have mEx : ∀ g2 : wG, wM (s_cx (r.map (fun s => s.2.2)) g) g2 → wM (s_cx (r.map (fun s => s.2.2)) g) (w_ends (wS nt f) ab k g2).1 := fun g2 m => m.tr (wM_ends (wS_mono nt f) ab k g2)
        have much : ∀ (C2 : Nat → Prop) (lm2 : Nat → Nat) (lv2 ct2 : Nat → Bool) (x2 : mj_X) (r2 : List wSl) (g2 E : wG), ¬ x2.1 0 29 = 0 → z_skl r2 = z_skl r → Y2 nt N P (hp + (c_ps c1).length) ((s.1, s.2.1, c1) :: H) O K (200 - f) (sb + 1) C2 (some s.2.1) r2 lm2 lv2 ct2 x2 g2 → wM g2 E → ∃ V' lm' lv' ct', Y2 nt N P hp H O K (200 - f) (sb + 1) C2 (some (nI s.1)) V' lm' lv' ct' x2 (s_cx (c1 :: g_cx E) E) ∧ z_skl V' = z_skl (s :: r) ∧ ∀ l, l < g_nl g2 → lm' l = lm2 l ∧ lv' l = lv2 l ∧ ct' l = ct2 l := by
          intro C2 lm2 lv2 ct2 x2 r2 g2 E z0 hsk q2 mE
          have q3 := q2.seen (hchr.skl hsk) (fun z => absurd z z0)
          obtain ⟨V', lm', lv', ct', q4, v4, l4⟩ := q3.skip z0 (wM.cons1 (c := c1) mE)
          exact ⟨V', lm', lv', ct', q4, by rw [v4]; show (s.1, s.2.1) :: z_skl r2 = (s.1, s.2.1) :: z_skl r; rw [hsk], l4⟩
        have after : ∀ (V' : List wSl), z_skl V' = z_skl (s :: r) → ∃ s2 r2, V' = s2 :: r2 ∧ s2.1 = s.1 ∧ s2.2.1 = s.2.1 ∧ z_skl r2 = z_skl r := by
          intro V' hV'
          cases V' with
          | nil => simp [z_skl] at hV'
          | cons s2 r2 =>
            have e1 : (s2.1, s2.2.1) = (s.1, s.2.1) := by injection hV'
            have e2 : z_skl r2 = z_skl r := by injection hV'
            exact ⟨s2, r2, rfl, by have := congrArg (fun q : Nat × Int32 => q.1) e1; exact this, by have := congrArg (fun q : Nat × Int32 => q.2) e1; exact this, e2⟩
        by_cases z1 : ¬ x1.1 0 29 = 0
        · -- it was much at the cut
          have mE : wM (s_cx (r.map (fun s => s.2.2)) g) (w_ends (wS nt f) ab k (if 3 ≤ s.2.2.1 then w_fin (wS nt f) ab s.2.2 (s_cx (r.map (fun s => s.2.2)) g) else s_cx (r.map (fun s => s.2.2)) g)).1 := by
            refine mEx _ ?_
            split
            · exact (wM.rf _).fin (wS_mono nt f) ab _
            · exact wM.rf _
          obtain ⟨V', lm', lv', ct', q4, v4, l4⟩ := much C lm lv ct x1 r _ _ z1 rfl q1 mE
          obtain ⟨s2, r2, rfl, e1, e2, e3⟩ := after V' v4
          obtain ⟨x2, b10, p1, p2, p3, p4⟩ := k_endM (to := to) (a2 := a2) (a3 := a3) (a4 := a4) (a5 := a5) (a6 := a6) (a7 := nI ab) (a8 := a8) (a9 := a9) (a10 := 1) (s := s2) (d := d) (by omega) q4 (by simp) z1
          rw [e1, e2] at p1
          obtain ⟨x3, v, b, b', r1, r2', r3, r4⟩ := k_endsM (to := to) (a2 := a2) (a3 := a3) (a4 := a4) (a5 := a5) (a6 := a6) (a7 := nI ab) (a8 := a8) (d := d) (by omega) k r2 s.2.1 s.1 (nI s.1) b10 x2 (by have := congrArg List.length e3; simp [z_skl] at this; omega) (by rw [hto]; exact (z_at_skl e3 k).symm) (hchr.skl e3) (fun t ht => List.mem_cons_of_mem _ ht) p4 p2
          exact ⟨C, lm', lv', ct', x3, v, b, b', p1.trans r1, fun _ q => q, l4, (f1.tr p3).tr r3, fun z => absurd z r4, Or.inr ⟨r4, s2 :: r2, r2', v4⟩⟩
        have z1 : x1.1 0 29 = 0 := Decidable.not_not.mp z1
        have hm : (s.1, s.2.1, c1) ∈ ((s.1, s.2.1, c1) :: H) ++ r := by simp
        obtain ⟨j1, j2, j3⟩ := q1.sk hm
        have j1 : x1.1 50 s.1 = nI s.2.2.1 := by rw [← w1]; exact j1
        have j2 : x1.1 51 s.1 = s.2.1 := j2
        have sbx := (q1.ex z1).2.2.2.2.2.2.1 _ hm
        rw [bX0_leave_156, n2 hs2, n2 hs2, nI_clamp (by omega), j1]
        -- once the end is told
        have next : ∀ (C2 : Nat → Prop) (lm2 : Nat → Nat) (lv2 ct2 : Nat → Bool) (x2 : mj_X) (r2 : List wSl) (g2 : wG) (b2 : Int32), (∀ k, C k → C2 k) → (∀ l, l < g_nl g → lm2 l = lm l ∧ lv2 l = lv l ∧ ct2 l = ct l) → yfr (yw2 P K) (p_pf P) x x2 → (x2.1 0 29 = 0 → yT x g x2 g2) → z_skl r2 = z_skl r → wM (s_cx (r.map (fun s => s.2.2)) g) g2 → g_ok (w_ends (wS nt f) ab k g2).1 → (x2.1 0 29 = 0 → ((b2 = 1 ∧ w_q g2 = false) ∨ (b2 = 0 ∧ w_q g2 = true))) → Y2 nt N P (hp + (c_ps c1).length) ((s.1, s.2.1, c1) :: H) O K (200 - f) (sb + 1) C2 (some s.2.1) r2 lm2 lv2 ct2 x2 g2 →
            ∃ C' lm' lv' ct' x' v b10 b11, rX0_leave d (262, [some (.ref 0), some (.int to), some (.int a2), some (.int a3), some (.int a4), some (.int a5), some (.int a6), some (.int (nI ab)), some (.int a8), some (.int a9), some (.int b2), some (.int (nI s.1)), none], [], x2) = rX0_leave d (278, [some (.ref 0), some (.int to), some (.int a2), some (.int a3), some (.int a4), some (.int a5), some (.int a6), some (.int (nI ab)), some (.int a8), some (.int v), some (.int b10), some (.int b11), none], [], x')
              ∧ (∀ k, C k → C' k) ∧ (∀ l, l < g_nl g → lm' l = lm l ∧ lv' l = lv l ∧ ct' l = ct l) ∧ yfr (yw2 P K) (p_pf P) x x' ∧ (x'.1 0 29 = 0 → yT x g x' (s_cx (c1 :: g_cx (w_ends (wS nt f) ab k g2).1) (w_ends (wS nt f) ab k g2).1))
              ∧ ((x'.1 0 29 = 0 ∧ ∃ A B, Y2 nt N P (hp + yhp A) (A.reverse ++ H) O K (200 - f) (sb + 1) C' (some (z_at B 0)) B lm' lv' ct' x' (s_cx (B.map (fun s => s.2.2)) (w_ends (wS nt f) ab k g2).1) ∧ c1 :: g_cx (w_ends (wS nt f) ab k g2).1 = A.map (fun s => s.2.2) ++ B.map (fun s => s.2.2) ∧ A.length = (w_ends (wS nt f) ab k g2).2 + 1 ∧ z_skl (A ++ B) = z_skl (s :: r) ∧ (k + 1 ≠ 0 → A ≠ []) ∧ (A = [] → v = a9) ∧ (∀ l, A.getLast? = some l → v = nI l.1))
                ∨ (¬ x'.1 0 29 = 0 ∧ ∃ V', Y2 nt N P hp H O K (200 - f) (sb + 1) C' (some (nI s.1)) V' lm' lv' ct' x' (s_cx (c1 :: g_cx (w_ends (wS nt f) ab k g2).1) (w_ends (wS nt f) ab k g2).1) ∧ z_skl V' = z_skl (s :: r))) := by
          intro C2 lm2 lv2 ct2 x2 r2 g2 b2 hCC hl2 f2 t2 hsk m2 okE hb q2
          have h51 : x2.1 51 s.1 = s.2.1 := (q2.sk (s := (s.1, s.2.1, c1)) (by simp)).2.1
          have lenr : r2.length = r.length := by have := congrArg List.length hsk; simpa [z_skl] using this
          have chr2 : z_ch s.2.1 s.1 r2 := hchr.skl hsk
          have hto2 : to = z_at r2 k := by rw [hto]; exact (z_at_skl hsk k).symm
          have nl2 : g_nl g ≤ g_nl g2 := m2.nl
          rw [bX0_leave_262, n2 hs2, nI_clamp (by omega), h51]
          by_cases z2 : ¬ x2.1 0 29 = 0
          · obtain ⟨V', lm', lv', ct', q4, v4, l4⟩ := much C2 lm2 lv2 ct2 x2 r2 g2 (w_ends (wS nt f) ab k g2).1 z2 hsk q2 (wM_ends (wS_mono nt f) ab k g2)
            obtain ⟨s3, r3, rfl, e1, e2, e3⟩ := after V' v4
            obtain ⟨x3, v, b, b', r1, r2', r3', r4⟩ := k_endsM (to := to) (a2 := a2) (a3 := a3) (a4 := a4) (a5 := a5) (a6 := a6) (a7 := nI ab) (a8 := a8) (d := d) (by omega) k r3 s.2.1 s.1 (nI s.1) b2 x2 (by have := congrArg List.length e3; simp [z_skl] at this; omega) (by rw [hto]; exact (z_at_skl e3 k).symm) (hchr.skl e3) (fun t ht => List.mem_cons_of_mem _ ht) z2 q4
            refine ⟨C2, lm', lv', ct', x3, v, b, b', r1, hCC, fun l hl => ?_, f2.tr r3', fun z => absurd z r4, Or.inr ⟨r4, s3 :: r3, r2', v4⟩⟩
            have p := l4 l (by omega)
            have q := hl2 l hl
            exact ⟨p.1.trans q.1, p.2.1.trans q.2.1, p.2.2.trans q.2.2⟩
          have z2 : x2.1 0 29 = 0 := Decidable.not_not.mp z2
          have conv : ∀ (C3 : Nat → Prop) (lm3 : Nat → Nat) (lv3 ct3 : Nat → Bool) (x3 : mj_X) (A B : List wSl) (E : wG), Y2 nt N P ((hp + (c_ps c1).length) + yhp A) (A.reverse ++ ((s.1, s.2.1, c1) :: H)) O K (200 - f) (sb + 1) C3 (some (z_at B 0)) B lm3 lv3 ct3 x3 E → Y2 nt N P (hp + yhp ((s.1, s.2.1, c1) :: A)) (((s.1, s.2.1, c1) :: A).reverse ++ H) O K (200 - f) (sb + 1) C3 (some (z_at B 0)) B lm3 lv3 ct3 x3 E := by
            intro C3 lm3 lv3 ct3 x3 A B E q
            have e : ((s.1, s.2.1, c1) :: A).reverse ++ H = A.reverse ++ ((s.1, s.2.1, c1) :: H) := by simp
            rw [e, show hp + yhp ((s.1, s.2.1, c1) :: A) = (hp + (c_ps c1).length) + yhp A by show hp + ((c_ps c1).length + yhp A) = _; omega]
            exact q
          rcases hb z2 with ⟨rfl, hq2⟩ | ⟨rfl, hq2⟩
          · obtain ⟨C3, lm3, lv3, ct3, x3, v, b, b', r1, cc3, l3, f3, t3, r4⟩ := ih (hp + (c_ps c1).length) ((s.1, s.2.1, c1) :: H) r2 C2 lm2 lv2 ct2 x2 g2 s.2.1 (nI s.1) (by omega) hto2 (chr2.le (by omega)) (w_cok.wK m2.2.2.2.2.2.1 hCr) z2 hq2 q2 okE
            refine ⟨C3, lm3, lv3, ct3, x3, v, b, b', r1, fun k q => cc3 k (hCC k q), fun l hl => ?_, f2.tr f3, fun z => (t2 z2).tr (t3 z), ?_⟩
            · have p := l3 l (by omega)
              have q := hl2 l hl
              exact ⟨p.1.trans q.1, p.2.1.trans q.2.1, p.2.2.trans q.2.2⟩
            rcases r4 with ⟨z3, A, B, u1, u2, u3, u4, u5, u6, u7⟩ | ⟨z3, V', u1, u2⟩
            · refine Or.inl ⟨z3, (s.1, s.2.1, c1) :: A, B, conv _ _ _ _ _ _ _ _ u1, by rw [u2]; rfl, by rw [← u3]; rfl, ?_, fun _ q => (by cases q), fun q => (by cases q), fun l hl => ?_⟩
              · show (s.1, s.2.1) :: z_skl (A ++ B) = (s.1, s.2.1) :: z_skl r; rw [u4, hsk]
              · cases A with
                | nil => rw [u6 rfl]; injection hl with hl; rw [← hl]; rfl
                | cons a A => exact u7 l (by rw [← hl, List.getLast?_cons_cons])
            · have q3 := u1.seen (s := (s.1, s.2.1, c1)) (chr2.skl u2) (fun z => absurd z z3)
              exact Or.inr ⟨z3, (s.1, s.2.1, c1) :: V', q3, by show (s.1, s.2.1) :: z_skl V' = (s.1, s.2.1) :: z_skl r; rw [u2, hsk]⟩
          · rw [w_ends_q hq2]
            have q0 : Y2 nt N P (hp + yhp [(s.1, s.2.1, c1)]) ([(s.1, s.2.1, c1)].reverse ++ H) O K (200 - f) (sb + 1) C2 (some (z_at r2 0)) r2 lm2 lv2 ct2 x2 (s_cx (r2.map (fun s => s.2.2)) g2) := by
              have := q2.oo (hr := z_at r2 0) (by rw [← chr2.at0]; exact chr2.le (by omega))
              have e : s_cx (r2.map (fun s => s.2.2)) g2 = g2 := by rw [q2.2.1.1]; rfl
              rw [e]
              exact conv C2 lm2 lv2 ct2 x2 [] r2 g2 this
            have stop : rX0_leave d (128, [some (.ref 0), some (.int to), some (.int a2), some (.int a3), some (.int a4), some (.int a5), some (.int a6), some (.int (nI ab)), some (.int a8), some (.int (nI s.1)), some (.int (0 : Int32)), some (.int s.2.1), none], [], x2) = rX0_leave d (278, [some (.ref 0), some (.int to), some (.int a2), some (.int a3), some (.int a4), some (.int a5), some (.int a6), some (.int (nI ab)), some (.int a8), some (.int (nI s.1)), some (.int (0 : Int32)), some (.int s.2.1), none], [], x2) := by
              rw [bX0_leave_128]
              by_cases q : s.2.1 = to
              · rw [if_pos q]
              · rw [if_neg q, if_pos rfl]
            refine ⟨C2, lm2, lv2, ct2, x2, nI s.1, 0, s.2.1, stop, hCC, hl2, f2, fun z => (t2 z).tr (yT.rf rfl rfl rfl), Or.inl ⟨z2, [(s.1, s.2.1, c1)], r2, q0, by rw [q2.2.1.1]; rfl, rfl, ?_, fun _ q => (by cases q), fun q => (by cases q), fun l hl => by injection hl with hl; rw [← hl]; rfl⟩⟩
            show (s.1, s.2.1) :: z_skl r2 = (s.1, s.2.1) :: z_skl r; rw [hsk]
        by_cases q3 : 3 ≤ s.2.2.1
        · simp only [if_pos q3] at hok ⊢
          have mF : wM (s_cx (r.map (fun s => s.2.2)) g) (w_fin (wS nt f) ab s.2.2 (s_cx (r.map (fun s => s.2.2)) g)) := (wM.rf _).fin (wS_mono nt f) ab _
          have okE : g_ok (w_fin (wS nt f) ab s.2.2 (s_cx (r.map (fun s => s.2.2)) g)) := (wM_ends (wS_mono nt f) ab k _).1 hok
          have hfin : w_fin (wS nt f) ab s.2.2 (s_cx (r.map (fun s => s.2.2)) g) = w_end (wS nt f) c1 (s_nx (max s.2.2.2.2.2.2.1 ab) (s_L ((g_L g).take (max s.2.2.2.2.2.2.1 ab)) (s_cx (r.map (fun s => s.2.2)) g))) := by
            show w_end (wS nt f) s.2.2 _ = w_end (wS nt f) c1 _
            unfold w_end; rw [w1, w2]; rfl
          obtain ⟨-, -, b56, b8, b53, b57⟩ := sbx
          have b56 : x1.1 56 s.1 = nI s.2.2.2.2.2.2.1 := by rw [← w5]; exact b56
          have b8 : s.2.2.2.2.2.2.1 ≤ 8000 := by rw [← w5]; exact b8
          have b53 : s.2.2.1 = 3 → x1.1 53 s.1 = s.2.2.2.1 := fun z => by rw [← w2]; exact b53 (w1.trans z)
          have b57 : s.2.2.1 = 4 → x1.1 57 s.1 = s.2.2.2.1 := fun z => by rw [← w2]; exact b57 (w1.trans z)
          have qz : Y2 nt N P (hp + (c_ps c1).length) ((s.1, s.2.1, c1) :: H) O K (200 - f) (sb + 1) C none r lm lv ct (mj_wI (mj_wI x1 0 59 s.2.1) 0 32 (mj_max (x1.1 56 s.1) (nI ab))) (s_nx (max s.2.2.2.2.2.2.1 ab) (s_L ((g_L g).take (max s.2.2.2.2.2.2.1 ab)) (s_cx (r.map (fun s => s.2.2)) g))) := by
            have q2 : Y2 nt N P (hp + (c_ps c1).length) ((s.1, s.2.1, c1) :: H) O K (200 - f) (sb + 1) C none r lm lv ct (mj_wI x1 0 59 s.2.1) (s_L ((g_L g).take (max s.2.2.2.2.2.2.1 ab)) (s_cx (r.map (fun s => s.2.2)) g)) := q1.set59 (v := s.2.1) (w := s.2.1) rfl
            refine q2.nx (fun _ => ?_)
            rw [b56, nI_max (by omega) (by omega)]
            exact ⟨rfl, by omega⟩
          have fz : yfr (yw2 P K) (p_pf P) x1 (mj_wI (mj_wI x1 0 59 s.2.1) 0 32 (mj_max (x1.1 56 s.1) (nI ab))) := y59w.tr y32w
          rw [hfin] at okE
          have e4 : ∀ R1 R2 : mj_R, (if nI s.2.2.1 = (3 : Int32) then R1 else (if nI s.2.2.1 = (4 : Int32) then R1 else R2)) = R1 := by
            intro R1 R2
            have : s.2.2.1 = 3 ∨ s.2.2.1 = 4 := by omega
            rcases this with q | q
            · rw [if_pos (by rw [q]; rfl)]
            · rw [if_neg (show ¬ nI s.2.2.1 = (3 : Int32) by rw [q]; decide), if_pos (by rw [q]; rfl)]
          rw [e4, bX0_leave_178, n2 hs2, n2 hs2, n2 hs2, nI_clamp (by omega), j1, j2]
          have e5 : ∀ X : Int32 → mj_R, (if nI s.2.2.1 = (4 : Int32) then X 1 else X 0) = X (sp_b (decide (c1.1 = 4))) := by
            intro X
            rw [w1]
            by_cases q : s.2.2.1 = 4
            · rw [if_pos (by rw [q]; rfl), decide_eq_true q]; rfl
            · rw [if_neg (show ¬ nI s.2.2.1 = (4 : Int32) from fun e => q ((nI_eq (b := 4) (by omega) (by omega)).mp e)), decide_eq_false q]; rfl
          rw [e5 (fun v => rX0_leave d (224, [some (.ref 0), some (.int to), some (.int a2), some (.int a3), some (.int a4), some (.int a5), some (.int a6), some (.int (nI ab)), some (.int a8), some (.int a9), some (.int (1 : Int32)), some (.int (nI s.1)), none], [.int v, .int (nI s.1), .ref 0], (mj_wI (mj_wI x1 0 59 s.2.1) 0 32 (mj_max (x1.1 56 s.1) (nI ab)))))]
          rw [bX0_leave_224, n2 hs2, n2 hs2, nI_clamp (by omega)]
          have je := k_end (d := d) (c := c1) (a1 := nI s.1) (a2 := sp_b (decide (c1.1 = 4))) (va3 := (mj_wI (mj_wI x1 0 59 s.2.1) 0 32 (mj_max (x1.1 56 s.1) (nI ab))).1 57 s.1) (va4 := (mj_wI (mj_wI x1 0 59 s.2.1) 0 32 (mj_max (x1.1 56 s.1) (nI ab))).1 53 s.1) (by omega) hf (by omega) (by omega) rfl (by unfold w_cok at *; rw [w1, w2]; exact hC1) hT R hCr qz (fun _ => ⟨fun z => by rw [w2]; exact b53 (by omega), fun z => by rw [w2]; exact b57 (by omega)⟩) okE
          rw [← hfin] at je
          obtain ⟨V2, C2, lm2, lv2, ct2, x2, e2, qq2, v2, cc2, l2, f2, t2⟩ := je
          rw [e2, mj_rV_k]
          have chV2 : z_ch s.2.1 s.1 V2 := hchr.skl v2
          have q5 := qq2.o1.oo (chV2.le (by omega))
          have t12 : x2.1 0 29 = 0 → yT x g x2 (w_fin (wS nt f) ab s.2.2 (s_cx (r.map (fun s => s.2.2)) g)) := fun z => by
            have a : yT x1 g (mj_wI (mj_wI x1 0 59 s.2.1) 0 32 (mj_max (x1.1 56 s.1) (nI ab))) (s_nx (max s.2.2.2.2.2.2.1 ab) (s_L ((g_L g).take (max s.2.2.2.2.2.2.1 ab)) (s_cx (r.map (fun s => s.2.2)) g))) := yT.rf rfl rfl rfl
            exact ((t1 z1).tr a).tr (t2 z).2
          have nx := fun b hb => next C2 lm2 lv2 ct2 x2 V2 _ b cc2 l2 ((f1.tr fz).tr f2) t12 v2 mF hok hb q5
          by_cases q30 : x2.1 0 30 = 0
          · rw [if_pos q30]
            exact nx 0 (fun z => Or.inr ⟨rfl, (qq2.dead (Or.inl q30) z).2.2⟩)
          · rw [if_neg q30]
            by_cases q29 : x2.1 0 29 = 0
            · rw [if_pos q29]
              exact nx 1 (fun z => Or.inl ⟨rfl, (qq2.live (fun w => by rcases w with w | w; exact q30 w; exact w z)).2.2⟩)
            · rw [if_neg q29]
              exact nx 0 (fun z => absurd z q29)
        · simp only [if_neg q3] at hok ⊢
          rw [if_neg (show ¬ nI s.2.2.1 = (3 : Int32) from fun e => q3 (by have := (nI_eq (b := 3) (by omega) (by omega)).mp e; omega)), if_neg (show ¬ nI s.2.2.1 = (4 : Int32) from fun e => q3 (by have := (nI_eq (b := 4) (by omega) (by omega)).mp e; omega))]
          exact next C lm lv ct x1 r _ 1 (fun _ q => q) (fun _ _ => ⟨rfl, rfl, rfl⟩) f1 (fun z => (t1 z).tr (yT.rf rfl rfl rfl)) rfl (wM.rf _) hok (fun _ => Or.inl ⟨rfl, hq⟩) q1
      by_cases q2 : 2 ≤ s.2.2.1
      · rw [if_neg (show ¬ nI s.2.2.1 < (2 : Int32) from nI_nlt (b := 2) q2 (by omega))]
        obtain ⟨x1, e1, p1, p2, p3⟩ := Y2.cut_ (d := d) (by omega) h q2
        rw [e1, mj_rV_k]
        rw [wsh] at p1
        simp only [if_pos q2] at hok ⊢
        exact from156 (w_pc (g_it g).length s.2.2) x1 rfl (if_pos q2) (yc_w p2) (fun z => yT.rf rfl (p2.1 0 48 rfl) (p2.1 0 47 rfl)) p1
      · rw [if_pos (show nI s.2.2.1 < (2 : Int32) from nI_lt (b := 2) (by omega) (by omega))]
        simp only [if_neg q2] at hok ⊢
        have q1 := h.hide
        rw [wsh] at q1
        exact from156 s.2.2 x rfl (if_neg q2) (yfr.rf _ _ _) (fun _ => yT.rf rfl rfl rfl) q1
end
