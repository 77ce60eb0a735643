/-! CodeWriter: statements: ways out, breaks and continues -/
theorem z_ch_app {B : List wSl} : ∀ {A : List wSl} {hr : Int32} {K : Nat}, z_ch hr K (A ++ B) → ∀ t, t ∈ A → ∀ s, s ∈ B → s.1 < t.1 := by
  intro A
  induction A with
  | nil => intro hr K _ t ht; cases ht
  | cons a r ih =>
    intro hr K h t ht s hs
    obtain ⟨c1, c2, c3⟩ := (show z_ch hr K (a :: (r ++ B)) from h)
    rcases List.mem_cons.mp ht with rfl | q
    · exact c3.lt s (List.mem_append.mpr (Or.inr hs))
    · exact ih c3 t q s hs
theorem w_go_al {l : Nat} {X : wG} (h : g_ov X = false) : s_al false (w_go l X) = w_go l X := by
  unfold w_go
  cases hq : w_q X
  · rfl
  · have : g_al X = false := by
      have hq' : (!g_al X || g_ov X) = true := hq
      rw [h, Bool.or_false] at hq'
      cases e : g_al X
      · rfl
      · rw [e] at hq'; exact absurd hq' (by decide)
    show s_al false X = X
    show (X.1, false, X.2.2) = X
    have e : X.2.1 = false := this
    rw [← e]
theorem w_go_qq {l : Nat} {X : wG} (h : w_q X = true) : w_go l X = X := by unfold w_go; rw [h]; rfl
section
variable {nt : sp_NT} {N M : Nat} {P : yP} {hp : Nat} {H V : List wSl} {O : List (Int32 × List (Nat × Nat))} {K u sb : Nat} {C : Nat → Prop} {o : Option Int32} {lm lm' lm1 : Nat → Nat} {lv lv' lv1 ct ct' : Nat → Bool} {x y x1 : mj_X} {g G : wG} {res par : Nat → Int32} {f : Nat} {n : Int32}
theorem k_jumpM {d : Nat} (hd : 3 ≤ d) (h0 : ¬ x.1 0 29 = 0) (v : Int32) : kX0 d 67 [.ref 0, .int v] x = some (none, mj_wI x 0 30 0) := by
  obtain ⟨d, rfl⟩ : ∃ e, d = e + 1 := ⟨d - 1, by omega⟩
  rw [eX0_jump]
  split <;> rw [bX0_jump_22, c_codeq (by omega) (Or.inr h0), mj_rV_k, c_offq (by omega) (Or.inr h0), mj_rV_k]
theorem Y2.none_ {w : Int32} (h : Y2 nt N P hp H O K u sb C (some w) V lm lv ct x g) (e : x.1 0 59 = w) : Y2 nt N P hp H O K u sb C none V lm lv ct x g := by
  rw [← e] at h; exact h
/-- what was left goes on behind -/
theorem k_goon {d : Nat} {A B : List wSl} {W G3 : wG} {w hr v to a2 a3 a4 a5 a6 a7 a8 a10 : Int32} {j : Nat} (q3 : Y2 nt N P (hp + yhp A) (A.reverse ++ H) O K u sb C (some w) B lm lv ct x G3) (hG : G3 = s_cx (B.map (fun s => s.2.2)) W) (hcx : g_cx W = A.map (fun s => s.2.2) ++ B.map (fun s => s.2.2)) (hch : z_ch hr K (A ++ B)) (h59 : x.1 0 59 = hr) (hj : j ≤ B.length) (hto : to = z_at (A ++ B) (A.length + j)) (hA0 : A = [] → hr = to) (hl : ∀ l, A.getLast? = some l → v = nI l.1) :
    ∃ y V2, rX0_leave d (375, [some (.ref 0), some (.int to), some (.int a2), some (.int a3), some (.int a4), some (.int a5), some (.int a6), some (.int a7), some (.int a8), some (.int v), some (.int a10), some (.int (1 : Int32)), some (.int hr)], [], x) = some (none, y) ∧ Y2 nt N P hp H O K u sb C none V2 lm lv ct y (w_gon A.length W) ∧ z_skl V2 = z_skl (A ++ B) ∧ yfr (yw2 P K) (p_pf P) x y ∧ y.1 0 29 = x.1 0 29 ∧ yT x G3 y (w_gon A.length W) := by
  have hK : K ≤ 200 := by have := q3.2.1.2.2.1; have := q3.2.1.2.2.2.1; omega
  have hcxs : y_cxs x (A ++ B) := fun s hs => by
    refine q3.sk (s := s) ?_
    rcases List.mem_append.mp hs with q | q
    · exact List.mem_append.mpr (Or.inl (List.mem_append.mpr (Or.inl (List.mem_reverse.mpr q))))
    · exact List.mem_append.mpr (Or.inr q)
  obtain ⟨y, e1, f1, e2, e3, e4⟩ := k_onE (d := d) (pf := p_pf P) (to := to) (a2 := a2) (a3 := a3) (a4 := a4) (a5 := a5) (a6 := a6) (a7 := a7) (a8 := a8) (a9 := v) (a10 := a10) A B hr K j x hj hto hch (by omega) hcxs hA0 hl
  have q4 := q3.w58 f1 e2 (fun _ s hs _ => e4 s.1 (fun t ht z => by have := z_ch_app hch t ht s hs; omega))
  have y29 : y.1 0 29 = x.1 0 29 := f1.1 0 29 rfl
  have itG : g_it G3 = g_it W := by rw [hG]; rfl
  have q5 := Y2.seenA (m := (g_it G3).length) A hp H (some w) hr q4 hch (fun z => ⟨fun s hs h2 => by
    rw [y29] at z
    have b28 := (q3.ex z).2.2.1.2.2.2.2.1.1
    rw [e3 s hs h2, b28, w_at_len], Nat.le_refl _⟩)
  have eG : s_cx (A.map (fun s => w_from (g_it G3).length s.2.2) ++ g_cx G3) G3 = w_gon A.length W := by
    unfold w_gon
    have eA : A.length = (A.map (fun s => s.2.2)).length := by rw [List.length_map]
    rw [hcx, eA, w_on_app, List.map_map, itG]
    rw [hG]; rfl
  rw [eG] at q5
  have h59y : y.1 0 59 = hr := (f1.1 0 59 rfl).trans h59
  refine ⟨y, _, e1, q5.none_ h59y, y_fr_skl _ _ _, y58_w f1, y29, yT.rf ?_ (f1.1 0 48 rfl) (f1.1 0 47 rfl)⟩
  rw [itG]; rfl
theorem k_goonM {d k : Nat} {hr v to a2 a3 a4 a5 a6 a7 a8 a10 : Int32} (q3 : Y2 nt N P hp H O K u sb C (some hr) V lm lv ct x G) (h0 : ¬ x.1 0 29 = 0) (hk : k ≤ V.length) (hto : to = z_at V k) (h59 : x.1 0 59 = hr) :
    ∃ y, rX0_leave d (375, [some (.ref 0), some (.int to), some (.int a2), some (.int a3), some (.int a4), some (.int a5), some (.int a6), some (.int a7), some (.int a8), some (.int v), some (.int a10), some (.int (1 : Int32)), some (.int hr)], [], x) = some (none, y) ∧ Y2 nt N P hp H O K u sb C none V lm lv ct y G ∧ yfr (yw2 P K) (p_pf P) x y ∧ ¬ y.1 0 29 = 0 := by
  have hK : K ≤ 200 := by have := q3.2.1.2.2.1; have := q3.2.1.2.2.2.1; omega
  obtain ⟨y, e1, f1, e2⟩ := k_on (d := d) (pf := p_pf P) (to := to) (a2 := a2) (a3 := a3) (a4 := a4) (a5 := a5) (a6 := a6) (a7 := a7) (a8 := a8) (a9 := v) (a10 := a10) k V hr K 1 x hk hto q3.cho (by omega) q3.cxs
  have q4 := q3.w58 f1 e2 (fun z => absurd z h0)
  have h59y : y.1 0 59 = hr := (f1.1 0 59 rfl).trans h59
  exact ⟨y, e1, q4.none_ h59y, y58_w f1, by rw [f1.1 0 29 rfl]; exact h0⟩
set_option maxHeartbeats 4000000 in
theorem k_leave {d e : Nat} (hd : 6 * f + 263 ≤ d) (hf : f ≤ 200) (brk : Bool) (hT : wTb nt N M res par) (R : ∀ m, wA nt N 40 m → kS nt N f m) (hC : ∀ c, c ∈ g_cx g → w_cok nt N c) (x0 : x.1 0 29 = 0) (hq : w_q g = false) (h : Y2 nt N P hp H O K (200 - f) (sb + 1) C none V lm lv ct x g) (hok : g_ok (w_lvs (wS nt f) e brk g)) :
    KS nt N P hp H O K (200 - f) (sb + 1) (g_nl g) (z_skl V) C ct g (kX0 d 81 [.ref 0, .int (z_at V (w_tg (!brk) e (g_cx g))), .int (sp_b (!brk)), .int (-1 : Int32)] x) x lm lv (w_lvs (wS nt f) e brk g) := by
  obtain ⟨d, rfl⟩ : ∃ e, d = e + 1 := ⟨d - 1, by omega⟩
  have hcx : V.map (fun s => s.2.2) = g_cx g := h.2.1.1
  have hlen : (g_cx g).length = V.length := by rw [← hcx, List.length_map]
  have mE := wM_ends (wS_mono nt f) 0 (w_tg (!brk) e (g_cx g)) g
  have hle := w_ends_le (rec := wS nt f) (ab := 0) (w_tg (!brk) e (g_cx g)) g
  have ktl := w_tg_le (lp := !brk) (g_cx g) e
  have hit := w_tg_hit (lp := !brk) (g_cx g) e
  have E : w_lvs (wS nt f) e brk g = w_gon (w_ends (wS nt f) 0 (w_tg (!brk) e (g_cx g)) g).2 (s_al false (w_go (match (g_cx (s_nx (g_nx g) (w_ends (wS nt f) 0 (w_tg (!brk) e (g_cx g)) g).1))[w_tg (!brk) e (g_cx g)]? with | some c => (bif brk then c.2.2.1 else c.2.2.2.1) | none => 0) (s_ok (w_tg (!brk) e (g_cx g) < (g_cx g).length) (s_nx (g_nx g) (w_ends (wS nt f) 0 (w_tg (!brk) e (g_cx g)) g).1)))) := rfl
  rw [E] at hok ⊢
  clear E
  have mI : w_tg (!brk) e (g_cx g) ≤ V.length := by rw [← hlen]; exact ktl
  generalize hk : w_tg (!brk) e (g_cx g) = k at *
  have mG : ∀ l, wM (s_ok (k < (g_cx g).length) (s_nx (g_nx g) (w_ends (wS nt f) 0 k g).1)) (w_go l (s_ok (k < (g_cx g).length) (s_nx (g_nx g) (w_ends (wS nt f) 0 k g).1))) := fun l => (wM.rf _).go l
  have okX := (mG _).1 hok
  have hkl : k < (g_cx g).length := okX.2
  have okE : g_ok (w_ends (wS nt f) 0 k g).1 := okX.1
  have hkV : k < V.length := by omega
  have hch : z_ch (x.1 0 59) K V := h.ch
  have hK200 : K ≤ 200 := by have := h.2.1.2.2.1; omega
  -- the context that is meant
  have meant : ∀ V1 : List wSl, z_skl V1 = z_skl V → V1.map (fun s => s.2.2) = g_cx (w_ends (wS nt f) 0 k g).1 → ∃ t c0, t ∈ V1 ∧ nI t.1 = z_at V k ∧ t.1 < K ∧ (g_cx (s_nx (g_nx g) (w_ends (wS nt f) 0 k g).1))[k]? = some t.2.2 ∧ t.2.2.1 = c0 ∧ (c0 = 0 ∨ (c0 = 1 ∧ (!brk) = false)) := by
    intro V1 v1 hcx1
    have hlen1 : V1.length = V.length := by have := congrArg List.length v1; simpa [z_skl] using this
    obtain ⟨t, ht⟩ : ∃ t, V1[k]? = some t := ⟨V1[k]'(by omega), List.getElem?_eq_getElem _⟩
    have htm : t ∈ V1 := List.mem_of_getElem? ht
    have hct : (g_cx (w_ends (wS nt f) 0 k g).1)[k]? = some t.2.2 := by rw [← hcx1, List.getElem?_map, ht]; rfl
    have hat : z_at V k = nI t.1 := by
      rw [← z_at_skl v1 k]
      unfold z_at
      rw [List.drop_eq_getElem_cons (show k < V1.length by omega)]
      have : V1[k]'(by omega) = t := by have := List.getElem?_eq_getElem (show k < V1.length by omega); rw [ht] at this; injection this with this; exact this.symm
      rw [this]
    obtain ⟨c0, hc0, hkind⟩ := hit hkl
    have hws := mE.2.2.2.2.2.1.get k hc0 hct
    have hk1 : t.2.2.1 = c0.1 := by have := congrArg Prod.fst hws; exact this
    exact ⟨t, c0.1, htm, hat.symm, (hch.skl v1).lt t htm, hct, hk1, hkind⟩
  rw [eX0_leave]
  have e15 : rX0_leave d (15, [some (.ref 0), some (.int (z_at V k)), some (.int (sp_b (!brk))), some (.int (-1 : Int32)), some (.int (x.1 0 32)), some (.int (0 : Int32)), some (.int (x.1 0 59)), none, none, none, none, none, none], [], x) = rX0_leave d (15, [some (.ref 0), some (.int (z_at V k)), some (.int (sp_b (!brk))), some (.int (-1 : Int32)), some (.int (x.1 0 32)), some (.int (nI (0 + y_ends k V))), some (.int (z_at V k)), none, none, none, none, none, none], [], x) :=
    k_cnt (K := K) (by omega) k V (x.1 0 59) K 0 mI rfl hch (Nat.le_refl _) h.cxs
  obtain ⟨t00, -, -, hto0, htK, -, -, -⟩ : ∃ (t : wSl) (_ : Unit), True ∧ nI t.1 = z_at V k ∧ t.1 < K ∧ True ∧ True ∧ True := by
    refine ⟨V[k]'hkV, (), trivial, ?_, hch.lt _ (List.getElem_mem _), trivial, trivial, trivial⟩
    unfold z_at
    rw [List.drop_eq_getElem_cons hkV]
  have hne1 : ¬ z_at V k = (-1 : Int32) := by rw [← hto0]; exact nI_nm1 (by omega)
  rw [e15, bX0_leave_15, if_pos rfl, if_neg hne1, bX0_leave_96, if_pos rfl, bX0_leave_110]
  obtain ⟨C', lm', lv', ct', x', v, b10, b11, run, hCC, hl1, f1, t1, alt⟩ := k_ends (d := d) (sb := sb) (by omega) hf hT R (ab := 0) (by omega) (to := z_at V k) (a2 := sp_b (!brk)) (a3 := -1) (a4 := x.1 0 32) (a5 := nI (0 + y_ends k V)) (a6 := -1) (a8 := x.1 0 59) k hp H V C lm lv ct x g (x.1 0 59) (z_at V k) mI rfl hch hC x0 hq h.o1 okE
  have run : rX0_leave d (128, [some (.ref 0), some (.int (z_at V k)), some (.int (sp_b (!brk))), some (.int (-1 : Int32)), some (.int (x.1 0 32)), some (.int (nI (0 + y_ends k V))), some (.int (-1 : Int32)), some (.int (0 : Int32)), some (.int (x.1 0 59)), some (.int (z_at V k)), some (.int (1 : Int32)), some (.int (x.1 0 59)), none], [], x) = rX0_leave d (278, [some (.ref 0), some (.int (z_at V k)), some (.int (sp_b (!brk))), some (.int (-1 : Int32)), some (.int (x.1 0 32)), some (.int (nI (0 + y_ends k V))), some (.int (-1 : Int32)), some (.int (0 : Int32)), some (.int (x.1 0 59)), some (.int v), some (.int b10), some (.int b11), none], [], x') := run
  rw [run, bX0_leave_278, if_neg hne1]
  have n32 := (h.ex x0).2.2.2.1
  have fz : yfr (yw2 P K) (p_pf P) x' (mj_wI (mj_wI x' 0 59 (x.1 0 59)) 0 32 (x.1 0 32)) := y59w.tr y32w
  rcases alt with ⟨z0, A, B, q1, u2, u3, u4, u5, u6, u7⟩ | ⟨z0, V', q1, u2⟩
  · have hcx1 : (A ++ B).map (fun s => s.2.2) = g_cx (w_ends (wS nt f) 0 k g).1 := by rw [u2, List.map_append]
    obtain ⟨t, c0, htm, hto, htlt, hct, hk1, hkind⟩ := meant (A ++ B) u4 hcx1
    have hch1 : z_ch (x.1 0 59) K (A ++ B) := hch.skl u4
    have hlen1 : A.length + B.length = V.length := by have := congrArg List.length u4; simpa [z_skl] using this
    have htm2 : t ∈ (A.reverse ++ H) ++ B := by
      rcases List.mem_append.mp htm with q | q
      · exact List.mem_append.mpr (Or.inl (List.mem_append.mpr (Or.inl (List.mem_reverse.mpr q))))
      · exact List.mem_append.mpr (Or.inr q)
    simp only [hct] at hok ⊢
    generalize hl : (bif brk then t.2.2.2.2.1 else t.2.2.2.2.2.1) = l at *
    have q2 : Y2 nt N P (hp + yhp A) (A.reverse ++ H) O K (200 - f) (sb + 1) C' (some (z_at B 0)) B lm' lv' ct' (mj_wI (mj_wI x' 0 59 (x.1 0 59)) 0 32 (x.1 0 32)) (s_cx (B.map (fun s => s.2.2)) (s_ok (k < (g_cx g).length) (s_nx (g_nx g) (w_ends (wS nt f) 0 k g).1))) :=
      (q1.set59 (v := x.1 0 59) (w := z_at B 0) rfl).nx (n := g_nx g) (fun _ => ⟨n32.1, n32.2.1⟩)
    have hov : g_ov (w_ends (wS nt f) 0 k g).1 = false := (q1.ex z0).2.2.1.1
    have sbt := (q1.ex z0).2.2.2.2.2.2.1 t htm2
    have hlab : l < g_nl (w_ends (wS nt f) 0 k g).1 ∧ lv' l = true ∧ (bif brk then x'.1 54 t.1 else x'.1 55 t.1) = nI (lm' l) := by
      rw [← hl]
      cases brk
      · rcases hkind with q | q
        · exact sbt.2.1 (hk1.trans q)
        · exact absurd q.2 (by decide)
      · refine sbt.1 ?_
        rcases hkind with q | q
        · omega
        · omega
    obtain ⟨lb1, lb2, lb3⟩ := hlab
    generalize hX : s_ok (k < (g_cx g).length) (s_nx (g_nx g) (w_ends (wS nt f) 0 k g).1) = X at *
    have itX : g_it X = g_it (w_ends (wS nt f) 0 k g).1 := by rw [← hX]; rfl
    have nlX : g_nl X = g_nl (w_ends (wS nt f) 0 k g).1 := by rw [← hX]; rfl
    have ovX : g_ov X = false := by rw [← hX]; exact hov
    have cxX : g_cx X = A.map (fun s => s.2.2) ++ B.map (fun s => s.2.2) := by rw [← hX]; exact u2
    generalize hz : mj_wI (mj_wI x' 0 59 (x.1 0 59)) 0 32 (x.1 0 32) = z at *
    have z29 : z.1 0 29 = 0 := by rw [← hz]; exact z0
    have z30 : z.1 0 30 = x'.1 0 30 := by rw [← hz]; rfl
    have z59 : z.1 0 59 = x.1 0 59 := by rw [← hz]; rfl
    have z48 : z.1 0 48 = x'.1 0 48 := by rw [← hz]; rfl
    have z47 : z.1 0 47 = x'.1 0 47 := by rw [← hz]; rfl
    -- the jump
    have jump : ∃ lm3 lv3 ct3 x3, (x'.1 0 30 = 0 ∧ x3 = z ∨ ¬ x'.1 0 30 = 0 ∧ kX0 d 67 [.ref 0, .int (nI (lm' l))] z = some (none, x3)) ∧ Y2 nt N P (hp + yhp A) (A.reverse ++ H) O K (200 - f) (sb + 1) C' (some (z_at B 0)) B lm3 lv3 ct3 x3 (w_go l (s_cx (B.map (fun s => s.2.2)) X)) ∧ (∀ i, i < g_nl (s_cx (B.map (fun s => s.2.2)) X) → lm3 i = lm' i ∧ lv3 i = lv' i ∧ ct3 i = ct' i) ∧ yfr (yw (p_pf P) (p_lf P)) (p_pf P) z x3 ∧ (x3.1 0 29 = 0 → yT z (s_cx (B.map (fun s => s.2.2)) X) x3 (w_go l (s_cx (B.map (fun s => s.2.2)) X))) := by
      by_cases a0 : x'.1 0 30 = 0
      · have hqX := (q2.dead (Or.inl (z30.trans a0)) z29).2.2
        rw [w_go_qq hqX]
        exact ⟨lm', lv', ct', z, Or.inl ⟨a0, rfl⟩, q2, fun _ _ => ⟨rfl, rfl, rfl⟩, yfr.rf _ _ _, fun _ => yT.rf rfl rfl rfl⟩
      · obtain ⟨lm3, lv3, ct3, x3, e3, p3, l3, f3, t3⟩ := Y2.kj (b := 45500) ((wM.rf _).go l) q2 z29 (KJ.of (c_go (d := d) (by omega) (q2.vx z29 (by omega) (by omega)) (show l < g_nl X by rw [nlX]; exact lb1) lb2)) (by omega) (wU_go _ _)
        exact ⟨lm3, lv3, ct3, x3, Or.inr ⟨a0, e3⟩, p3, l3, f3, t3⟩
    obtain ⟨lm3, lv3, ct3, x3, hrun, q3, l3, f3, t3⟩ := jump
    rw [w_go_cx] at q3 t3
    have cxW : g_cx (w_go l X) = A.map (fun s => s.2.2) ++ B.map (fun s => s.2.2) := (wU_go l X).2.2.2.2.1.trans cxX
    have x359 : x3.1 0 59 = x.1 0 59 := ((yU.of f3).1 59 rfl).trans z59
    obtain ⟨y, V2, e4, q4, v4, f4, y29, t4⟩ := k_goon (d := d) (A := A) (B := B) (W := w_go l X) (hr := x.1 0 59) (v := v) (to := z_at V k) (a2 := sp_b (!brk)) (a3 := -1) (a4 := x.1 0 32) (a5 := nI (0 + y_ends k V)) (a6 := -1) (a7 := 0) (a8 := x.1 0 59) (a10 := b10) (j := k - A.length) q3 rfl cxW hch1 x359 (by omega) (by rw [show A.length + (k - A.length) = k by omega]; exact (z_at_skl u4 k).symm) (fun q => by
      have : k = 0 := Decidable.byContradiction fun z => u5 z q
      rw [this]; exact hch.at0) u7
    rw [w_go_al ovX, ← u3]
    refine ⟨V2, C', lm3, lv3, ct3, y, ?_, q4, v4.trans u4, hCC, fun i hi => ?_, ((f1.tr fz).tr f3.up).tr f4, fun w => ⟨x0, ?_⟩⟩
    · rcases hrun with ⟨a0, rfl⟩ | ⟨a0, e3⟩
      · rw [if_pos a0]; exact e4
      · rw [if_neg a0]
        have g2 : ∀ r : mj_R, mj_g (z_at V k) 2000 r = r := fun r => by rw [← hto]; exact n2 (by omega) r
        rw [g2, g2, show (z_at V k).toNatClampNeg = t.1 by rw [← hto]; exact nI_clamp (by omega)]
        cases brk
        · rw [if_neg (by decide)]
          rw [show x'.1 55 t.1 = nI (lm' l) from lb3, e3, mj_rV_k]; exact e4
        · rw [if_pos (by rfl)]
          rw [show x'.1 54 t.1 = nI (lm' l) from lb3, e3, mj_rV_k]; exact e4
    · have a := l3 i (by show i < g_nl X; rw [nlX]; exact Nat.lt_of_lt_of_le hi mE.nl)
      have b := hl1 i hi
      exact ⟨a.1.trans b.1, a.2.1.trans b.2.1, a.2.2.trans b.2.2⟩
    · have w3 : x3.1 0 29 = 0 := by rw [← y29]; exact w
      have tz : yT x' (w_ends (wS nt f) 0 k g).1 z (s_cx (B.map (fun s => s.2.2)) X) := yT.rf itX z48 z47
      exact (((t1 z0).tr tz).tr (t3 w3)).tr t4
  · have hcx1 : V'.map (fun s => s.2.2) = g_cx (w_ends (wS nt f) 0 k g).1 := q1.2.1.1
    obtain ⟨t, c0, htm, hto, htlt, hct, hk1, hkind⟩ := meant V' u2 hcx1
    have hlen1 : V'.length = V.length := by have := congrArg List.length u2; simpa [z_skl] using this
    simp only [hct] at hok ⊢
    generalize hl : (bif brk then t.2.2.2.2.1 else t.2.2.2.2.2.1) = l at *
    have q2 : Y2 nt N P hp H O K (200 - f) (sb + 1) C' (some (x.1 0 59)) V' lm' lv' ct' (mj_wI (mj_wI x' 0 59 (x.1 0 59)) 0 32 (x.1 0 32)) (s_ok (k < (g_cx g).length) (s_nx (g_nx g) (w_ends (wS nt f) 0 k g).1)) :=
      (q1.set59 (v := x.1 0 59) (w := x.1 0 59) rfl).nx (n := g_nx g) (fun _ => ⟨n32.1, n32.2.1⟩)
    have mT : wM (s_ok (k < (g_cx g).length) (s_nx (g_nx g) (w_ends (wS nt f) 0 k g).1)) (w_gon (w_ends (wS nt f) 0 k g).2 (s_al false (w_go l (s_ok (k < (g_cx g).length) (s_nx (g_nx g) (w_ends (wS nt f) 0 k g).1))))) := (((wM.rf _).go l).s_al false).gon _
    generalize hX : s_ok (k < (g_cx g).length) (s_nx (g_nx g) (w_ends (wS nt f) 0 k g).1) = X at *
    have nlX : g_nl X = g_nl (w_ends (wS nt f) 0 k g).1 := by rw [← hX]; rfl
    have z29 : ¬ (mj_wI (mj_wI x' 0 59 (x.1 0 59)) 0 32 (x.1 0 32)).1 0 29 = 0 := z0
    have fin : ∀ (z : mj_X) (X2 : wG), Y2 nt N P hp H O K (200 - f) (sb + 1) C' (some (x.1 0 59)) V' lm' lv' ct' z X2 → wM X2 (w_gon (w_ends (wS nt f) 0 k g).2 (s_al false (w_go l X))) → g_nl X2 = g_nl X → ¬ z.1 0 29 = 0 → z.1 0 59 = x.1 0 59 → yfr (yw2 P K) (p_pf P) x' z → KS nt N P hp H O K (200 - f) (sb + 1) (g_nl g) (z_skl V) C ct g (rX0_leave d (375, [some (.ref 0), some (.int (z_at V k)), some (.int (sp_b (!brk))), some (.int (-1 : Int32)), some (.int (x.1 0 32)), some (.int (nI (0 + y_ends k V))), some (.int (-1 : Int32)), some (.int (0 : Int32)), some (.int (x.1 0 59)), some (.int v), some (.int b10), some (.int (1 : Int32)), some (.int (x.1 0 59))], [], z)) x lm lv (w_gon (w_ends (wS nt f) 0 k g).2 (s_al false (w_go l X))) := by
      intro z X2 qz mz nz z1 z59 fz'
      obtain ⟨y, e4, q4, f4, y4⟩ := k_goonM (d := d) (k := k) (v := v) (to := z_at V k) (a2 := sp_b (!brk)) (a3 := -1) (a4 := x.1 0 32) (a5 := nI (0 + y_ends k V)) (a6 := -1) (a7 := 0) (a8 := x.1 0 59) (a10 := b10) qz z1 (by omega) (z_at_skl u2 k).symm z59
      obtain ⟨V3, lm3, lv3, ct3, q5, v5, l5⟩ := q4.skip y4 mz
      refine ⟨V3, C', lm3, lv3, ct3, y, e4, q5, v5.trans u2, hCC, fun i hi => ?_, (f1.tr fz').tr f4, fun w => absurd w y4⟩
      have a := l5 i (by rw [nz, nlX]; exact Nat.lt_of_lt_of_le hi mE.nl)
      have b := hl1 i hi
      exact ⟨a.1.trans b.1, a.2.1.trans b.2.1, a.2.2.trans b.2.2⟩
    by_cases a0 : x'.1 0 30 = 0
    · rw [if_pos a0]
      exact fin _ X q2 mT rfl z29 rfl fz
    · rw [if_neg a0]
      have g2 : ∀ r : mj_R, mj_g (z_at V k) 2000 r = r := fun r => by rw [← hto]; exact n2 (by omega) r
      rw [g2, g2]
      have q3 := q2.al false
      have fin2 := fin (mj_wI (mj_wI (mj_wI x' 0 59 (x.1 0 59)) 0 32 (x.1 0 32)) 0 30 0) (s_al false X) q3 mT rfl z29 rfl (fz.w _ rfl)
      split
      · rw [k_jumpM (by omega) z29, mj_rV_k]; exact fin2
      · rw [k_jumpM (by omega) z29, mj_rV_k]; exact fin2
theorem k_s71 {d : Nat} (hd : 6 * f + 263 ≤ d) (hT : wTb nt N M res par) (hA : wA nt N 40 n) (ha : 0 ≤ nA nt n) (hk : nK nt n = 71 ∨ nK nt n = 72) (hf : f + 1 ≤ 200) (x0 : x.1 0 29 = 0) (hq : w_q g = false) (R : ∀ m, wA nt N 40 m → kS nt N f m) (hC : ∀ c, c ∈ g_cx g → w_cok nt N c) (hK : K ≤ 200 - (f + 1)) (hs : sb + 1 ≤ 2000000000) (h : Y2 nt N P hp H O K (200 - f) sb C none V lm lv ct x g) (hok : g_ok (w_bd nt (wV nt 40) (wS nt f) n g)) :
    KS nt N P hp H O K (200 - (f + 1)) (sb + 1) (g_nl g) (z_skl V) C ct g (rX0_act d (373, [some (.ref 0), some (.int n), some (.int (nA nt n)), some (.int (nB nt n)), none, none, none], [], x)) x lm lv (w_bd nt (wV nt 40) (wS nt f) n g) := by
  have hlt : (nA nt n).toNatClampNeg < 2147483648 := by show (nA nt n).toInt.toNat < _; have := (nA nt n).toInt_lt; omega
  have hk1 : x.1 1 n.toNatClampNeg = nK nt n := by rw [h.T.1]
  rw [bX0_act_373, h.nd hA.1, hk1]
  have h' := h.sbm (Nat.le_succ sb) hs
  rcases hk with hk | hk
  · have e : w_bd nt (wV nt 40) (wS nt f) n g = w_lvs (wS nt f) (nA nt n).toNatClampNeg true g := by unfold w_bd; simp only [hk]; rfl
    rw [e] at hok ⊢
    have okX : w_tg false (nA nt n).toNatClampNeg (g_cx g) < (g_cx g).length := by
      have mG : ∀ l, wM (s_ok (w_tg false (nA nt n).toNatClampNeg (g_cx g) < (g_cx g).length) (s_nx (g_nx g) (w_ends (wS nt f) 0 (w_tg false (nA nt n).toNatClampNeg (g_cx g)) g).1)) (w_go l (s_ok (w_tg false (nA nt n).toNatClampNeg (g_cx g) < (g_cx g).length) (s_nx (g_nx g) (w_ends (wS nt f) 0 (w_tg false (nA nt n).toNatClampNeg (g_cx g)) g).1))) := fun l => (wM.rf _).go l
      exact ((mG _).1 hok).2
    have ht := k_target (d := d) (by omega) hlt false h okX
    rw [nI_nn ha] at ht
    rw [hk, if_neg (by decide), bX0_act_391, show (0 : Int32) = sp_b false from rfl, ht, mj_rI_k, h.nd hA.1, hk1, hk, if_neg (by decide)]
    exact KS.wrap rfl (k_leave (d := d) (by omega) (by omega) true hT R hC x0 hq h' hok) hs hK hf
  · have e : w_bd nt (wV nt 40) (wS nt f) n g = w_lvs (wS nt f) (nA nt n).toNatClampNeg false g := by unfold w_bd; simp only [hk]; rfl
    rw [e] at hok ⊢
    have okX : w_tg true (nA nt n).toNatClampNeg (g_cx g) < (g_cx g).length := by
      have mG : ∀ l, wM (s_ok (w_tg true (nA nt n).toNatClampNeg (g_cx g) < (g_cx g).length) (s_nx (g_nx g) (w_ends (wS nt f) 0 (w_tg true (nA nt n).toNatClampNeg (g_cx g)) g).1)) (w_go l (s_ok (w_tg true (nA nt n).toNatClampNeg (g_cx g) < (g_cx g).length) (s_nx (g_nx g) (w_ends (wS nt f) 0 (w_tg true (nA nt n).toNatClampNeg (g_cx g)) g).1))) := fun l => (wM.rf _).go l
      exact ((mG _).1 hok).2
    have ht := k_target (d := d) (by omega) hlt true h okX
    rw [nI_nn ha] at ht
    rw [hk, if_pos rfl, bX0_act_391, show (1 : Int32) = sp_b true from rfl, ht, mj_rI_k, h.nd hA.1, hk1, hk, if_pos rfl]
    exact KS.wrap rfl (k_leave (d := d) (by omega) (by omega) false hT R hC x0 hq h' hok) hs hK hf
end
