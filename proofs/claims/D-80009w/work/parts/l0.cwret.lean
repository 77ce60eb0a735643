/-! CodeWriter: statements: returns -/
theorem w_em_ph {i : wI} {off : Nat} {on : List Nat} {cs : List wC} {k : Nat} {g : wG} : w_em i off on (s_cx cs (s_nx k g)) = s_cx cs (s_nx k (w_em i off on g)) := by
  unfold w_em w_es
  have : w_q (s_cx cs (s_nx k g)) = w_q g := rfl
  rw [this]
  cases w_q g <;> rfl
theorem w_em_qq {i : wI} {off : Nat} {on : List Nat} {g : wG} (h : w_q g = true) : w_em i off on g = g := by unfold w_em; rw [h]; rfl
theorem s_al_id {X : wG} (h : g_al X = false) : s_al false X = X := by
  show (X.1, false, X.2.2) = X
  have e : X.2.1 = false := h
  rw [← e]
/-- what a return's ends and its own code write -/
def w_rtc (t : Nat) (h : wG) : wG := w_em (16, (if t = 0 then 177 else 172 + w_ltr t), 0, 0, []) (w_tl t).length [] h
def w_rt1 (rec : wT) (t p ab nx0 : Nat) (keep : Bool) (g : wG) : wG :=
  w_gon (w_ends rec ab (g_cx g).length g).2 (s_nx nx0 (s_al false (w_rtc t (bif keep then w_ld t p (w_tl t) (w_ends rec ab (g_cx g).length g).1 else (w_ends rec ab (g_cx g).length g).1))))
section
variable {nt : sp_NT} {N M : Nat} {P : yP} {hp : Nat} {H V : List wSl} {O : List (Int32 × List (Nat × Nat))} {K u sb : Nat} {C : Nat → Prop} {o : Option Int32} {lm lm' lm1 : Nat → Nat} {lv lv' lv1 ct ct' : Nat → Bool} {x y x1 : mj_X} {g G : wG} {res par : Nat → Int32} {f : Nat} {n : Int32}
/-- a value's method, whatever is the innermost context; when it was much it does nothing -/
theorem Y2.vo {r : mj_R} {b : Nat} (hm : wM g G) (hs : wU g G) (h : Y2 nt N P hp H O K u sb C o V lm lv ct x g) (Cx : x.1 0 29 = 0 → KJ nt N (pH P hp) [] b (g_nl g) g r x lm lv G) (hb : b ≤ 49600) (Cm : ¬ x.1 0 29 = 0 → r = some (none, x)) :
    ∃ lm1 lv1 ct1 x1, r = some (none, x1) ∧ Y2 nt N P hp H O K u sb C o V lm1 lv1 ct1 x1 G ∧ (∀ l, l < g_nl g → lm1 l = lm l ∧ lv1 l = lv l ∧ ct1 l = ct l) ∧ yfr (yw (p_pf P) (p_lf P)) (p_pf P) x x1 ∧ (x1.1 0 29 = 0 → x.1 0 29 = 0 ∧ yT x g x1 G) := by
  by_cases h0 : x.1 0 29 = 0
  · obtain ⟨lm1, lv1, ct1, x1, e1, q1, l1, f1, t1⟩ := Y2.kj hm h h0 (Cx h0) hb hs
    exact ⟨lm1, lv1, ct1, x1, e1, q1, l1, f1, fun z => ⟨h0, t1 z⟩⟩
  · obtain ⟨m1, m2, m3⟩ := h.mc h0
    have hlab : ∀ l, l < g_nl g → (fun l => if l < g_nl g then lm l else 0) l = lm l ∧ (fun l => if l < g_nl g then lv l else false) l = lv l := fun l hl => ⟨if_pos hl, if_pos hl⟩
    exact ⟨_, _, _, x, Cm h0, h.ofv (b := 0) (D := fun _ => False) hm hs (yfr.rf _ _ _) (fun l hl _ => hlab l hl) (fun _ q => q.elim) (fun _ _ _ => ⟨fun _ q => q, fun _ q => q⟩) (Or.inr ⟨h0, h0, m1, m2.nl⟩), fun l hl => ⟨(hlab l hl).1, (hlab l hl).2, if_pos hl⟩, yfr.rf _ _ _, fun w => absurd w h0⟩
theorem Y2.numM (h : Y2 nt N P hp H O K u sb C o V lm lv ct x g) (h0 : ¬ x.1 0 29 = 0) (f : yfr yo4 (p_pf P) x y) (h2 : y.2 = x.2) (h60 : y.1 0 60 = x.1 0 60) (h61 : y.1 0 61 = x.1 0 61) : Y2 nt N P hp H O K u sb C o V lm lv ct y g := by
  obtain ⟨t, a, t1, t2, t3, t4⟩ := h.ser.1
  exact h.num (G := g) f h2 (h61.trans h.2.1.2.2.2.2.1) h.2.1.2.2.1 h.2.1.2.2.2.1 ⟨t, a, (f.1 0 66 rfl).trans t1, h60.trans t2, t3, t4⟩ h.ser.2 ⟨rfl, rfl, rfl, rfl, rfl, rfl, rfl, rfl, rfl, rfl⟩ rfl rfl rfl (fun z => absurd z h0)
/-- a return's last part when it was much -/
theorem k_278M {d : Nat} {a2 a3 a4 a5 a6 a7 a8 a9 a10 a11 : Int32} (hd : 6 ≤ d) (q : Y2 nt N P hp H O K u sb C (some a8) V lm lv ct x G) (h0 : ¬ x.1 0 29 = 0) :
    ∃ y G', rX0_leave d (278, [some (.ref 0), some (.int (-1 : Int32)), some (.int a2), some (.int a3), some (.int a4), some (.int a5), some (.int a6), some (.int a7), some (.int a8), some (.int a9), some (.int a10), some (.int a11), none], [], x) = some (none, y) ∧ Y2 nt N P hp H O K u sb C none V lm lv ct y G' ∧ (∀ T, wM G T → wM G' T) ∧ g_nl G' = g_nl G ∧ yfr (yw2 P K) (p_pf P) x y ∧ ¬ y.1 0 29 = 0 := by
  have q2 : Y2 nt N P hp H O K u sb C (some a8) V lm lv ct (mj_wI (mj_wI x 0 59 a8) 0 32 a4) G := (q.set59 (v := a8) (w := a8) rfl).nxM h0
  have fz : yfr (yw2 P K) (p_pf P) x (mj_wI (mj_wI x 0 59 a8) 0 32 a4) := y59w.tr y32w
  have fin : ∀ (z : mj_X) (X2 : wG), Y2 nt N P hp H O K u sb C (some a8) V lm lv ct z X2 → (∀ T, wM G T → wM X2 T) → g_nl X2 = g_nl G → ¬ z.1 0 29 = 0 → z.1 0 59 = a8 → yfr (yw2 P K) (p_pf P) x z → ∃ y G', rX0_leave d (375, [some (.ref 0), some (.int (-1 : Int32)), some (.int a2), some (.int a3), some (.int a4), some (.int a5), some (.int a6), some (.int a7), some (.int a8), some (.int a9), some (.int a10), some (.int (1 : Int32)), some (.int a8)], [], z) = some (none, y) ∧ Y2 nt N P hp H O K u sb C none V lm lv ct y G' ∧ (∀ T, wM G T → wM G' T) ∧ g_nl G' = g_nl G ∧ yfr (yw2 P K) (p_pf P) x y ∧ ¬ y.1 0 29 = 0 := by
    intro z X2 qz mz nz z1 z59 fz'
    obtain ⟨y, e4, q4, f4, y4⟩ := k_goonM (d := d) (k := V.length) (v := a9) (to := -1) (a2 := a2) (a3 := a3) (a4 := a4) (a5 := a5) (a6 := a6) (a7 := a7) (a8 := a8) (a10 := a10) qz z1 (Nat.le_refl _) (z_at_len V).symm z59
    exact ⟨y, X2, e4, q4, mz, nz, fz'.tr f4, y4⟩
  have z0 : ¬ (mj_wI (mj_wI x 0 59 a8) 0 32 a4).1 0 29 = 0 := h0
  have e341 : ∃ y G', rX0_leave d (341, [some (.ref 0), some (.int (-1 : Int32)), some (.int a2), some (.int a3), some (.int a4), some (.int a5), some (.int a6), some (.int a7), some (.int a8), some (.int a9), some (.int a10), some (.int a11), none], [], (mj_wI (mj_wI x 0 59 a8) 0 32 a4)) = some (none, y) ∧ Y2 nt N P hp H O K u sb C none V lm lv ct y G' ∧ (∀ T, wM G T → wM G' T) ∧ g_nl G' = g_nl G ∧ yfr (yw2 P K) (p_pf P) x y ∧ ¬ y.1 0 29 = 0 := by
    have f360 := fin (mj_wI (mj_wI (mj_wI x 0 59 a8) 0 32 a4) 0 30 0) (s_al false G) (q2.al false) (fun T m => m) rfl z0 rfl (fz.w _ rfl)
    rw [bX0_leave_341]
    by_cases q3 : a3 = 0
    · rw [if_pos q3, bX0_leave_360, c_codeq (by omega) (Or.inr z0), mj_rV_k]; exact f360
    · obtain ⟨v, ev⟩ := e41 (d := d) (by omega) a3 (mj_wI (mj_wI x 0 59 a8) 0 32 a4)
      rw [if_neg q3, ev, mj_rI_k, bX0_leave_360, c_codeq (by omega) (Or.inr z0), mj_rV_k]; exact f360
  rw [bX0_leave_278]
  by_cases a0 : x.1 0 30 = 0
  · rw [if_pos a0]
    exact fin _ G q2 (fun T m => m) rfl z0 rfl fz
  · rw [if_neg a0, if_pos rfl]
    by_cases q6 : a6 = -1
    · rw [if_pos q6]; exact e341
    · rw [if_neg q6, c_ldq (by omega) (Or.inr z0), mj_rV_k]; exact e341
theorem k_96M {d : Nat} {a2 a3 a4 a5 a6 : Int32} (hd : 6 ≤ d) (h : Y2 nt N P hp H O K u sb C none V lm lv ct x G) (h0 : ¬ x.1 0 29 = 0) :
    ∃ y G', rX0_leave d (96, [some (.ref 0), some (.int (-1 : Int32)), some (.int a2), some (.int a3), some (.int a4), some (.int a5), some (.int a6), none, none, none, none, none, none], [], x) = some (none, y) ∧ Y2 nt N P hp H O K u sb C none V lm lv ct y G' ∧ (∀ T, wM G T → wM G' T) ∧ g_nl G' = g_nl G ∧ yfr (yw2 P K) (p_pf P) x y ∧ ¬ y.1 0 29 = 0 := by
  have e110 : ∀ s0 : Int32, ∃ y G', rX0_leave d (110, [some (.ref 0), some (.int (-1 : Int32)), some (.int a2), some (.int a3), some (.int a4), some (.int a5), some (.int a6), none, none, none, none, none, none], [.int s0], x) = some (none, y) ∧ Y2 nt N P hp H O K u sb C none V lm lv ct y G' ∧ (∀ T, wM G T → wM G' T) ∧ g_nl G' = g_nl G ∧ yfr (yw2 P K) (p_pf P) x y ∧ ¬ y.1 0 29 = 0 := by
    intro s0
    rw [bX0_leave_110]
    obtain ⟨x', v, b, b', r1, r2, r3, r4⟩ := k_endsM (d := d) (V := V) (to := -1) (a2 := a2) (a3 := a3) (a4 := a4) (a5 := a5) (a6 := a6) (a7 := s0) (a8 := x.1 0 59) (by omega) V.length V (x.1 0 59) K (-1) 1 x (Nat.le_refl _) (z_at_len V).symm h.ch (fun _ q => q) h0 h.o1
    obtain ⟨y, G', p1, p2, p3, p4, p5, p6⟩ := k_278M (d := d) (a2 := a2) (a3 := a3) (a4 := a4) (a5 := a5) (a6 := a6) (a7 := s0) (a8 := x.1 0 59) (a9 := v) (a10 := b) (a11 := b') hd r2 r4
    exact ⟨y, G', r1.trans p1, p2, p3, p4, r3.tr p5, p6⟩
  rw [bX0_leave_96]
  by_cases q6 : a6 = -1
  · rw [if_pos q6]; exact e110 _
  · rw [if_neg q6]; exact e110 _
/-- a return's own code, and what goes on behind -/
theorem k_341 {d t nx0 j : Nat} {A B : List wSl} {E1 : wG} {w hr v a2 a4 a5 a6 a7 a10 a11 : Int32} (hd : 6 ≤ d) (ht : t ≤ 8) (q3 : Y2 nt N P (hp + yhp A) (A.reverse ++ H) O K u sb C (some w) B lm lv ct x (s_cx (B.map (fun s => s.2.2)) (s_nx nx0 E1))) (hcx : g_cx E1 = A.map (fun s => s.2.2) ++ B.map (fun s => s.2.2)) (hch : z_ch hr K (A ++ B)) (h59 : x.1 0 59 = hr) (hj : j ≤ B.length) (hto : (-1 : Int32) = z_at (A ++ B) (A.length + j)) (hA0 : A = [] → hr = -1) (hl : ∀ l, A.getLast? = some l → v = nI l.1) :
    ∃ lm' lv' ct' y V2, rX0_leave d (341, [some (.ref 0), some (.int (-1 : Int32)), some (.int a2), some (.int (nI t)), some (.int a4), some (.int a5), some (.int a6), some (.int a7), some (.int hr), some (.int v), some (.int a10), some (.int a11), none], [], x) = some (none, y) ∧ Y2 nt N P hp H O K u sb C none V2 lm' lv' ct' y (w_gon A.length (s_nx nx0 (s_al false (w_rtc t E1)))) ∧ z_skl V2 = z_skl (A ++ B) ∧ (∀ l, l < g_nl E1 → lm' l = lm l ∧ lv' l = lv l ∧ ct' l = ct l) ∧ yfr (yw2 P K) (p_pf P) x y ∧ (y.1 0 29 = 0 → x.1 0 29 = 0 ∧ yT x E1 y (w_gon A.length (s_nx nx0 (s_al false (w_rtc t E1))))) := by
  have e360 : ∀ cc : Nat, cc = (if t = 0 then 177 else 172 + w_ltr t) → ∃ lm' lv' ct' y V2, rX0_leave d (360, [some (.ref 0), some (.int (-1 : Int32)), some (.int a2), some (.int (nI t)), some (.int a4), some (.int a5), some (.int a6), some (.int a7), some (.int hr), some (.int v), some (.int a10), some (.int a11), none], [.int (nI cc), .ref 0], x) = some (none, y) ∧ Y2 nt N P hp H O K u sb C none V2 lm' lv' ct' y (w_gon A.length (s_nx nx0 (s_al false (w_rtc t E1)))) ∧ z_skl V2 = z_skl (A ++ B) ∧ (∀ l, l < g_nl E1 → lm' l = lm l ∧ lv' l = lv l ∧ ct' l = ct l) ∧ yfr (yw2 P K) (p_pf P) x y ∧ (y.1 0 29 = 0 → x.1 0 29 = 0 ∧ yT x E1 y (w_gon A.length (s_nx nx0 (s_al false (w_rtc t E1))))) := by
    intro cc hcc
    obtain ⟨lm1, lv1, ct1, x1, e1, q4, l4, f4, t4⟩ := Y2.vo (b := 45500) (r := kX0 d 37 [.ref 0, .int (nI cc)] x) (G := w_em (16, cc, 0, 0, []) (w_tl t).length [] (s_cx (B.map (fun s => s.2.2)) (s_nx nx0 E1))) ((wM.rf _).em _ _ _) (wU_em _ _ _) q3 (fun z => c_e1 (by omega) (q3.vx z (by omega) (by omega)) ⟨fun _ => rfl, fun _ _ => rfl⟩) (by omega) (fun z => c_codeq (by omega) (Or.inr z) _)
    rw [bX0_leave_360, e1, mj_rV_k]
    have q5 := q4.al false
    rw [w_em_ph, hcc] at q5 t4
    have cxW : g_cx (s_nx nx0 (s_al false (w_rtc t E1))) = A.map (fun s => s.2.2) ++ B.map (fun s => s.2.2) := by
      rw [← hcx]
      exact (wU_em (16, (if t = 0 then 177 else 172 + w_ltr t), 0, 0, []) (w_tl t).length [] (g := E1)).2.2.2.2.1
    have x159 : (mj_wI x1 0 30 0).1 0 59 = hr := ((yU.of f4).1 59 rfl).trans h59
    obtain ⟨y, V2, e6, q6, v6, f6, y29, t6⟩ := k_goon (d := d) (A := A) (B := B) (W := s_nx nx0 (s_al false (w_rtc t E1))) (hr := hr) (v := v) (to := -1) (a2 := a2) (a3 := nI t) (a4 := a4) (a5 := a5) (a6 := a6) (a7 := a7) (a8 := hr) (a10 := a10) (j := j) q5 rfl cxW hch x159 hj hto hA0 hl
    refine ⟨lm1, lv1, ct1, y, V2, e6, q6, v6, l4, (f4.up.w _ rfl).tr f6, fun w => ?_⟩
    have w1 : x1.1 0 29 = 0 := by rw [y29] at w; exact w
    obtain ⟨w2, w3⟩ := t4 w1
    have a : yT x E1 x (s_cx (B.map (fun s => s.2.2)) (s_nx nx0 E1)) := yT.rf rfl rfl rfl
    have b : yT x1 (s_cx (B.map (fun s => s.2.2)) (s_nx nx0 (w_rtc t E1))) (mj_wI x1 0 30 0) (s_al false (s_cx (B.map (fun s => s.2.2)) (s_nx nx0 (w_rtc t E1)))) := yT.rf rfl rfl rfl
    exact ⟨w2, ((a.tr w3).tr b).tr t6⟩
  rw [bX0_leave_341]
  by_cases t0 : t = 0
  · rw [if_pos (show nI t = 0 by rw [t0]; rfl)]
    exact e360 177 (by rw [if_pos t0])
  · rw [if_neg (show ¬ nI t = (0 : Int32) from fun e => t0 ((nI_eq (b := 0) (by omega) (by omega)).mp e)), sX0_letterOf (by omega) (by omega) ht, mj_rI_k, show (172 : Int32) + nI (w_ltr t) = nI (172 + w_ltr t) from nI_add 172 _]
    exact e360 _ (by rw [if_neg t0])
end
