/-! breaks, continues, returns, all well -/
theorem i_ltn {a : Int32} {w : Nat} (h0 : 0 ≤ a) (h : a < nI w) : a.toNatClampNeg < w := by
  have h1 : a.toInt < (nI w).toInt := Int32.lt_iff_toInt_lt.mp h
  have h2 : (0 : Int32).toInt ≤ a.toInt := Int32.le_iff_toInt_le.mp h0
  have h3 : (nI w).toInt ≤ w := by
    rcases Nat.lt_or_ge w (2 ^ 31) with q | q
    · rw [nI_toInt q]; exact Int.le_refl _
    · have := Int32.toInt_lt (nI w); omega
  have h4 : (0 : Int32).toInt = 0 := by decide
  show a.toInt.toNat < w
  omega
section
variable {nt : sp_NT} {N M : Nat} {res par : Nat → Int32} {ret : Nat} {E : wF} {T : Nat → List Nat} {rs : Int32} {n m z : Nat} {D : Nat → Prop} {g g0 g1 h k : wG} {gh eh gv gt : List oGh} {cx cv ct : List wC} {L0 s0 : List Nat} {rec : wT} {K f B hh : Nat} {i : Int32} {s : sp_SS}
theorem oTg {loops : Bool} : ∀ {cx : List wC} {gh : List oGh}, oCx nt N g cx gh → ∀ d, d < (bif loops then oLo gh else oWa gh) → w_tg loops d cx < cx.length ∧ ∃ e, gh[w_tg loops d cx]? = some e ∧ (h_so e = 0 ∨ (h_so e = 1 ∧ loops = false)) := by
  intro cx
  induction cx with
  | nil => intro gh a d h; cases gh with
    | nil => cases loops <;> simp [oLo, oWa] at h
    | cons _ _ => exact a.elim
  | cons c r ih => intro gh a d h; cases gh with
    | nil => exact a.elim
    | cons e s =>
      have ec : c.1 = h_so e := congrArg Prod.fst a.1.1
      by_cases q : c.1 = 0 ∨ (c.1 = 1 ∧ loops = false)
      · cases d with
        | zero =>
          have e1 : w_tg loops 0 (c :: r) = 0 := by unfold w_tg; rw [if_pos q]
          rw [e1]
          exact ⟨Nat.zero_lt_succ _, e, rfl, by rw [← ec]; exact q⟩
        | succ d =>
          have e1 : w_tg loops (d + 1) (c :: r) = w_tg loops d r + 1 := by
            conv => lhs; unfold w_tg
            rw [if_pos q]
            show 1 + w_tg loops d r = _; omega
          rw [e1]
          obtain ⟨x1, x2⟩ := ih a.2.2 d (by
            cases loops
            · simp only [cond_false] at h ⊢
              have : oWa (e :: s) = (if h_so e ≤ 1 then 1 else 0) + oWa s := rfl
              rw [if_pos (by omega)] at this; omega
            · simp only [cond_true] at h ⊢
              have z : c.1 = 0 := by rcases q with q | q; exact q; exact absurd q.2 (by decide)
              have : oLo (e :: s) = (if h_so e = 0 then 1 else 0) + oLo s := rfl
              rw [if_pos (by omega)] at this; omega)
          exact ⟨by simp only [List.length_cons]; omega, by rw [List.getElem?_cons_succ]; exact x2⟩
      · have e1 : w_tg loops d (c :: r) = w_tg loops d r + 1 := by
          conv => lhs; unfold w_tg
          rw [if_neg q]; omega
        rw [e1]
        obtain ⟨x1, x2⟩ := ih a.2.2 d (by
          cases loops
          · simp only [cond_false] at h ⊢
            have : oWa (e :: s) = (if h_so e ≤ 1 then 1 else 0) + oWa s := rfl
            rw [if_neg (by intro w; exact q (by rcases Nat.lt_or_ge (h_so e) 1 with y | y; exact Or.inl (by omega); exact Or.inr ⟨by omega, rfl⟩))] at this; omega
          · simp only [cond_true] at h ⊢
            have : oLo (e :: s) = (if h_so e = 0 then 1 else 0) + oLo s := rfl
            rw [if_neg (by intro w; exact q (Or.inl (by omega)))] at this; omega)
        exact ⟨by simp only [List.length_cons]; omega, by rw [List.getElem?_cons_succ]; exact x2⟩
theorem oCx.nth : ∀ {cx : List wC} {gh : List oGh}, oCx nt N g cx gh → ∀ {j : Nat} {e : oGh}, gh[j]? = some e → ∃ c, cx[j]? = some c ∧ oC0 nt N g c e := by
  intro cx
  induction cx with
  | nil => intro gh a j e h; cases gh with
    | nil => simp at h
    | cons _ _ => exact a.elim
  | cons c r ih => intro gh a j e h; cases gh with
    | nil => exact a.elim
    | cons d s => cases j with
      | zero => simp at h; subst h; exact ⟨c, rfl, a.1⟩
      | succ j => rw [List.getElem?_cons_succ] at h; obtain ⟨x, x1, x2⟩ := ih a.2.2 h; exact ⟨x, by rw [List.getElem?_cons_succ]; exact x1, x2⟩
theorem oSt.suf : ∀ {gv gt : List oGh}, oSt nt N T rs (gv ++ gt) → oSt nt N T rs gt := by
  intro gv
  induction gv with
  | nil => intro gt h; exact h
  | cons e r ih => intro gt h; exact ih h.2.2.2.2
/-- the longest locals of contexts -/
def oHL : List oGh → List Nat
  | [] => []
  | e :: _ => h_L e
theorem oSt.hl (a : oSt nt N T rs gh) : ∀ e, e ∈ gh → h_L e <+: oHL gh := by
  intro e he
  cases gh with
  | nil => cases he
  | cons d r =>
    rcases List.mem_cons.mp he with q | q
    · rw [q]; exact List.prefix_refl _
    · exact a.2.1 e q
theorem oM.okk (a : oM nt N M res par ret E gh n m z D L0 hh eh s0 g1 g) {P : Prop} (hP : P) : oM nt N M res par ret E gh n m z D L0 hh eh s0 g1 (s_ok P g) := by
  obtain ⟨hc, ch, ct, e1, e2, j, c⟩ := a
  exact ⟨hc, ch, ct, e1, e2, ⟨⟨j.1.1.okk hP, j.1.2.1.same (fun _ _ q => q) (fun _ _ q => q), j.1.2.2⟩, j.2⟩, c.same (fun _ _ q => q) (fun _ _ q => q)⟩
/-- behind what was left -/
theorem oGon {q : wG} (hq : g_cx q = cv ++ ct) (hl : cv.length = hh) (z1 : oCz nt N q cv gv) (ls : oLs (g_nl q) q h) (hpl : g_pl h = g_pl q) (hcx : g_cx h = g_cx q) (hal : g_al h = false) (a : oM nt N M res par ret E gt n m z D L0 hh [] s0 g1 h) :
    oY nt N M res par ret E (gv ++ gt) (g_cx (w_gon hh h)) (w_gon hh h) ∧ oZ n m z D g1 (w_gon hh h) ∧ g_al (w_gon hh h) = false ∧ g_nx (w_gon hh h) = g_nx h := by
  obtain ⟨hc, ch, ct', e1, e2, j, c⟩ := a
  rw [c.nil0, hcx, hq] at e1
  have e1 : cv ++ ct = hc ++ ct' := e1
  obtain ⟨e3, e4⟩ := List.append_inj e1 (by rw [hl, e2])
  rw [← e4] at j
  have zz := z1.le ls (fun e _ _ v _ _ => by rw [hpl])
  refine ⟨⟨j.1.1, ?_, j.1.2.2.1, j.1.2.2.2.1, j.1.2.2.2.2.1, fun w => ?_⟩, j.2.1, hal, rfl⟩
  · show oCx nt N (w_gon hh h) (w_on hh (g_it h).length (g_cx h)) (gv ++ gt)
    rw [hcx, hq, ← hl]
    exact (oCz.on zz j.1.2.1).same (fun _ _ q => q) (fun _ _ q => q)
  · have : g_al h = true := w
    rw [hal] at this; exact absurd this (by decide)
/-- breaks and continues -/
theorem oLvs (IH : oSc nt N M res par ret E T rs rec K) (b : oBg nt N M res par ret E T rs K f i g0 s gh B) {d : Nat} {brk : Bool} (hd : d < (bif !brk then oLo gh else oWa gh)) : oPs nt N M res par ret E T f i g0 s gh (w_lvs rec d brk (s_ac g0)) := by
  have b' := b
  obtain ⟨⟨p1, p2, p3, p4, p5, p6, p7, p8, p9, p10, p11, p12, p13, p14⟩, b2, hN, hT, hTr, hA⟩ := b'
  obtain ⟨m0, B0⟩ := b.mst
  have j0 := m0.j
  have ha := ((w_q_iff g0).mp p1).1
  have y0 : oY nt N M res par ret E gh (g_cx (s_ac g0)) (s_ac g0) := j0.1
  obtain ⟨t1, e, t2, t3⟩ := oTg (loops := !brk) y0.2.1 d hd
  have Wb : ∀ e, e ∈ gh → (h_L e).length ≤ g_nx g0 := fun e he => by have := (p2.2.2.2.2.2 ha e he).length_le; omega
  obtain ⟨cv, ct, gv, gt, r1, r2, r3, r4, r5, r6, r7, r8, r9⟩ := oEnds (Kp := []) (st := []) (ab := 0) (W := g_nx g0) IH hN rfl (Nat.zero_le _) (by omega : B + 70 * K + 170 ≤ 20000) (w_tg (!brk) d (g_cx (s_ac g0))) gh (s_ac g0) y0 p3 p4 (fun _ => ⟨List.nil_prefix, p6.1⟩) (fun _ => p7.2) (fun _ _ _ => rfl) Wb (by omega) B0
  unfold w_lvs
  simp only
  generalize hk : w_tg (!brk) d (g_cx (s_ac g0)) = k at *
  generalize w_ends rec 0 k (s_ac g0) = q at *
  have gl : gv.length = q.2 := by rw [← r3]; exact r4.len.symm
  have ek : gt[k - q.2]? = some e := by rw [r2, List.getElem?_append_right (by omega), gl] at t2; exact t2
  obtain ⟨c, c1, c2⟩ := r5.2.1.nth ek
  have ecx : (g_cx (s_nx (g_nx (s_ac g0)) q.1))[k]? = some c := by
    show (g_cx q.1)[k]? = some c
    rw [r1, List.getElem?_append_right (by omega), r3]; exact c1
  rw [ecx]
  simp only
  have st' : oSt nt N T rs gt := by rw [r2] at p3; exact p3.suf
  have mem : ∀ e, e ∈ gt → e ∈ gh := fun e he => by rw [r2]; exact List.mem_append_right _ he
  have w : oW N (g_nl g0) (oDn T i gh) gt (oHL gt) := ⟨fun e he => b.w.1 e (mem e he), fun e he => b.w.2.1 e (mem e he), hN, st'.hl⟩
  have hlen : (oHL gt).length ≤ g_nx g0 := by
    cases gt with
    | nil => exact Nat.zero_le _
    | cons e r => exact Wb e (mem e (List.mem_cons_self ..))
  have hsub : q.1 = q.1 := rfl
  have ZD : oZ (g_nl g0) (g_nl g0) 0 (oDn T i gh) (s_ac g0) q.1 := ⟨r6.1, r6.2.1, r6.2.2.mono (fun j x => Or.inr x)⟩
  have M1 : oM nt N M res par ret E gt (g_nl g0) (g_nl g0) 0 (oDn T i gh) (oHL gt) q.2 [] [] (s_ac g0) (s_ok (k < (g_cx (s_ac g0)).length) (s_nx (g_nx (s_ac g0)) q.1)) := by
    refine oM.okk ?_ t1
    refine ⟨cv, [], ct, r1, r3, ⟨r5.nx _, ZD, fun y => ⟨?_, (r7 y).2⟩, hlen⟩, trivial⟩
    show oHL gt <+: g_L q.1
    cases gt with
    | nil => exact List.nil_prefix
    | cons e r => exact r5.2.2.2.2.2 y e (List.mem_cons_self ..)
  have me : e ∈ gt := List.mem_of_getElem? ek
  have Q1 : w_q (s_ok (k < (g_cx (s_ac g0)).length) (s_nx (g_nx (s_ac g0)) q.1)) = w_q q.1 := rfl
  have A1 : oLs (g_nl q.1) q.1 (s_ok (k < (g_cx (s_ac g0)).length) (s_nx (g_nx (s_ac g0)) q.1)) := oLs.rf _ q.1
  have C2 : oC0 nt N (s_ok (k < (g_cx (s_ac g0)).length) (s_nx (g_nx (s_ac g0)) q.1)) c e := c2
  have al2 : g_al (s_ok (k < (g_cx (s_ac g0)).length) (s_nx (g_nx (s_ac g0)) q.1)) = true → h_L e <+: g_L (s_ok (k < (g_cx (s_ac g0)).length) (s_nx (g_nx (s_ac g0)) q.1)) := fun y => r5.2.2.2.2.2 y e me
  have nx2 : g_nx (s_ok (k < (g_cx (s_ac g0)).length) (s_nx (g_nx (s_ac g0)) q.1)) = g_nx g0 := rfl
  have cx2 : g_cx (s_ok (k < (g_cx (s_ac g0)).length) (s_nx (g_nx (s_ac g0)) q.1)) = g_cx q.1 := rfl
  have pl2 : g_pl (s_ok (k < (g_cx (s_ac g0)).length) (s_nx (g_nx (s_ac g0)) q.1)) = g_pl q.1 := rfl
  generalize s_ok (k < (g_cx (s_ac g0)).length) (s_nx (g_nx (s_ac g0)) q.1) = g2 at *
  have P : oPd (h_L e) [] (bif brk then c.2.2.1 else c.2.2.2.1) g2 := by
    have ec := C2.1
    cases brk
    · have z0 : h_so e = 0 := by rcases t3 with y | y; exact y; exact absurd y.2 (by decide)
      have : c.2.2.2.1 = h_co e := congrArg (fun q => q.2.2.2) ec
      simp only [cond_false]; rw [this]; exact C2.2.2.2.1 z0
    · have z0 : h_so e ≤ 1 := by rcases t3 with y | y <;> omega
      have : c.2.2.1 = h_br e := congrArg (fun q => q.2.2.1) ec
      simp only [cond_true]; rw [this]
      obtain ⟨x1, x2, x3⟩ := C2.2.2.1 z0
      exact oOw.pd ⟨x1, x3, x2⟩
  generalize (bif brk then c.2.2.1 else c.2.2.2.1) = l at *
  obtain ⟨m3, ls3⟩ := M1.go (l := l) w (fun d hd => by cases hd) (by decide) P (fun y => al2 ((w_q_iff _).mp y).1)
  obtain ⟨f1, f2, f3, f4, f5, f6, f7, f8, f9, f10, f11⟩ := oGo_f l g2
  generalize w_go l g2 = g3 at *
  obtain ⟨m4, ls4⟩ := m3.al0 hN (s' := []) (by
    cases y : g_al g3
    · exact Or.inr rfl
    · exact Or.inl (by rw [f1]; exact (f11 y).1))
  have G := oGon r1 r3 r4 (A1.tr ((ls3.low A1.2.1).tr (ls4.low (Nat.le_trans A1.2.1 ls3.2.1)))) (by show g_pl g3 = _; rw [f3, pl2]) (by show g_cx g3 = _; rw [f5, cx2]) rfl m4
  rw [← r2] at G
  obtain ⟨G1, G2, G3, G4⟩ := G
  have nxe : g_nx (w_gon q.2 (s_al false g3)) = g_nx g0 := by rw [G4]; show g_nx g3 = _; rw [f4, nx2]
  refine ⟨G1, (oClose (g := s_ac g0) rfl (oLab.rf ([], []) _) ⟨rfl, rfl, rfl, rfl, rfl, rfl, rfl⟩ (oLs.rf _ g0) (fun _ _ => rfl) G2 (Nat.le_refl _) (Nat.le_refl _) (Nat.add_le_add_right (Nat.zero_le 3) _)), fun y => by rw [G3] at y; exact absurd y (by decide), by omega, by omega, fun y => ?_⟩
  have := ((w_q_iff _).mp y).1
  rw [G3] at this; exact absurd this (by decide)
theorem ob71 (IH : oSc nt N M res par ret E T rs rec K) (b : oBg nt N M res par ret E T rs K (f + 1) i g0 s gh B) (e : nK nt i = 71) : oPs nt N M res par ret E T (f + 1) i g0 s gh (w_lvs rec (nA nt i).toNatClampNeg true (s_ac g0)) := by
  have hT := b.2.2.2.1
  have hA := b.2.2.2.2.2
  have p9 := b.1.2.2.2.2.2.2.2.2.1
  rw [ol71 e] at p9
  exact oLvs IH b (i_ltn ((sp_k71 (hT.ok hA.1).1 (hT.ok hA.1).2 e).2) (of_decide_eq_true p9))
theorem ob72 (IH : oSc nt N M res par ret E T rs rec K) (b : oBg nt N M res par ret E T rs K (f + 1) i g0 s gh B) (e : nK nt i = 72) : oPs nt N M res par ret E T (f + 1) i g0 s gh (w_lvs rec (nA nt i).toNatClampNeg false (s_ac g0)) := by
  have hT := b.2.2.2.1
  have hA := b.2.2.2.2.2
  have p9 := b.1.2.2.2.2.2.2.2.2.1
  rw [ol72 e] at p9
  exact oLvs IH b (i_ltn ((sp_k72 (hT.ok hA.1).1 (hT.ok hA.1).2 e).2) (of_decide_eq_true p9))
end
section
variable {nt : sp_NT} {N M : Nat} {res par : Nat → Int32} {ret : Nat} {E : wF} {T : Nat → List Nat} {rs : Int32} {n m z : Nat} {D : Nat → Prop} {g g0 g1 h k : wG} {gh eh gv gt : List oGh} {cx cv ct : List wC} {L0 s0 : List Nat} {rec : wT} {K f B hh : Nat} {i : Int32} {s : sp_SS}
theorem w_ltr_le {t : Nat} (h : t ≤ 8) : w_ltr t ≤ 4 := by
  have : t = 0 ∨ t = 1 ∨ t = 2 ∨ t = 3 ∨ t = 4 ∨ t = 5 ∨ t = 6 ∨ t = 7 ∨ t = 8 := by omega
  rcases this with rfl | rfl | rfl | rfl | rfl | rfl | rfl | rfl | rfl <;> decide
/-- the return itself: behind what was left; keep: what was kept is loaded first -/
theorem oRet1 {q : wG × Nat} {t p : Nat} {keep : Bool} {st : List Nat} (b : oBg nt N M res par ret E T rs K f i g0 s gh B) (pl0 : g_pl g = g_pl g) (z0 : oZ (g_nl g0) (g_nl g0) 0 (oDn T i gh) (s_ac g0) q.1)
    (r1 : g_cx q.1 = cv ++ ct) (r2 : gh = gv ++ gt) (r3 : cv.length = q.2) (r4 : oCz nt N q.1 cv gv) (r5 : oY nt N M res par ret E gt ct q.1) (hst : g_al q.1 = true → g_st q.1 = st) (hk : keep = true → st = [] ∧ 1 ≤ t ∧ t ≤ 8 ∧ (g_al q.1 = true → (g_L q.1)[p]? = some t)) (hn : keep = false → st = w_tl t) (hr : ret = t) (h8 : t ≤ 8) :
    oPs nt N M res par ret E T f i g0 s gh (w_gon q.2 (s_nx (g_nx g0) (s_al false (if t = 0 then w_em (16, 177, 0, 0, []) 0 [] (bif keep then w_ld t p (w_tl t) q.1 else q.1) else w_em (16, 172 + w_ltr t, 0, 0, []) (w_tl t).length [] (bif keep then w_ld t p (w_tl t) q.1 else q.1))))) := by
  have b' := b
  obtain ⟨⟨p1, p2, p3, p4, p5, p6, p7, p8, p9, p10, p11, p12, p13, p14⟩, b2, hN, hT, hTr, hA⟩ := b'
  have ha := ((w_q_iff g0).mp p1).1
  have Wb : ∀ e, e ∈ gh → (h_L e).length ≤ g_nx g0 := fun e he => by have := (p2.2.2.2.2.2 ha e he).length_le; omega
  have st' : oSt nt N T rs gt := by rw [r2] at p3; exact p3.suf
  have mem : ∀ e, e ∈ gt → e ∈ gh := fun e he => by rw [r2]; exact List.mem_append_right _ he
  have w : oW N (g_nl g0) (oDn T i gh) gt (oHL gt) := ⟨fun e he => b.w.1 e (mem e he), fun e he => b.w.2.1 e (mem e he), hN, st'.hl⟩
  have hlen : (oHL gt).length ≤ g_nx g0 := by
    cases gt with
    | nil => exact Nat.zero_le _
    | cons e r => exact Wb e (mem e (List.mem_cons_self ..))
  have M1 : oM nt N M res par ret E gt (g_nl g0) (g_nl g0) 0 (oDn T i gh) (oHL gt) q.2 [] st (s_ac g0) (s_nx (g_nx g0) q.1) := by
    refine ⟨cv, [], ct, r1, r3, ⟨r5.nx _, z0, fun y => ⟨?_, hst y⟩, hlen⟩, trivial⟩
    show oHL gt <+: g_L q.1
    cases gt with
    | nil => exact List.nil_prefix
    | cons e r => exact r5.2.2.2.2.2 y e (List.mem_cons_self ..)
  have A1 : oLs (g_nl q.1) q.1 (s_nx (g_nx g0) q.1) := oLs.rf _ q.1
  -- the state with its count of locals set at once
  have com : s_nx (g_nx g0) (s_al false (if t = 0 then w_em (16, 177, 0, 0, []) 0 [] (bif keep then w_ld t p (w_tl t) q.1 else q.1) else w_em (16, 172 + w_ltr t, 0, 0, []) (w_tl t).length [] (bif keep then w_ld t p (w_tl t) q.1 else q.1)))
      = s_al false (if t = 0 then w_em (16, 177, 0, 0, []) 0 [] (bif keep then w_ld t p (w_tl t) (s_nx (g_nx g0) q.1) else s_nx (g_nx g0) q.1) else w_em (16, 172 + w_ltr t, 0, 0, []) (w_tl t).length [] (bif keep then w_ld t p (w_tl t) (s_nx (g_nx g0) q.1) else s_nx (g_nx g0) q.1)) := by
    have e1 : ∀ (i : wI) (off : Nat) (on : List Nat) (g : wG) (v : Nat), s_nx v (w_em i off on g) = w_em i off on (s_nx v g) := fun i off on g v => by
      unfold w_em w_es
      have : w_q (s_nx v g) = w_q g := rfl
      rw [this]; cases w_q g <;> rfl
    have e2 : s_nx (g_nx g0) (bif keep then w_ld t p (w_tl t) q.1 else q.1) = (bif keep then w_ld t p (w_tl t) (s_nx (g_nx g0) q.1) else s_nx (g_nx g0) q.1) := by
      cases keep
      · rfl
      · exact e1 _ _ _ _ _
    rw [← e2]
    show s_al false (s_nx (g_nx g0) _) = _
    congr 1
    split <;> exact e1 _ _ _ _ _
  rw [com]
  have Q1 : w_q (s_nx (g_nx g0) q.1) = w_q q.1 := rfl
  have nx1 : g_nx (s_nx (g_nx g0) q.1) = g_nx g0 := rfl
  have cx1 : g_cx (s_nx (g_nx g0) q.1) = g_cx q.1 := rfl
  have pl1 : g_pl (s_nx (g_nx g0) q.1) = g_pl q.1 := rfl
  have hL1 : g_L (s_nx (g_nx g0) q.1) = g_L q.1 := rfl
  have ha1 : g_al (s_nx (g_nx g0) q.1) = g_al q.1 := rfl
  generalize s_nx (g_nx g0) q.1 = g2 at *
  have no : ∀ d : oGh, d ∈ ([] : List oGh) → h_L d <+: oHL gt := fun d hd => by cases hd
  -- what was kept
  have S2 : ∃ s2, oM nt N M res par ret E gt (g_nl g0) (g_nl g0) 0 (oDn T i gh) (oHL gt) q.2 [] s2 (s_ac g0) (bif keep then w_ld t p (w_tl t) g2 else g2) ∧ oLs (g_nl g2) g2 (bif keep then w_ld t p (w_tl t) g2 else g2) ∧ (w_q g2 = false → s2 = w_tl t) ∧ w_q (bif keep then w_ld t p (w_tl t) g2 else g2) = w_q g2 ∧ g_nx (bif keep then w_ld t p (w_tl t) g2 else g2) = g_nx g2 ∧ g_cx (bif keep then w_ld t p (w_tl t) g2 else g2) = g_cx g2 ∧ g_pl (bif keep then w_ld t p (w_tl t) g2 else g2) = g_pl g2 := by
    cases keep
    · exact ⟨st, M1, oLs.rf _ _, fun _ => hn rfl, rfl, rfl, rfl, rfl⟩
    · simp only [cond_true]
      obtain ⟨k1, k2, k3, k4⟩ := hk rfl
      cases hq : w_q g2
      · have la := ((w_q_iff _).mp hq).1
        obtain ⟨ctt, jj⟩ := M1.ac
        have o1 := (oP.rf (f := 41) (n := g_nl g2) jj.1.1 hq (M1.live la).2).ld hN k2 k3 (p := p) (by rw [hL1]; exact k4 (by rw [← ha1]; exact la)) (by rw [k1]; decide)
        obtain ⟨m2, ls2⟩ := M1.val (by decide) w no hq o1.1 o1.2
        exact ⟨_, m2, ls2, fun _ => by rw [k1, List.append_nil], o1.1.2.1, o1.1.1.1.2.1, o1.1.1.1.2.2.2.2.2.1, o1.1.1.1.2.2.2.2.2.2⟩
      · have e : w_ld t p (w_tl t) g2 = g2 := by unfold w_ld w_em; rw [hq]; rfl
        rw [e]
        exact ⟨st, M1, oLs.rf _ _, fun y => absurd y (by decide), hq, rfl, rfl, rfl⟩
  obtain ⟨s2, m2, ls2, es2, q2, n2, c2, pp2⟩ := S2
  generalize (bif keep then w_ld t p (w_tl t) g2 else g2) = g3 at *
  have S3 : ∃ s3, oM nt N M res par ret E gt (g_nl g0) (g_nl g0) 0 (oDn T i gh) (oHL gt) q.2 [] s3 (s_ac g0) (s_al false (if t = 0 then w_em (16, 177, 0, 0, []) 0 [] g3 else w_em (16, 172 + w_ltr t, 0, 0, []) (w_tl t).length [] g3)) ∧ oLs (g_nl g3) g3 (s_al false (if t = 0 then w_em (16, 177, 0, 0, []) 0 [] g3 else w_em (16, 172 + w_ltr t, 0, 0, []) (w_tl t).length [] g3))
      ∧ g_nx (s_al false (if t = 0 then w_em (16, 177, 0, 0, []) 0 [] g3 else w_em (16, 172 + w_ltr t, 0, 0, []) (w_tl t).length [] g3)) = g_nx g3 ∧ g_cx (s_al false (if t = 0 then w_em (16, 177, 0, 0, []) 0 [] g3 else w_em (16, 172 + w_ltr t, 0, 0, []) (w_tl t).length [] g3)) = g_cx g3 ∧ g_pl (s_al false (if t = 0 then w_em (16, 177, 0, 0, []) 0 [] g3 else w_em (16, 172 + w_ltr t, 0, 0, []) (w_tl t).length [] g3)) = g_pl g3 := by
    have fr : ∀ (i : wI) (off : Nat) (on : List Nat), g_nx (s_al false (w_em i off on g3)) = g_nx g3 ∧ g_cx (s_al false (w_em i off on g3)) = g_cx g3 ∧ g_pl (s_al false (w_em i off on g3)) = g_pl g3 := fun i off on => by
      unfold w_em w_es; cases w_q g3 <;> exact ⟨rfl, rfl, rfl⟩
    cases hq : w_q g3
    · have es2 := es2 (by rw [← q2]; exact hq)
      by_cases t0 : t = 0
      · rw [if_pos t0]
        obtain ⟨m3, ls3⟩ := m2.term (off := 0) (on := []) w no hq (i := (16, 177, 0, 0, [])) rfl rfl ⟨Or.inl (Or.inl rfl), fun q => (q.elim (fun q => absurd q (by decide)) (fun q => absurd q (by decide))), fun q => absurd q (by decide), fun q => absurd q (by decide), (fun _ _ _ => Or.inl ⟨rfl, by rw [hr, t0]⟩), oShp0 rfl (by decide)⟩ (Nat.zero_le _) (by rw [es2, t0]; decide) []
        exact ⟨[], m3, ls3, fr _ _ _⟩
      · rw [if_neg t0]
        have l4 := w_ltr_le h8
        have tm : oTerm (16, 172 + w_ltr t, 0, 0, []) = true := by
          have : w_ltr t = 0 ∨ w_ltr t = 1 ∨ w_ltr t = 2 ∨ w_ltr t = 3 ∨ w_ltr t = 4 := by omega
          rcases this with y | y | y | y | y <;> rw [y] <;> decide
        obtain ⟨m3, ls3⟩ := m2.term (off := (w_tl t).length) (on := []) w no hq (i := (16, 172 + w_ltr t, 0, 0, [])) rfl tm ⟨Or.inl (Or.inr ⟨Nat.le_add_right _ _, by show 172 + w_ltr t ≤ 176; omega⟩), fun q => (q.elim (fun q => absurd (show (16 : Nat) = 1 from q) (by decide)) (fun q => absurd (show (16 : Nat) = 15 from q) (by decide))), fun q => absurd (show (16 : Nat) = 1 from q) (by decide), fun q => absurd (show (16 : Nat) = 15 from q) (by decide), (fun _ _ _ => Or.inr ⟨by rw [hr], by omega, by omega, [], by show s2 = _; rw [es2, hr, List.append_nil]⟩), oShp0 rfl (by decide)⟩ (by rw [es2]; exact Nat.le_refl _) (by rw [es2, List.drop_length]; decide) []
        exact ⟨[], m3, ls3, fr _ _ _⟩
    · have e : (if t = 0 then w_em (16, 177, 0, 0, []) 0 [] g3 else w_em (16, 172 + w_ltr t, 0, 0, []) (w_tl t).length [] g3) = g3 := by
        unfold w_em; rw [hq]; split <;> rfl
      rw [e]
      obtain ⟨m3, ls3⟩ := m2.al0 hN (s' := []) (by
        unfold w_q at hq
        cases y : g_al g3
        · exact Or.inr rfl
        · rw [y] at hq; exact Or.inl (by simpa using hq))
      exact ⟨[], m3, ls3, rfl, rfl, rfl⟩
  obtain ⟨s3, m3, ls3, n3, c3, pl3⟩ := S3
  have al3 : g_al (s_al false (if t = 0 then w_em (16, 177, 0, 0, []) 0 [] g3 else w_em (16, 172 + w_ltr t, 0, 0, []) (w_tl t).length [] g3)) = false := rfl
  generalize s_al false (if t = 0 then w_em (16, 177, 0, 0, []) 0 [] g3 else w_em (16, 172 + w_ltr t, 0, 0, []) (w_tl t).length [] g3) = g4 at *
  have G := oGon r1 r3 r4 (A1.tr ((ls2.low A1.2.1).tr (ls3.low (Nat.le_trans A1.2.1 ls2.2.1)))) (by rw [pl3, pp2, pl1]) (by rw [c3, c2, cx1]) al3 m3
  rw [← r2] at G
  obtain ⟨G1, G2, G3, G4⟩ := G
  have nxe : g_nx (w_gon q.2 g4) = g_nx g0 := by rw [G4, n3, n2, nx1]
  refine ⟨G1, (oClose (g := s_ac g0) rfl (oLab.rf ([], []) _) ⟨rfl, rfl, rfl, rfl, rfl, rfl, rfl⟩ (oLs.rf _ g0) (fun _ _ => rfl) G2 (Nat.le_refl _) (Nat.le_refl _) (Nat.add_le_add_right (Nat.zero_le 3) _)), fun y => by rw [G3] at y; exact absurd y (by decide), by omega, by omega, fun y => ?_⟩
  have := ((w_q_iff _).mp y).1
  rw [G3] at this; exact absurd this (by decide)
theorem any_false {α : Type} {f : α → Bool} {l : List α} (h : l.any f = false) : ∀ x, x ∈ l → f x = false := by
  intro x hx
  cases y : f x
  · rfl
  · rw [List.any_eq_true.mpr ⟨x, hx, y⟩] at h; exact absurd h (by decide)
theorem oCx.any : ∀ {cx : List wC} {gh : List oGh}, oCx nt N g cx gh → cx.any (fun c => Nat.ble 3 c.1) = gh.any (fun e => Nat.ble 3 (h_so e)) := by
  intro cx
  induction cx with
  | nil => intro gh a; cases gh with
    | nil => rfl
    | cons _ _ => exact a.elim
  | cons c r ih => intro gh a; cases gh with
    | nil => exact a.elim
    | cons e s =>
      have ec : c.1 = h_so e := congrArg Prod.fst a.1.1
      rw [List.any_cons, List.any_cons, ih a.2.2, ec]
theorem ob73 (hret : ret = rs.toNatClampNeg) (IH : oSc nt N M res par ret E T rs rec K) (b : oBg nt N M res par ret E T rs K (f + 1) i g0 s gh B) (e : nK nt i = 73) : oPs nt N M res par ret E T (f + 1) i g0 s gh (w_ret nt (wV nt 40) rec (nA nt i) (s_ac g0)) := by
  have b' := b
  obtain ⟨⟨p1, p2, p3, p4, p5, p6, p7, p8, p9, p10, p11, p12, p13, p14⟩, b2, hN, hT, hTr, hA⟩ := b'
  obtain ⟨m0, B0⟩ := b.mst
  rw [ol73 e] at p9
  have p9 := of_decide_eq_true p9
  rw [oc73 e] at p8
  have ha := ((w_q_iff g0).mp p1).1
  have ln : 1 ≤ (oT T i).length := List.length_pos_of_mem (hTr.self hT.2.2 hA.1)
  have Wb : ∀ e, e ∈ gh → (h_L e).length ≤ g_nx g0 := fun e he => by have := (p2.2.2.2.2.2 ha e he).length_le; omega
  have q0 : w_q (s_ac g0) = false := p1
  have no : ∀ d : oGh, d ∈ ([] : List oGh) → h_L d <+: g_L g0 := fun d hd => by cases hd
  unfold w_ret
  by_cases n1 : nA nt i = -1
  · rw [if_pos n1] at p9
    simp only [if_pos n1, decide_eq_true n1, Bool.not_true, Bool.false_and, cond_false]
    have j0 := m0.j
    obtain ⟨cv, ct, gv, gt, r1, r2, r3, r4, r5, r6, r7, r8, r9⟩ := oEnds (Kp := []) (st := []) (ab := 0) (W := g_nx g0) IH hN rfl (Nat.zero_le _) (by omega : B + 70 * K + 170 ≤ 20000) (g_cx (s_ac g0)).length gh (s_ac g0) j0.1 p3 p4 (fun _ => ⟨List.nil_prefix, p6.1⟩) (fun _ => p7.2) (fun _ _ _ => rfl) Wb (by omega) B0
    have := oRet1 (t := 0) (p := 0) (keep := false) (q := w_ends rec 0 (g_cx (s_ac g0)).length (s_ac g0)) (g := g0) b rfl ⟨r6.1, r6.2.1, r6.2.2.mono (fun j x => Or.inr x)⟩ r1 r2 r3 r4 r5 (fun y => (r7 y).2) (fun y => absurd y (by decide)) (fun _ => rfl) (by rw [hret, p9]; rfl) (by decide)
    exact this
  · rw [if_neg n1] at p9 p8
    obtain ⟨wa, t1, t8⟩ := (wE_ret hT hA.1 hA.2.2 e).resolve_left n1
    have hr : ret = nT nt (nA nt i) := by rw [hret, p9]
    obtain ⟨m1, ls1, P1⟩ := (m0.V hT b.w no q0 wa p7 p8 B0 (by omega)).1
    have j1 := m1.j
    have P1' := P1
    obtain ⟨⟨⟨x1, x2, x3, x4, x5, x6, x7⟩, xr⟩, P2, P3, P4⟩ := P1'
    simp only [if_neg n1, decide_eq_false n1, Bool.not_false, Bool.true_and]
    generalize wV nt 40 (nA nt i) 0 0 (s_ac g0) = g1 at *
    have x2 : g_nx g1 = g_nx g0 := x2
    have P3 : g_L g1 = g_L g0 := P3
    have two := w_tl_2l (nT nt (nA nt i))
    have t0 : ¬ nT nt (nA nt i) = 0 := by omega
    generalize nT nt (nA nt i) = t at *
    have any := j1.1.2.1.any
    cases hk : (g_cx g1).any (fun c => Nat.ble 3 c.1)
    · simp only [cond_false]
      rw [hk] at any
      have sml : ∀ e, e ∈ gh → ¬ 3 ≤ h_so e := fun e he q => by
        have := any_false any.symm e he
        rw [Nat.ble_eq_true_of_le q] at this; exact absurd this (by decide)
      obtain ⟨cv, ct, gv, gt, r1, r2, r3, r4, r5, r6, r7, r8, r9⟩ := oEnds (Kp := []) (st := w_tl t) (ab := 0) (W := g_nx g0) IH hN rfl (Nat.zero_le _) (by omega : B + 70 * K + 170 ≤ 20000) (g_cx g1).length gh g1 j1.1 p3 p4 (fun y => ⟨List.nil_prefix, (j1.2.2.1 y).2⟩) (fun _ => by rw [P3]; exact p7.2) (fun e he q => absurd q (sml e (List.mem_of_mem_take he))) Wb (by omega) (B0.z j1.2.1.2.1 j1.1.2.2.2.1)
      have zz : oZ (g_nl g0) (g_nl g0) 0 (oDn T i gh) (s_ac g0) (w_ends rec 0 (g_cx g1).length g1).1 := j1.2.1.tr ⟨r6.1.low j1.2.1.1.2.1, oPz.of r6.2.1.pt.1 r6.2.1.pt.2 j1.2.1.1.2.1, r6.2.2.mono (fun j x => Or.inr x)⟩
      have := oRet1 (t := t) (p := g_nx g1) (keep := false) (q := w_ends rec 0 (g_cx g1).length g1) (g := g0) b rfl zz r1 r2 r3 r4 r5 (fun y => (r7 y).2) (fun y => absurd y (by decide)) (fun _ => rfl) hr t8
      rw [if_neg t0, ← x2] at this
      exact this
    · simp only [cond_true]
      have ht : (w_num t ∧ (w_tl t).reverse = (w_tl t).reverse ∧ w_tl t = w_tl t ++ []) ∨ (w_arr5 t ∧ ∃ a, (w_tl t).reverse = [a] ∧ w_tl t = a :: [] ∧ (w_arr5 a ∨ a = 10 ∨ a = 12)) := by
        by_cases q : t ≤ 4
        · exact Or.inl ⟨⟨t1, q⟩, rfl, (List.append_nil _).symm⟩
        · have a5 : w_arr5 t := ⟨by omega, t8⟩
          have e5 : w_tl t = [t] := w_tl_1 (Or.inr a5)
          exact Or.inr ⟨a5, _, by rw [e5]; rfl, e5, Or.inl a5⟩
      obtain ⟨m2, ls2, L2, nl2⟩ := m1.ts (r := []) b.w no P2 (by rw [P3, x2]; exact p6.2) (by omega) (by decide) ht
      obtain ⟨f1, f2, f3, f4, f5, f6, f7, f8, f9, f10, f11, f12⟩ := w_ts_f t (w_tl t).reverse g1
      have j2 := m2.j
      have pk : (g_L (w_ts t (w_tl t).reverse g1))[g_nx g1]? = some t := by
        rw [L2, P3, x2, List.getElem?_append_right (Nat.le_of_eq p6.2), p6.2, Nat.sub_self]
        unfold w_tl
        rw [if_neg t0]
        split <;> rfl
      generalize w_ts t (w_tl t).reverse g1 = g2 at *
      obtain ⟨cv, ct, gv, gt, r1, r2, r3, r4, r5, r6, r7, r8, r9⟩ := oEnds (Kp := g_L g2) (st := []) (ab := g_nx g2) (W := g_nx g2) IH hN nl2.symm (Nat.le_refl _) (by omega : B + 70 * K + 170 ≤ 20000) (g_cx g2).length gh g2 j2.1 p3 p4 (fun y => ⟨List.prefix_refl _, (j2.2.2.1 y).2⟩) (fun _ => by rw [L2, P3]; exact no12 p7.2 t8) (fun _ _ _ => rfl) (fun e he => by have := Wb e he; omega) (by omega) (B0.z j2.2.1.2.1 j2.1.2.2.2.1)
      have zz : oZ (g_nl g0) (g_nl g0) 0 (oDn T i gh) (s_ac g0) (w_ends rec (g_nx g2) (g_cx g2).length g2).1 := j2.2.1.tr ⟨r6.1.low j2.2.1.1.2.1, oPz.of r6.2.1.pt.1 r6.2.1.pt.2 j2.2.1.1.2.1, r6.2.2.mono (fun j x => Or.inr x)⟩
      have := oRet1 (t := t) (p := g_nx g1) (keep := true) (q := w_ends rec (g_nx g2) (g_cx g2).length g2) (g := g0) b rfl zz r1 r2 r3 r4 r5 (fun y => (r7 y).2) (fun _ => ⟨rfl, t1, t8, fun y => by
        obtain ⟨u, hu⟩ := (r7 y).1
        rw [← hu, List.getElem?_append_left (List.getElem?_eq_some_iff.mp pk).1]; exact pk⟩) (fun y => absurd y (by decide)) hr t8
      rw [if_neg t0, ← x2] at this
      exact this
end
