/-! CodeWriter: a switch: within its item -/
theorem w_comes_g : ∀ (l : List (Int32 × Nat)) (g : wG), g_us (w_comes l g) = g_us g ∧ g_po (w_comes l g) = g_po g ∧ g_ln (w_comes l g) = g_ln g ∧ g_pn (w_comes l g) = g_pn g ∧ g_pl (w_comes l g) = g_pl g ∧ w_q (w_comes l g) = w_q g := by
  intro l
  induction l with
  | nil => intro g; exact ⟨rfl, rfl, rfl, rfl, rfl, rfl⟩
  | cons q r ih => intro g; exact ih (w_come q.2 g)
theorem w_comes_goes : ∀ (l : List (Int32 × Nat)) (g h : wG), g_goes g = g_goes h → g_goes (w_comes l g) = g_goes (w_comes l h) := by
  intro l
  induction l with
  | nil => intro g h e; exact e
  | cons q r ih =>
    intro g h e
    refine ih (w_come q.2 g) (w_come q.2 h) ?_
    show (fun k => if k = q.2 then true else g_goes g k) = (fun k => if k = q.2 then true else g_goes h k)
    rw [e]
section
variable {nt : sp_NT} {N : Nat} {P : yP} {X : List (Nat × Bool)} {b : Nat} {lm lm' : Nat → Nat} {lv lv' : Nat → Bool} {x y z : mj_X} {g h G H : wG} {W : Prop} {t48 : Int32}
/-- within an item of many jumps: B bytes, F jumps; G: labels were come to -/
def yZ (P : yP) (X : List (Nat × Bool)) (lm : Nat → Nat) (lv : Nat → Bool) (x : mj_X) (u : Nat) (t48 : Int32) (W : Prop) (B : List Int32) (F : List (Nat × Nat × Nat × Bool)) (G : wG) (z : mj_X) : Prop := yfr (yw (p_pf P) (p_lf P)) (p_pf P) x z ∧ z.1 0 30 = 1 ∧ z.1 0 31 = x.1 0 31 ∧ z.1 0 43 = x.1 0 43 ∧ z.1 0 48 = t48 ∧ yL X (g_nl G) lm lv z u
  ∧ (yI P X lm lv B F z G ∨ (z.1 0 29 = 1 ∧ (W ∨ 65535 < B.length ∨ 90000 < p_cf P + B.length) ∧ ∃ n, n ≤ 65535 ∧ z.1 0 28 = nI n))
theorem yZ.E {u : Nat} {B : List Int32} {F : List (Nat × Nat × Nat × Bool)} {pl : Nat → Option Nat} (he : yE nt N P pl x) (a : yZ P X lm lv x u t48 W B F G z) : eE (p_M P) (p_cf P) z := (he.fr a.1).2.1
theorem yZ.st {u : Nat} {B : List Int32} {F : List (Nat × Nat × Nat × Bool)} {pl : Nat → Option Nat} (he : yE nt N P pl x) (a : yZ P X lm lv x u t48 W B F G z) : y_st nt z := by
  have := (he.fr a.1).1
  exact ⟨this.2.2.1, this.2.2.2.1, this.2.2.2.2.1⟩
/-- some bytes -/
theorem yZ.em {u : Nat} {B bs : List Int32} {F : List (Nat × Nat × Nat × Bool)} {pl : Nat → Option Nat} {k : mj_X → mj_R} (he : yE nt N P pl x) (hk : EK (p_w P) (p_M P) (p_cf P) bs k) (a : yZ P X lm lv x u t48 W B F G z) : ∃ z', k z = some (none, z') ∧ yZ P X lm lv x u t48 W (B ++ bs) F G z' := by
  have hE := a.E he
  obtain ⟨f, z30, z31, z43, z48, hL, hz⟩ := a
  rcases hz with hz | ⟨m1, m2, m3⟩
  · obtain ⟨z', e, m⟩ := hk.2 z B hE hz.2.2.2.1
    have em := m.1.1
    refine ⟨z', e, f.tr (yb_yw m.1 m.2.1), (em 0 30 rfl).trans z30, (em 0 31 rfl).trans z31, (em 0 43 rfl).trans z43, (em 0 48 rfl).trans z48, hL.fr (em 0 37 rfl) (em 0 38 rfl) (funext fun j => em 36 j rfl) (funext fun j => em 37 j rfl), ?_⟩
    rcases hz.em m with q | ⟨q1, q2, q3⟩
    · exact Or.inl q
    · exact Or.inr ⟨q1, Or.inr q2, q3⟩
  · refine ⟨z, hk.1 z (Or.inr (by rw [m1]; decide)), f, z30, z31, z43, z48, hL, Or.inr ⟨m1, ?_, m3⟩⟩
    rw [List.length_append]
    rcases m2 with m2 | m2 | m2
    · exact Or.inl m2
    · right; left; omega
    · right; right; omega
/-- an offset -/
theorem yZ.off {d l from_ u : Nat} {B : List Int32} {F : List (Nat × Nat × Nat × Bool)} {pl : Nat → Option Nat} (hd : 4 ≤ d) (he : yE nt N P pl x) (hl : l < g_nl G) (hv : lv l = true) (hF : 3 * F.length + 1 ≤ B.length) (a : yZ P X lm lv x u t48 W B F G z) :
    ∃ z', kX0 d 68 [.ref 0, .int (nI from_), .int (nI (lm l)), .int 1] z = some (none, z') ∧ yZ P X lm lv x u t48 W (B ++ o32 0) ((B.length, from_, l, true) :: F) (w_come l G) z' := by
  have hE := a.E he
  obtain ⟨f, z30, z31, z43, z48, hL, hz⟩ := a
  rcases hz with hz | ⟨m1, m2, m3⟩
  · obtain ⟨z', e, f', ⟨g30, g31, g43, g48, g47⟩, gL, gz⟩ := c_off (d := d) (l := l) (from_ := from_) (nl := 0) hd true hE hz hL hl hv hF
    refine ⟨z', e, f.tr f', g30.trans z30, g31.trans z31, g43.trans z43, g48.trans z48, gL, ?_⟩
    rcases gz with q | ⟨q1, q2, q3⟩
    · exact Or.inl q
    · exact Or.inr ⟨q1, Or.inr q2, q3⟩
  · refine ⟨z, c_offq (by omega) (Or.inr (by rw [m1]; decide)) _ _ _, f, z30, z31, z43, z48, hL, Or.inr ⟨m1, ?_, m3⟩⟩
    rw [List.length_append]
    rcases m2 with m2 | m2 | m2
    · exact Or.inl m2
    · right; left; omega
    · right; right; omega
/-- the code -/
theorem yZ.code {d : Nat} {cc : Int32} (hd : 2 ≤ d) (a : Y1 nt N P X b lm lv x g) (hl : ¬ yq x) : ∃ z t, kX0 d 37 [.ref 0, .int cc] x = some (none, z) ∧ yZ P X lm lv x (g_us g + X.length) (nI t) (20000 < p_lf P + (w_told (g_it g).length (g_pn g) (g_ln g)).length) (w_by_ (p_w P) w_z (g_it g) ++ [o8 cc]) (w_fxs (p_w P) w_z (g_it g)) g z
    ∧ t ≤ p_tb P + (g_it g).length + 1 ∧ x.1 0 48 ≤ nI t ∧ (¬ x.1 0 47 = -1 → x.1 0 48 < nI t ∨ 20000 < p_lf P + (w_told (g_it g).length (g_pn g) (g_ln g)).length) := by
  obtain ⟨d, rfl⟩ : ∃ c, d = c + 1 := ⟨d - 1, by omega⟩
  obtain ⟨h29, h30, hq⟩ := a.live hl
  obtain ⟨hL, o1, o2, o3, o4, ⟨b1, b2, b3, b4⟩, o6, o7, o8_, o9⟩ := a.ex h29
  obtain ⟨y, hy, fy, ⟨y30, y31, y28, y43, y37, y38, yy36, yy37⟩, t1, t2, t, t3, t4⟩ := c_line (d := d) (cc := cc) a hl
  have hLy : yL X (g_nl g) lm lv y (g_us g + X.length) := hL.fr y37 y38 yy36 yy37
  rcases hy with ⟨r1, r2, r3⟩ | ⟨r1, r2⟩
  · exact ⟨y, t, r1, ⟨fy, y30.trans h30, y31, y43, t3, hLy, Or.inr ⟨r2, Or.inl r3, ⟨_, b2, y28.trans b1⟩⟩⟩, t4, by rw [← t3]; exact t1, fun _ => Or.inr r3⟩
  · have y29 : y.1 0 29 = 0 := r2.2.2.2.1.1
    have Zy : yZ P X lm lv x (g_us g + X.length) (nI t) (20000 < p_lf P + (w_told (g_it g).length (g_pn g) (g_ln g)).length) (w_by_ (p_w P) w_z (g_it g)) (w_fxs (p_w P) w_z (g_it g)) g y := ⟨fy, y30.trans h30, y31, y43, t3, hLy, Or.inl r2⟩
    obtain ⟨z, e, hz⟩ := Zy.em a.1 ((EK.emit (w := p_w P) (M := p_M P) (cf := p_cf P) (d := d) (by omega) cc).seq (EK.id_ _ _ _))
    rw [List.append_nil] at hz
    refine ⟨z, t, ?_, hz, t4, by rw [← t3]; exact t1, fun p => Or.inl (by rw [← t3]; exact t2 p y29)⟩
    rw [r1, bX0_code_141]
    exact e
/-- the gap -/
theorem yZ.pad {d u : Nat} {F : List (Nat × Nat × Nat × Bool)} {pl : Nat → Option Nat} {a1 a2 a3 a4 a5 a6 a7 a8 a9 : Int32} (hd : 1 ≤ d) (he : yE nt N P pl x) : ∀ (m : Nat) (B : List Int32) (z : mj_X), m ≤ 3 → (B.length + m) % 4 = 0 → (∀ i, i < m → (B.length + i) % 4 ≠ 0) → yZ P X lm lv x u t48 W B F G z →
    ∃ z', rX0_choose d (225, [some (.ref 0), some (.int a1), some (.int a2), some (.int a3), some (.int a4), some (.int a5), some (.int a6), some (.int a7), some (.int a8), some (.int a9), none, none, none, none], [], z) = rX0_choose d (256, [some (.ref 0), some (.int a1), some (.int a2), some (.int a3), some (.int a4), some (.int a5), some (.int a6), some (.int a7), some (.int a8), some (.int a9), none, none, none, none], [], z') ∧ yZ P X lm lv x u t48 W (B ++ List.replicate m 0) F G z' := by
  intro m
  induction m with
  | zero =>
    intro B z _ hm _ h
    rw [List.replicate_zero, List.append_nil, bX0_choose_225, if_neg (by rw [h.2.1]; decide)]
    by_cases q : z.1 0 29 = 0
    · rw [if_pos q]
      rcases h.2.2.2.2.2.2 with p | p
      · have p28 : z.1 0 28 = nI B.length := p.2.2.2.1.2.2.2.1
        have p65 : B.length ≤ 65535 := p.2.2.2.1.2.2.2.2.1
        rw [if_pos (by rw [p28, nI_mod4 (by omega), show B.length % 4 = 0 by omega]; rfl)]
        exact ⟨z, rfl, h⟩
      · exact absurd q (by rw [p.1]; decide)
    · rw [if_neg q]; exact ⟨z, rfl, h⟩
  | succ m ih =>
    intro B z h3 hm hi h
    rcases h.2.2.2.2.2.2 with p | p
    · have p28 : z.1 0 28 = nI B.length := p.2.2.2.1.2.2.2.1
      have p65 : B.length ≤ 65535 := p.2.2.2.1.2.2.2.2.1
      rw [bX0_choose_225, if_neg (by rw [h.2.1]; decide), if_pos p.2.2.2.1.1, p28, nI_mod4 (by omega), if_neg (fun e => by
        have := (nI_eq (b := 0) (by omega) (by omega)).mp e
        exact hi 0 (by omega) (by simpa using this))]
      obtain ⟨z1, e1, h1⟩ := h.em he (EK.emit (w := p_w P) (M := p_M P) (cf := p_cf P) (d := d) hd 0)
      have e1 : kX0 d 38 [.ref 0, .int 0] z = some (none, z1) := e1
      rw [e1, mj_rV_k]
      have ln : (B ++ [o8 0]).length = B.length + 1 := by rw [List.length_append]; rfl
      obtain ⟨z2, e2, h2⟩ := ih (B ++ [o8 0]) z1 (by omega) (by rw [ln]; omega) (fun i hi2 => by have := hi (i + 1) (by omega); rw [ln]; rw [show B.length + 1 + i = B.length + (i + 1) by omega]; exact this) h1
      refine ⟨z2, e2, ?_⟩
      rw [List.append_assoc] at h2
      exact h2
    · refine ⟨z, ?_, h.1, h.2.1, h.2.2.1, h.2.2.2.1, h.2.2.2.2.1, h.2.2.2.2.2.1, Or.inr ⟨p.1, ?_, p.2.2⟩⟩
      · rw [bX0_choose_225, if_neg (by rw [h.2.1]; decide), if_neg (by rw [p.1]; decide)]
      · rw [List.length_append]
        rcases p.2.1 with m2 | m2 | m2
        · exact Or.inl m2
        · right; left; omega
        · right; right; omega
/-- the item is whole -/
theorem yZ.fin {i : wI} {F : wF} {l : List (Int32 × Nat)} {t : Nat} (a : Y1 nt N P X b lm lv x g) (hq : w_q g = false) (h29 : x.1 0 29 = 0) (ht : t ≤ p_tb P + (g_it g).length + 1)
    (hz : yZ P X lm lv x (g_us g + X.length) (nI t) (20000 < p_lf P + (w_told (g_it g).length (g_pn g) (g_ln g)).length) (w_by_ (p_w P) w_z ((i, (g_L g, g_st g)) :: g_it g)) (w_fxs (p_w P) w_z ((i, (g_L g, g_st g)) :: g_it g)) (w_comes l g) z) : Y1 nt N P X b lm lv z (w_comes l (w_es i F g)) := by
  obtain ⟨k1, k2, k3, k4, k5, k6, k7, k8, k9, k10, k11, k12, k13⟩ := w_es_f (i := i) (F := F) hq
  have knl : g_nl (w_es i F g) = g_nl g := congrArg Prod.fst k11
  have kus : g_us (w_es i F g) = g_us g := congrArg (fun z => z.2.2.2.2.1) k11
  have klat : g_lat (w_es i F g) = g_lat g := congrArg (fun z => z.2.1) k11
  have kgo : g_goes (w_es i F g) = g_goes g := congrArg (fun z => z.2.2.1) k11
  obtain ⟨-, o1, o2, o3, o4, ⟨b1, b2, b3, b4⟩, o6, o7, o8_, o9⟩ := a.ex h29
  have hpl := o8_.2.2.1
  have e6 := a.1.2.2.2.2.2.1
  have hits := its_le (p_w P) (g_it g)
  obtain ⟨c1, c2, c3, c4, c5, c6, c7, c8, -⟩ := w_comes_f l g
  obtain ⟨d1, d2, d3, d4, d5, d6⟩ := w_comes_g l g
  obtain ⟨u1, u2, u3, u4, u5, u6, u7, u8, -⟩ := w_comes_f l (w_es i F g)
  obtain ⟨v1, v2, v3, v4, v5, v6⟩ := w_comes_g l (w_es i F g)
  obtain ⟨f, z30, z31, z43, z48, hL, hz⟩ := hz
  rw [c6] at hL
  refine ⟨by rw [v5, k13]; exact a.1.fr f, a.2.1, a.2.2.1, ?_⟩
  rcases hz with hz | ⟨z1, z2, z3⟩
  · have hq' : w_q (w_comes l g) = false := d6.trans hq
    have hz' : yI P X lm lv (w_by_ (p_w P) w_z ((i, (g_L (w_comes l g), g_st (w_comes l g))) :: g_it (w_comes l g))) (w_fxs (p_w P) w_z ((i, (g_L (w_comes l g), g_st (w_comes l g))) :: g_it (w_comes l g))) z (w_comes l g) := by rw [c1, c4, c5]; exact hz
    have m := hz'.fin (i := i) (F := F) hq'
    refine Or.inl ⟨hz.2.2.2.1.1, ?_, m.same ?_⟩
    · rw [u6, knl, v1, kus]; exact hL
    · obtain ⟨q1, q2, q3, q4, q5, q6, q7, q8, q9, q10, q11, q12, q13⟩ := w_es_f (i := i) (F := F) hq'
      have qnl : g_nl (w_es i F (w_comes l g)) = g_nl (w_comes l g) := congrArg Prod.fst q11
      have qlat : g_lat (w_es i F (w_comes l g)) = g_lat (w_comes l g) := congrArg (fun z => z.2.1) q11
      have qgo : g_goes (w_es i F (w_comes l g)) = g_goes (w_comes l g) := congrArg (fun z => z.2.2.1) q11
      have qus : g_us (w_es i F (w_comes l g)) = g_us (w_comes l g) := congrArg (fun z => z.2.2.2.2.1) q11
      refine ⟨?_, ?_, ?_, ?_, ?_, ?_, ?_, ?_, ?_, ?_⟩
      · rw [u3, k3, q3, c3]
      · rw [u2, k2, q2, c2]
      · rw [u1, k1, q1, c1, c4, c5]
      · rw [u6, knl, qnl, c6]
      · rw [u8, klat, qlat, c8]
      · rw [qgo]; exact w_comes_goes l _ _ kgo
      · rw [v1, kus, qus, d1]
      · exact v2.trans (k9.trans (d2.symm.trans q9.symm))
      · rw [v3, k7, q7, c1, d4, d3]
      · rw [v4, k8, q8]
  · refine Or.inr ⟨⟨z1, ⟨true, z30⟩, z31.trans o4, ⟨_, Nat.le_add_right _ _, by omega, z43.trans o8_.1⟩, z3, t, z48, by omega⟩, ?_, ?_⟩
    · rw [u6, knl]; exact hL.mono (by have := a.2.1; omega)
    · have ho : c_over P (w_es i F g) := by
        rcases z2 with z2 | z2 | z2
        · left; right; right; right; rw [k7]; exact z2
        · left; right; left; rw [k1]; exact z2
        · right; rw [k1]; exact z2
      exact ho.mono (wM.comes l (wM.rf _))
end
