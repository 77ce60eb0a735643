/-! CodeWriter: values, alive -/
section
variable {nt : sp_NT} {N M : Nat} {P : yP} {X : List (Nat × Bool)} {b : Nat} {lm lm' : Nat → Nat} {lv lv' : Nat → Bool} {x y : mj_X} {g h G H : wG} {res par : Nat → Int32} {f : Nat} {n : Int32}
/-- the contract of a value and of a condition -/
def kV (nt : sp_NT) (N f : Nat) (n : Int32) : Prop := ∀ (P : yP) (X : List (Nat × Bool)) (b : Nat) (lm : Nat → Nat) (lv : Nat → Bool) (x : mj_X) (g : wG) (d : Nat), 6 * f + 13 ≤ d → b + 4 * f + 2 ≤ 49900 → Y1 nt N P X b lm lv x g →
  (g_ok (wV nt f n 0 0 g) → KJ nt N P X b (g_nl g) g (kX0 d 35 [.ref 0, .int n, .int 1] x) x lm lv (wV nt f n 0 0 g))
  ∧ (nT nt n = 1 → ∀ (so : Bool) (l : Nat), l < g_nl g → lv l = true → g_ok (wV nt f n (bif so then 2 else 3) l g) → KJ nt N P X b (g_nl g) g (kX0 d 65 [.ref 0, .int n, .int (sp_b so), .int (nI (lm l))] x) x lm lv (wV nt f n (bif so then 2 else 3) l g))
theorem Y1.pl (a : Y1 nt N P X b lm lv x g) {v : Int32} (hn : sp_nd N v = true) (hv : g_pl g v.toNatClampNeg ≠ none) : x.1 35 v.toNatClampNeg = nI (w_pl g v) ∧ w_pl g v < 256 := by
  have h4 := Nat.lt_of_lt_of_le (sp_nd_lt a.T.2.2.2.2 hn) a.T.2.2.2.2
  cases hp : g_pl g v.toNatClampNeg with
  | none => exact absurd hp hv
  | some p =>
    have := a.1.2.2.2.2.2.2.2.2.2 _ p h4 hp
    unfold w_pl
    rw [hp]; exact this
theorem wM.nl {a c : wG} (m : wM a c) : g_nl a ≤ g_nl c := m.2.2.2.2.2.2.1
/-- the tail of a store to an element: what was there is kept beneath, perhaps -/
theorem c_eld {d n a0 : Nat} (hd : 2 ≤ d) (a5 : 5 ≤ a0) (a8 : a0 ≤ 8) {t0 : Int32} (ht : t0 = nI a0) {k : mj_X → mj_R} (a : Y1 nt N P X b lm lv x g) {n1 : Nat} (hn : n ≤ n1)
    (hk : ∀ lm' lv' x', Y1 nt N P X b lm' lv' x' (w_eld a0 g) → (∀ l, l < n1 → lm' l = lm l ∧ lv' l = lv l) → KJ nt N P X b n (w_eld a0 g) (k x') x' lm' lv' G) : KJ nt N P X b n g (mj_rI (kX0 d 45 [.int t0] x) fun v x1 => mj_rV (kX0 d 37 [.ref 0, .int ((46 : Int32) + v)] x1) k) x lm lv G := by
  rw [ht, sX0_arrayLetter (by omega) a5 a8, mj_rI_k, show (46 : Int32) + nI (w_arl a0) = nI (46 + w_arl a0) from nI_add 46 _]
  exact KJ.bi hn (c_e1 (n := n1) hd a ⟨fun _ => rfl, fun _ _ => rfl⟩) (fun lm1 lv1 x1 q1 l1 _ _ => hk lm1 lv1 x1 q1 l1)
theorem c_est {d n a0 : Nat} (hd : 2 ≤ d) (a5 : 5 ≤ a0) (a8 : a0 ≤ 8) {t0 : Int32} (ht : t0 = nI a0) (a : Y1 nt N P X b lm lv x g) : KJ nt N P X b n g (mj_rI (kX0 d 45 [.int t0] x) fun v x1 => mj_rV (kX0 d 37 [.ref 0, .int ((79 : Int32) + v)] x1) fun x3 => some (none, x3)) x lm lv (w_est a0 g) := by
  rw [ht, sX0_arrayLetter (by omega) a5 a8, mj_rI_k, show (79 : Int32) + nI (w_arl a0) = nI (79 + w_arl a0) from nI_add 79 _]
  exact (c_e1 hd a ⟨fun _ => rfl, fun _ _ => rfl⟩).end_
theorem K_twice {d : Nat} (hd : 6 * f + 14 ≤ d) (hT : wTb nt N M res par) (R : ∀ n, wE nt N f n → kV nt N f n) {tg : Int32} (h1 : sp_nd N tg = true) (ea : wE nt N f (nA nt tg)) (eb : wE nt N f (nB nt tg)) (a5 : 5 ≤ nT nt (nA nt tg)) (a8 : nT nt (nA nt tg) ≤ 8) (hb : b + 4 * f + 2 ≤ 49900) (a : Y1 nt N P X b lm lv x g)
    (hok : g_ok (w_eld (nT nt (nA nt tg)) (w_d2 (wV nt f (nB nt tg) 0 0 (wV nt f (nA nt tg) 0 0 g))))) : KJ nt N P X b (g_nl g) g (kX0 d 53 [.ref 0, .int tg] x) x lm lv (w_eld (nT nt (nA nt tg)) (w_d2 (wV nt f (nB nt tg) 0 0 (wV nt f (nA nt tg) 0 0 g)))) := by
  obtain ⟨d, rfl⟩ : ∃ c, d = c + 1 := ⟨d - 1, by omega⟩
  have m1 := wV_mono nt f (nA nt tg) 0 0 g
  have m2 := wV_mono nt f (nB nt tg) 0 0 (wV nt f (nA nt tg) 0 0 g)
  have m3 : wM (wV nt f (nB nt tg) 0 0 (wV nt f (nA nt tg) 0 0 g)) (w_eld (nT nt (nA nt tg)) (w_d2 (wV nt f (nB nt tg) 0 0 (wV nt f (nA nt tg) 0 0 g)))) := ((wM.rf _).d2).eld _
  have ok2 := m3.1 hok
  rw [eX0_twice, a.nd h1, a.T.2.1]
  refine KJ.bi (Nat.le_refl _) ((R _ ea P X b lm lv x g d (by omega) hb a).1 (m2.1 ok2)) (fun lm1 lv1 x1 q1 l1 f1 t1 => ?_)
  rw [q1.nd h1, q1.T.2.2.1]
  refine KJ.bi m1.nl ((R _ eb P X b lm1 lv1 x1 _ d (by omega) hb q1).1 ok2) (fun lm2 lv2 x2 q2 l2 f2 t2 => ?_)
  refine KJ.bi (Nat.le_refl _) (c_es1 (n := g_nl g) (F := (g_L (wV nt f (nB nt tg) 0 0 (wV nt f (nA nt tg) 0 0 g)), (g_st (wV nt f (nB nt tg) 0 0 (wV nt f (nA nt tg) 0 0 g))).take 2 ++ g_st (wV nt f (nB nt tg) 0 0 (wV nt f (nA nt tg) 0 0 g)))) (i := (7, 92, 0, 0, [])) (by omega) q2 ⟨fun _ => rfl, fun _ _ => rfl⟩) (fun lm3 lv3 x3 q3 l3 f3 t3 => ?_)
  rw [q3.nd h1, q3.T.2.1, q3.nd ea.1, q3.T.2.2.2.1, hT.ty ea.1]
  have q3' : Y1 nt N P X b lm3 lv3 x3 (w_d2 (wV nt f (nB nt tg) 0 0 (wV nt f (nA nt tg) 0 0 g))) := q3
  exact c_eld (by omega) a5 a8 rfl q3' (Nat.le_refl _) (fun lm4 lv4 x4 q4 l4 => KJ.id_ q4)
theorem K_store {d : Nat} {bb : Int32} (hd : 6 * f + 13 ≤ d) (hT : wTb nt N M res par) (R : ∀ n, wE nt N f n → kV nt N f n) (hn : sp_nd N n = true) (v1 : sp_nd N (nA nt n) = true) (v2 : nK nt (nA nt n) = 5) (eb : wE nt N f (nB nt n)) (tn : nT nt n = nT nt (nA nt n)) (want : Bool) (hb : b + 4 * f + 2 ≤ 49900) (a : Y1 nt N P X b lm lv x g)
    (hok : g_ok (w_st (nT nt (nA nt n)) (w_pl g (nA nt n)) (bif want then w_dup (nT nt (nA nt n)) (wV nt f (nB nt n) 0 0 (w_pk (nA nt n) g)) else wV nt f (nB nt n) 0 0 (w_pk (nA nt n) g)))) :
    KJ nt N P X b (g_nl g) g (rX0_value_2 d (64, [some (.ref 0), some (.int n), some (.int (sp_b want)), some (.int (nA nt n)), some (.int (nB nt n)), none], [], x)) x lm lv (w_st (nT nt (nA nt n)) (w_pl g (nA nt n)) (bif want then w_dup (nT nt (nA nt n)) (wV nt f (nB nt n) 0 0 (w_pk (nA nt n) g)) else wV nt f (nB nt n) 0 0 (w_pk (nA nt n) g))) := by
  have ht1 : 1 ≤ nT nt (nA nt n) := (hT.t v1).2 (Or.inl (by rw [v2]; decide))
  have ht8 := (hT.t v1).1
  have mp : wM g (w_pk (nA nt n) g) := (wM.rf g).pk _
  have m1 := wV_mono nt f (nB nt n) 0 0 (w_pk (nA nt n) g)
  have epl : g_pl (wV nt f (nB nt n) 0 0 (w_pk (nA nt n) g)) = g_pl g := wV_pl0 hT eb
  have mall : wM (wV nt f (nB nt n) 0 0 (w_pk (nA nt n) g)) (w_st (nT nt (nA nt n)) (w_pl g (nA nt n)) (bif want then w_dup (nT nt (nA nt n)) (wV nt f (nB nt n) 0 0 (w_pk (nA nt n) g)) else wV nt f (nB nt n) 0 0 (w_pk (nA nt n) g))) := (wM.cond ((wM.rf _).dup _) (wM.rf _)).st _ _
  have ok1 := mall.1 hok
  have hplv : g_pl g (nA nt n).toNatClampNeg ≠ none := (m1.1 ok1).2
  have a' : Y1 nt N P X b lm lv x (w_pk (nA nt n) g) := a
  have c85 : ∀ (G1 : wG) (lm1 : Nat → Nat) (lv1 : Nat → Bool) (z : mj_X), g_pl G1 = g_pl g → Y1 nt N P X b lm1 lv1 z G1 → KJ nt N P X b (g_nl g) G1 (rX0_value_2 d (85, [some (.ref 0), some (.int n), some (.int (sp_b want)), some (.int (nA nt n)), some (.int (nB nt n)), none], [], z)) z lm1 lv1 (w_st (nT nt (nA nt n)) (w_pl g (nA nt n)) G1) := by
    intro G1 lm1 lv1 z hp q
    obtain ⟨p1, p2⟩ := q.pl v1 (by rw [hp]; exact hplv)
    have e : w_pl G1 (nA nt n) = w_pl g (nA nt n) := by unfold w_pl; rw [hp]
    rw [e] at p1 p2
    rw [bX0_value_2_85, q.nd hn, q.nd v1, p1, q.T.2.2.2.1, hT.ty hn, tn]
    exact (c_st (by omega) ht1 ht8 p2 q).end_
  rw [bX0_value_2_64]
  refine KJ.bi (g := w_pk (nA nt n) g) (Nat.le_refl _) ((R _ eb P X b lm lv x (w_pk (nA nt n) g) d hd hb a').1 ok1) (fun lm1 lv1 x1 q1 l1 f1 t1 => ?_)
  cases want
  · rw [if_pos (show sp_b false = 0 from rfl)]
    exact c85 _ lm1 lv1 x1 epl q1
  · rw [if_neg (show ¬ sp_b true = 0 by decide), q1.nd hn, q1.T.2.2.2.1, hT.ty hn, tn]
    refine KJ.bi (Nat.le_refl _) (c_dup (n := g_nl g) (by omega) ht8 q1) (fun lm2 lv2 x2 q2 l2 f2 t2 => ?_)
    exact c85 _ lm2 lv2 x2 (by rw [w_dup_pl]; exact epl) q2
theorem K_put {d : Nat} (hd : 6 * f + 13 ≤ d) (hT : wTb nt N M res par) (R : ∀ n, wE nt N f n → kV nt N f n) (hn : sp_nd N n = true) (t1 : sp_nd N (nA nt n) = true) (ea : wE nt N f (nA nt (nA nt n))) (ec : wE nt N f (nB nt (nA nt n))) (a5 : 5 ≤ nT nt (nA nt (nA nt n))) (a8 : nT nt (nA nt (nA nt n)) ≤ 8) (eb : wE nt N f (nB nt n)) (tn : nT nt n = w_el (nT nt (nA nt (nA nt n)))) (want : Bool) (hb : b + 4 * f + 2 ≤ 49900) (a : Y1 nt N P X b lm lv x g)
    (hok : g_ok (w_pe9 nt (wV nt f) (nA nt n) (nB nt n) want g)) :
    KJ nt N P X b (g_nl g) g (rX0_value_2 d (104, [some (.ref 0), some (.int n), some (.int (sp_b want)), some (.int (nA nt n)), some (.int (nB nt n)), none], [], x)) x lm lv (w_pe9 nt (wV nt f) (nA nt n) (nB nt n) want g) := by
  have m1 := wV_mono nt f (nA nt (nA nt n)) 0 0 g
  have m2 := wV_mono nt f (nB nt (nA nt n)) 0 0 (wV nt f (nA nt (nA nt n)) 0 0 g)
  have m3 := wV_mono nt f (nB nt n) 0 0 (wV nt f (nB nt (nA nt n)) 0 0 (wV nt f (nA nt (nA nt n)) 0 0 g))
  have E : w_pe9 nt (wV nt f) (nA nt n) (nB nt n) want g = w_est (nT nt (nA nt (nA nt n))) (bif want then w_du (w_el (nT nt (nA nt (nA nt n)))) (w_cut (Nat.beq (nT nt (nA nt (nA nt n))) 5) (wV nt f (nB nt n) 0 0 (wV nt f (nB nt (nA nt n)) 0 0 (wV nt f (nA nt (nA nt n)) 0 0 g)))) else w_cut (Nat.beq (nT nt (nA nt (nA nt n))) 5) (wV nt f (nB nt n) 0 0 (wV nt f (nB nt (nA nt n)) 0 0 (wV nt f (nA nt (nA nt n)) 0 0 g)))) := rfl
  rw [E] at hok ⊢
  generalize hG1 : wV nt f (nA nt (nA nt n)) 0 0 g = G1 at *
  generalize hG2 : wV nt f (nB nt (nA nt n)) 0 0 G1 = G2 at *
  generalize hG3 : wV nt f (nB nt n) 0 0 G2 = G3 at *
  have m4 : wM G3 (w_cut (Nat.beq (nT nt (nA nt (nA nt n))) 5) G3) := (wM.rf _).cut _
  have m5 : wM (w_cut (Nat.beq (nT nt (nA nt (nA nt n))) 5) G3) (w_est (nT nt (nA nt (nA nt n))) (bif want then w_du (w_el (nT nt (nA nt (nA nt n)))) (w_cut (Nat.beq (nT nt (nA nt (nA nt n))) 5) G3) else w_cut (Nat.beq (nT nt (nA nt (nA nt n))) 5) G3)) := (wM.cond ((wM.rf _).du _) (wM.rf _)).est _
  have ok4 := m5.1 hok
  have ok3 := m4.1 ok4
  have te : w_el (nT nt (nA nt (nA nt n))) ≤ 8 := by unfold w_el; split; omega; split <;> omega
  have c152 : ∀ (G' : wG) (lm1 : Nat → Nat) (lv1 : Nat → Bool) (z : mj_X), Y1 nt N P X b lm1 lv1 z G' → KJ nt N P X b (g_nl g) G' (rX0_value_2 d (152, [some (.ref 0), some (.int n), some (.int (sp_b want)), some (.int (nA nt n)), some (.int (nB nt n)), none], [], z)) z lm1 lv1 (w_est (nT nt (nA nt (nA nt n))) G') := by
    intro G' lm1 lv1 z q
    rw [bX0_value_2_152, q.nd t1, q.T.2.1, q.nd ea.1, q.T.2.2.2.1, hT.ty ea.1]
    exact c_est (by omega) a5 a8 rfl q
  rw [bX0_value_2_104, a.nd t1, a.T.2.1]
  have j1 := (R _ ea P X b lm lv x g d hd hb a).1 (by rw [hG1]; exact m2.1 (m3.1 ok3))
  rw [hG1] at j1
  refine KJ.bi (Nat.le_refl _) j1 (fun lm1 lv1 x1 q1 l1 f1 t1' => ?_)
  rw [q1.nd t1, q1.T.2.2.1]
  have j2 := (R _ ec P X b lm1 lv1 x1 G1 d hd hb q1).1 (by rw [hG2]; exact m3.1 ok3)
  rw [hG2] at j2
  refine KJ.bi m1.nl j2 (fun lm2 lv2 x2 q2 l2 f2 t2 => ?_)
  have j3 := (R _ eb P X b lm2 lv2 x2 G2 d hd hb q2).1 (by rw [hG3]; exact ok3)
  rw [hG3] at j3
  refine KJ.bi (Nat.le_trans m1.nl m2.nl) j3 (fun lm3 lv3 x3 q3 l3 f3 t3 => ?_)
  refine KJ.bi (Nat.le_refl _) (c_cut (n := g_nl g) (by omega) ⟨M, res, par, hT⟩ t1 ea.1 q3) (fun lm4 lv4 x4 q4 l4 f4 t4 => ?_)
  cases want
  · rw [if_pos (show sp_b false = 0 from rfl)]
    exact c152 _ lm4 lv4 x4 q4
  · rw [if_neg (show ¬ sp_b true = 0 by decide), q4.nd hn, q4.T.2.2.2.1, hT.ty hn, tn]
    refine KJ.bi (Nat.le_refl _) (c_du (n := g_nl g) (by omega) te q4) (fun lm5 lv5 x5 q5 l5 f5 t5 => ?_)
    exact c152 _ lm5 lv5 x5 q5
/-- an operation and what is behind it: for a local -/
theorem K_neg64 (a : Int32) : sp_in (-a).toInt64 (-32768) 32767 = (decide (-32768 ≤ -a.toInt64) && decide (-a.toInt64 ≤ 32767)) ∧ (sp_in (-a).toInt64 (-32768) 32767 = true → (-a).toInt64 = -a.toInt64) := by
  obtain ⟨b1, b2⟩ := i32_b a
  have e64 : (-a.toInt64).toInt = -a.toInt := by
    rw [Int64.toInt_neg, Int32.toInt_toInt64]; exact Int.bmod_eq_of_le (by omega) (by omega)
  have s : ∀ v : Int64, (sp_in v (-32768) 32767 = true ↔ -32768 ≤ v.toInt ∧ v.toInt ≤ 32767) := by
    intro v; unfold sp_in
    rw [Bool.and_eq_true, decide_eq_true_eq, decide_eq_true_eq, Int64.le_iff_toInt_le, Int64.le_iff_toInt_le]; rfl
  by_cases q : a.toInt = -2147483648
  · have ea : a = -2147483648 := Int32.toInt_inj.mp q
    subst ea
    exact ⟨by decide, fun h => absurd h (by decide)⟩
  · have e32 : (-a).toInt64 = -a.toInt64 := by
      apply Int64.toInt_inj.mp
      rw [Int32.toInt_toInt64, e64, Int32.toInt_neg]
      exact Int.bmod_eq_of_le (by omega) (by omega)
    exact ⟨by rw [e32]; rfl, fun _ => e32⟩
theorem K_comp {d op : Nat} (hd : 6 * f + 15 ≤ d) (hT : wTb nt N M res par) (R : ∀ n, wE nt N f n → kV nt N f n) {tg e0 : Int32} (hn : sp_nd N n = true) (ho : nK nt n - 35 + 10 = nI op) (o1 : 10 ≤ op) (o2 : op ≤ 20) (h1 : sp_nd N tg = true) (hk : nK nt tg = 6 ∨ nK nt tg = 8) (h6 : nK nt tg = 6 → sp_nd N (nA nt tg) = true ∧ nT nt tg = nT nt (nA nt tg)) (h8 : nK nt tg = 8 → wE nt N f (nA nt tg) ∧ wE nt N f (nB nt tg) ∧ 5 ≤ nT nt (nA nt tg) ∧ nT nt (nA nt tg) ≤ 8) (he : wE nt N f e0) (t1 : 1 ≤ nT nt tg) (t4 : nT nt tg ≤ 4) (tn : nT nt n = nT nt tg) (want : Bool) (hb : b + 4 * f + 2 ≤ 49900) (a : Y1 nt N P X b lm lv x g)
    (hok : g_ok (w_chg nt (wV nt f) tg op e0 want g)) : KJ nt N P X b (g_nl g) g (kX0 d 56 [.ref 0, .int n, .int tg, .int e0, .int (sp_b want)] x) x lm lv (w_chg nt (wV nt f) tg op e0 want g) := by
  obtain ⟨d, rfl⟩ : ∃ c, d = c + 1 := ⟨d - 1, by omega⟩
  have he1 : ¬ e0 = -1 := nd_n1 he.1
  have eop : ∀ G : wG, w_opd nt (wV nt f) e0 (nT nt tg) G = wV nt f e0 0 0 G := fun G => by unfold w_opd; rw [if_neg he1]
  have kn : x.1 1 n.toNatClampNeg - 35 + 10 = nI op := by rw [a.T.1]; exact ho
  have tyn : ∀ {z : mj_X} {lm1 : Nat → Nat} {lv1 : Nat → Bool} {G1 : wG}, Y1 nt N P X b lm1 lv1 z G1 → z.1 4 n.toNatClampNeg = nI (nT nt tg) := fun q => by rw [q.T.2.2.2.1, hT.ty hn, tn]
  have t8 : nT nt tg ≤ 8 := by omega
  rw [eX0_compound, a.nd hn, a.nd hn, a.nd h1, kn, tyn a]
  unfold w_chg at hok ⊢
  rcases hk with k | k
  · -- a local
    obtain ⟨v1, tv⟩ := h6 k
    simp only [if_pos k] at hok ⊢
    rw [a.T.1, if_pos (show nt 0 tg.toNatClampNeg = 6 from k), a.nd h1, a.T.2.1, a.nd v1, a.nd he.1, a.nd he.1]
    have a' : Y1 nt N P X b lm lv x (w_pk (nA nt tg) g) := a
    have plok : g_ok (w_pk (nA nt tg) g) → x.1 35 (nA nt tg).toNatClampNeg = nI (w_pl g (nA nt tg)) ∧ w_pl g (nA nt tg) < 256 := fun h => a.pl v1 h.2
    -- not by growth
    have c130 : ∀ s4 : Int32, w_isI nt op (nT nt tg) e0 = false → KJ nt N P X b (g_nl g) g (rX0_compound d (130, [some (.ref 0), some (.int n), some (.int tg), some (.int e0), some (.int (sp_b want)), some (.int (nI (nT nt tg))), some (.int (nI op)), some (.int (x.1 35 (nA nt tg).toNatClampNeg)), some (.int s4)], [], x)) x lm lv (bif w_isI nt op (nT nt tg) e0 then (bif want then w_ld 1 (w_pl g (nA nt tg)) [1] (w_inc (w_pl g (nA nt tg)) (w_by nt op e0) (w_pk (nA nt tg) g)) else w_inc (w_pl g (nA nt tg)) (w_by nt op e0) (w_pk (nA nt tg) g)) else w_st (nT nt tg) (w_pl g (nA nt tg)) (bif want then w_dup (nT nt tg) (w_bin op (nT nt tg) (w_opd nt (wV nt f) e0 (nT nt tg) (w_ld (nT nt tg) (w_pl g (nA nt tg)) (w_tl (nT nt tg)) (w_pk (nA nt tg) g)))) else w_bin op (nT nt tg) (w_opd nt (wV nt f) e0 (nT nt tg) (w_ld (nT nt tg) (w_pl g (nA nt tg)) (w_tl (nT nt tg)) (w_pk (nA nt tg) g))))) := by
      intro s4 hI
      rw [hI] at hok ⊢
      simp only [cond_false] at hok ⊢
      rw [eop] at hok ⊢
      have m1 : wM (w_pk (nA nt tg) g) (w_ld (nT nt tg) (w_pl g (nA nt tg)) (w_tl (nT nt tg)) (w_pk (nA nt tg) g)) := (wM.rf _).ld _ _ _
      generalize hG1 : w_ld (nT nt tg) (w_pl g (nA nt tg)) (w_tl (nT nt tg)) (w_pk (nA nt tg) g) = G1 at *
      have m2 := wV_mono nt f e0 0 0 G1
      generalize hG2 : wV nt f e0 0 0 G1 = G2 at *
      have m3 : wM G2 (w_st (nT nt tg) (w_pl g (nA nt tg)) (bif want then w_dup (nT nt tg) (w_bin op (nT nt tg) G2) else w_bin op (nT nt tg) G2)) := (wM.cond (((wM.rf _).bin _ _).dup _) ((wM.rf _).bin _ _)).st _ _
      have ok2 := m3.1 hok
      obtain ⟨p1, p2⟩ := plok (m1.1 (m2.1 ok2))
      have nn1 : g_nl g ≤ g_nl G1 := m1.nl
      rw [bX0_compound_130, p1]
      have j1 := c_ld (n := g_nl g) (on := w_tl (nT nt tg)) (d := d) (by omega) t1 t8 p2 a'
      rw [hG1] at j1
      refine KJ.bi (g := w_pk (nA nt tg) g) (Nat.le_refl _) j1 (fun lm1 lv1 x1 q1 l1 f1 u1 => ?_)
      have j2 := (R _ he P X b lm1 lv1 x1 G1 d (by omega) hb q1).1 (by rw [hG2]; exact ok2)
      rw [hG2] at j2
      refine KJ.bi nn1 j2 (fun lm2 lv2 x2 q2 l2 f2 u2 => ?_)
      refine c_bin (n1 := g_nl g) (by omega) o1 o2 t1 t4 rfl rfl (Nat.le_refl _) q2 (fun lm3 lv3 x3 q3 l3 f3 u3 => ?_)
      cases want
      · rw [if_pos (show sp_b false = 0 from rfl)]
        exact (c_st (by omega) t1 t8 p2 q3).end_
      · rw [if_neg (show ¬ sp_b true = 0 by decide)]
        refine KJ.bi (Nat.le_refl _) (c_dup (n := g_nl g) (by omega) t8 q3) (fun lm4 lv4 x4 q4 l4 f4 u4 => ?_)
        exact (c_st (by omega) t1 t8 p2 q4).end_
    -- by growth
    have grow : ∀ s4 : Int32, w_isI nt op (nT nt tg) e0 = true → w_by nt op e0 = s4.toInt64 → nT nt tg = 1 → KJ nt N P X b (g_nl g) g (mj_rV (kX0 d 48 [.ref 0, .int (x.1 35 (nA nt tg).toNatClampNeg), .int s4] x) fun x3 => if sp_b want = 0 then some (none, x3) else mj_rV (kX0 d 47 [.ref 0, .int (1 : Int32), .int (x.1 35 (nA nt tg).toNatClampNeg)] x3) fun x4 => some (none, x4)) x lm lv (bif w_isI nt op (nT nt tg) e0 then (bif want then w_ld 1 (w_pl g (nA nt tg)) [1] (w_inc (w_pl g (nA nt tg)) (w_by nt op e0) (w_pk (nA nt tg) g)) else w_inc (w_pl g (nA nt tg)) (w_by nt op e0) (w_pk (nA nt tg) g)) else w_st (nT nt tg) (w_pl g (nA nt tg)) (bif want then w_dup (nT nt tg) (w_bin op (nT nt tg) (w_opd nt (wV nt f) e0 (nT nt tg) (w_ld (nT nt tg) (w_pl g (nA nt tg)) (w_tl (nT nt tg)) (w_pk (nA nt tg) g)))) else w_bin op (nT nt tg) (w_opd nt (wV nt f) e0 (nT nt tg) (w_ld (nT nt tg) (w_pl g (nA nt tg)) (w_tl (nT nt tg)) (w_pk (nA nt tg) g))))) := by
      intro s4 hI hby ht1
      rw [hI] at hok ⊢
      simp only [cond_true] at hok ⊢
      rw [hby] at hok ⊢
      have m1 : wM (w_pk (nA nt tg) g) (bif want then w_ld 1 (w_pl g (nA nt tg)) [1] (w_inc (w_pl g (nA nt tg)) s4.toInt64 (w_pk (nA nt tg) g)) else w_inc (w_pl g (nA nt tg)) s4.toInt64 (w_pk (nA nt tg) g)) := wM.cond (((wM.rf _).inc _ _).ld _ _ _) ((wM.rf _).inc _ _)
      obtain ⟨p1, p2⟩ := plok (m1.1 hok)
      rw [p1]
      refine KJ.bi (g := w_pk (nA nt tg) g) (Nat.le_refl _) (c_inc (n := g_nl g) (v := s4) (by omega) p2 a') (fun lm1 lv1 x1 q1 l1 f1 u1 => ?_)
      cases want
      · rw [if_pos (show sp_b false = 0 from rfl)]; exact KJ.id_ q1
      · rw [if_neg (show ¬ sp_b true = 0 by decide)]
        exact (c_ld (t := 1) (on := [1]) (by omega) (by omega) (by omega) p2 q1).end_
    have c69 : ∀ s4 : Int32, (op = 10 → s4 = nA nt e0) → (¬ op = 10 → s4 = -nA nt e0) → KJ nt N P X b (g_nl g) g (rX0_compound d (69, [some (.ref 0), some (.int n), some (.int tg), some (.int e0), some (.int (sp_b want)), some (.int (nI (nT nt tg))), some (.int (nI op)), some (.int (x.1 35 (nA nt tg).toNatClampNeg)), none], [.int s4], x)) x lm lv (bif w_isI nt op (nT nt tg) e0 then (bif want then w_ld 1 (w_pl g (nA nt tg)) [1] (w_inc (w_pl g (nA nt tg)) (w_by nt op e0) (w_pk (nA nt tg) g)) else w_inc (w_pl g (nA nt tg)) (w_by nt op e0) (w_pk (nA nt tg) g)) else w_st (nT nt tg) (w_pl g (nA nt tg)) (bif want then w_dup (nT nt tg) (w_bin op (nT nt tg) (w_opd nt (wV nt f) e0 (nT nt tg) (w_ld (nT nt tg) (w_pl g (nA nt tg)) (w_tl (nT nt tg)) (w_pk (nA nt tg) g)))) else w_bin op (nT nt tg) (w_opd nt (wV nt f) e0 (nT nt tg) (w_ld (nT nt tg) (w_pl g (nA nt tg)) (w_tl (nT nt tg)) (w_pk (nA nt tg) g))))) := by
      intro s4 hs hs'
      have isI : w_isI nt op (nT nt tg) e0 = (Nat.beq (nT nt tg) 1 && true && decide (nK nt e0 = 1) && (Nat.beq op 10 || Nat.beq op 11) && decide (-32768 ≤ w_by nt op e0) && decide (w_by nt op e0 ≤ 32767)) := by
        unfold w_isI; rw [decide_eq_false he1]; rfl
      rw [bX0_compound_69, a.nd he.1, a.T.1]
      by_cases z1 : nT nt tg = 1
      · rw [if_pos (by rw [z1]; rfl)]
        by_cases z2 : op ≤ 11
        · rw [if_neg (show ¬ (11 : Int32) < nI op from nI_nlt (a := 11) z2 (by omega))]
          by_cases z3 : nK nt e0 = 1
          · rw [if_pos (show nt 0 e0.toNatClampNeg = 1 from z3), sX0_isIn' (by omega), sp_bi]
            have hop : op = 10 ∨ op = 11 := by omega
            have isI2 : w_isI nt op (nT nt tg) e0 = sp_in s4.toInt64 (-32768) 32767 ∧ (sp_in s4.toInt64 (-32768) 32767 = true → w_by nt op e0 = s4.toInt64) := by
              rw [isI, z1, decide_eq_true z3]
              rcases hop with rfl | rfl
              · rw [hs rfl]
                exact ⟨rfl, fun _ => rfl⟩
              · rw [hs' (by decide)]
                have k := K_neg64 (nA nt e0)
                refine ⟨k.1.symm, fun h => (k.2 h).symm⟩
            cases hi : sp_in s4.toInt64 (-32768) 32767
            · rw [if_pos (by rfl)]; exact c130 _ (by rw [isI2.1, hi])
            · rw [if_neg (by decide)]; exact grow _ (by rw [isI2.1, hi]) (isI2.2 hi) z1
          · rw [if_neg (show ¬ nt 0 e0.toNatClampNeg = 1 from z3)]
            exact c130 _ (by rw [isI, decide_eq_false z3, Bool.and_false, Bool.false_and, Bool.false_and, Bool.false_and])
        · rw [if_pos (show (11 : Int32) < nI op from nI_lt (a := 11) (by omega) (by omega))]
          have n10 : Nat.beq op 10 = false := by rw [← Bool.not_eq_true, Nat.beq_eq]; omega
          have n11 : Nat.beq op 11 = false := by rw [← Bool.not_eq_true, Nat.beq_eq]; omega
          exact c130 _ (by rw [isI, n10, n11, Bool.or_false, Bool.and_false, Bool.false_and, Bool.false_and])
      · rw [if_neg (fun (z : nI (nT nt tg) = (1 : Int32)) => z1 ((nI_eq (b := 1) (by omega) (by omega)).mp z))]
        have n1 : Nat.beq (nT nt tg) 1 = false := by rw [← Bool.not_eq_true, Nat.beq_eq]; exact z1
        exact c130 _ (by rw [isI, n1, Bool.false_and, Bool.false_and, Bool.false_and, Bool.false_and, Bool.false_and])
    by_cases z : op = 10
    · rw [if_pos (show nI op = 10 by rw [z]; rfl)]
      exact c69 _ (fun _ => rfl) (fun w => absurd z w)
    · rw [if_neg (show ¬ nI op = 10 from fun w => z ((nI_eq (b := 10) (by omega) (by omega)).mp w))]
      exact c69 _ (fun w => absurd w z) (fun _ => rfl)
  · -- an element
    obtain ⟨ea, eb, a5, a8⟩ := h8 k
    have k6 : ¬ nK nt tg = 6 := by rw [k]; decide
    simp only [if_neg k6] at hok ⊢
    rw [eop] at hok ⊢
    rw [a.T.1, if_neg (show ¬ nt 0 tg.toNatClampNeg = 6 from k6)]
    have m1 : wM g (w_eld (nT nt (nA nt tg)) (w_d2 (wV nt f (nB nt tg) 0 0 (wV nt f (nA nt tg) 0 0 g)))) := ((((wM.rf _).rc (wV_mono nt f) _ _ _).rc (wV_mono nt f) _ _ _).d2).eld _
    have j1 := fun ok => K_twice (d := d) (by omega) hT R h1 ea eb a5 a8 hb a ok
    generalize hG1 : w_eld (nT nt (nA nt tg)) (w_d2 (wV nt f (nB nt tg) 0 0 (wV nt f (nA nt tg) 0 0 g))) = G1 at *
    have m2 := wV_mono nt f e0 0 0 G1
    generalize hG2 : wV nt f e0 0 0 G1 = G2 at *
    have m3 : wM G2 (w_bin op (nT nt tg) G2) := (wM.rf _).bin _ _
    generalize hG3 : w_bin op (nT nt tg) G2 = G3 at *
    have m4 : wM G3 (w_est (nT nt (nA nt tg)) (bif want then w_du (nT nt tg) (w_cut (Nat.beq (nT nt (nA nt tg)) 5) G3) else w_cut (Nat.beq (nT nt (nA nt tg)) 5) G3)) := (wM.cond (((wM.rf _).cut _).du _) ((wM.rf _).cut _)).est _
    have ok3 := m4.1 hok
    have ok2 := m3.1 ok3
    refine KJ.bi (Nat.le_refl _) (j1 (m2.1 ok2)) (fun lm1 lv1 x1 q1 l1 f1 u1 => ?_)
    have j2 := (R _ he P X b lm1 lv1 x1 G1 d (by omega) hb q1).1 (by rw [hG2]; exact ok2)
    rw [hG2] at j2
    refine KJ.bi m1.nl j2 (fun lm2 lv2 x2 q2 l2 f2 u2 => ?_)
    refine c_bin (n1 := g_nl g) (k := op) (t := nT nt tg) (by omega) o1 o2 t1 t4 rfl rfl (Nat.le_refl _) q2 (fun lm3 lv3 x3 q3 l3 f3 u3 => ?_)
    rw [hG3] at q3 ⊢
    refine KJ.bi (Nat.le_refl _) (c_cut (n := g_nl g) (by omega) ⟨M, res, par, hT⟩ h1 ea.1 q3) (fun lm4 lv4 x4 q4 l4 f4 u4 => ?_)
    have c213 : ∀ (G' : wG) (lm5 : Nat → Nat) (lv5 : Nat → Bool) (z : mj_X), Y1 nt N P X b lm5 lv5 z G' → KJ nt N P X b (g_nl g) G' (rX0_compound d (213, [some (.ref 0), some (.int n), some (.int tg), some (.int e0), some (.int (sp_b want)), some (.int (nI (nT nt tg))), some (.int (nI op)), none, none], [], z)) z lm5 lv5 (w_est (nT nt (nA nt tg)) G') := by
      intro G' lm5 lv5 z q
      rw [bX0_compound_213, q.nd h1, q.T.2.1, q.nd ea.1, q.T.2.2.2.1, hT.ty ea.1]
      exact c_est (by omega) a5 a8 rfl q
    cases want
    · rw [if_pos (show sp_b false = 0 from rfl)]; exact c213 _ lm4 lv4 x4 q4
    · rw [if_neg (show ¬ sp_b true = 0 by decide)]
      refine KJ.bi (Nat.le_refl _) (c_du (n := g_nl g) (by omega) t8 q4) (fun lm5 lv5 x5 q5 l5 f5 u5 => ?_)
      exact c213 _ lm5 lv5 x5 q5
end
