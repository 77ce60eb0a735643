/-! CodeWriter: choices, truths, conditions, every value -/
section
variable {nt : sp_NT} {N M : Nat} {P : yP} {X : List (Nat × Bool)} {b : Nat} {lm lm' : Nat → Nat} {lv lv' : Nat → Bool} {x y : mj_X} {g h G H : wG} {res par : Nat → Int32} {f : Nat} {n : Int32}
theorem KJ.lb {d j : Nat} (hd : 1 ≤ d) {F : wF} (a : Y1 nt N P X b lm lv x g) (h29 : x.1 0 29 = 0) (hok : g_ok (w_lb F g)) (hj : j ≤ g_nl g) {k : Int32 → mj_X → mj_R} (hk : ∀ lm' lv' x', Y1 nt N P X b lm' lv' x' (w_lb F g) → lv' (g_nl g) = true → (∀ l, l < g_nl g → lm' l = lm l ∧ lv' l = lv l) → x'.1 0 29 = 0 → KJ nt N P X b j (w_lb F g) (k (nI (lm' (g_nl g))) x') x' lm' lv' G) : KJ nt N P X b j g (mj_rI (kX0 d 64 [.ref 0] x) k) x lm lv G := by
  obtain ⟨i, x1, e1, q1, f1, z1, t1⟩ := c_lb hd a h29 hok
  have := hk _ _ x1 q1 (if_pos rfl) (fun l hl => ⟨if_neg (by omega), if_neg (by omega)⟩) z1
  rw [if_pos (by rfl)] at this
  obtain ⟨lm2, lv2, x2, e2, q2, l2, f2, t2⟩ := this
  refine ⟨lm2, lv2, x2, by rw [e1, mj_rI_k, e2], q2, fun l hl => ?_, f1.tr f2, fun z => ⟨h29, yT.tr t1 (t2 z).2⟩⟩
  have := l2 l hl
  rw [this.1, this.2]
  exact ⟨if_neg (by omega), if_neg (by omega)⟩
theorem KJ.pl {d j l : Nat} (hd : 2 ≤ d) (bb : Bool) (a : Y1 nt N P X b lm lv x g) (hl : l < g_nl g) (hv : lv l = true) (hj : j ≤ l) {k : mj_X → mj_R} {v : Int32} (hvv : v = nI (lm l)) (hk : ∀ lv' x', Y1 nt N P X b lm lv' x' (w_sl bb l (w_put l g)) → (∀ i, i ≠ l → lv' i = lv i) → KJ nt N P X b j (w_sl bb l (w_put l g)) (k x') x' lm lv' G) : KJ nt N P X b j g (mj_rV (kX0 d 70 [.ref 0, .int v] x) k) x lm lv G := by
  obtain ⟨lv1, x1, e1, q1, k1, f1, t1⟩ := c_pl hd bb a hl hv
  obtain ⟨lm2, lv2, x2, e2, q2, l2, f2, t2⟩ := hk lv1 x1 q1 k1
  refine ⟨lm2, lv2, x2, by rw [hvv, e1, mj_rV_k, e2], q2, fun i hi => ?_, f1.tr f2, fun z => ?_⟩
  · have := l2 i hi
    rw [this.1, this.2]
    exact ⟨rfl, k1 i (by omega)⟩
  · obtain ⟨u1, u2⟩ := t2 z
    obtain ⟨v1, v2⟩ := t1 u1
    exact ⟨v1, v2.tr u2⟩
theorem w_sl_nl (bb : Bool) (l : Nat) (g : wG) : g_nl (w_sl bb l g) = g_nl g := by unfold w_sl; cases g_goes g l <;> rfl
/-- two labels, a condition, one thing, the other -/
theorem K_dia {d : Nat} {F1 F2 : wF} {C X1 X2 : wG → wG} {rc : Int32 → mj_X → mj_R} {r1 r2 : (mj_X → mj_R) → mj_X → mj_R} (hd : 7 ≤ d) (a : Y1 nt N P X b lm lv x g) (h29 : x.1 0 29 = 0)
    (mC : ∀ k, wM k (C k)) (m1 : ∀ k, wM k (X1 k)) (m2 : ∀ k, wM k (X2 k))
    (hC : ∀ lm1 lv1 z, Y1 nt N P X b lm1 lv1 z (w_lb F2 (w_lb F1 g)) → lv1 (g_nl g) = true → g_ok (C (w_lb F2 (w_lb F1 g))) → KJ nt N P X b (g_nl g + 2) (w_lb F2 (w_lb F1 g)) (rc (nI (lm1 (g_nl g))) z) z lm1 lv1 (C (w_lb F2 (w_lb F1 g))))
    (h1 : ∀ lm1 lv1 z G1 H1 k j, j ≤ g_nl G1 → Y1 nt N P X b lm1 lv1 z G1 → g_ok (X1 G1) → (∀ lm2 lv2 z2, Y1 nt N P X b lm2 lv2 z2 (X1 G1) → (∀ l, l < g_nl G1 → lm2 l = lm1 l ∧ lv2 l = lv1 l) → KJ nt N P X b j (X1 G1) (k z2) z2 lm2 lv2 H1) → KJ nt N P X b j G1 (r1 k z) z lm1 lv1 H1)
    (h2 : ∀ lm1 lv1 z G1 H1 k j, j ≤ g_nl G1 → Y1 nt N P X b lm1 lv1 z G1 → g_ok (X2 G1) → (∀ lm2 lv2 z2, Y1 nt N P X b lm2 lv2 z2 (X2 G1) → (∀ l, l < g_nl G1 → lm2 l = lm1 l ∧ lv2 l = lv1 l) → KJ nt N P X b j (X2 G1) (k z2) z2 lm2 lv2 H1) → KJ nt N P X b j G1 (r2 k z) z lm1 lv1 H1)
    (hok : g_ok (w_sl false (g_nl g + 1) (w_put (g_nl g + 1) (X2 (w_sl false (g_nl g) (w_put (g_nl g) (w_go (g_nl g + 1) (X1 (C (w_lb F2 (w_lb F1 g)))))))))) ) :
    KJ nt N P X b (g_nl g) g (mj_rI (kX0 d 64 [.ref 0] x) fun v1 x1 => mj_rI (kX0 d 64 [.ref 0] x1) fun v2 x2 => mj_rV (rc v1 x2) fun x3 => r1 (fun x4 => mj_rV (kX0 d 66 [.ref 0, .int v2] x4) fun x5 => mj_rV (kX0 d 70 [.ref 0, .int v1] x5) fun x6 => r2 (fun x7 => mj_rV (kX0 d 70 [.ref 0, .int v2] x7) fun x8 => some (none, x8)) x6) x3) x lm lv
      (w_sl false (g_nl g + 1) (w_put (g_nl g + 1) (X2 (w_sl false (g_nl g) (w_put (g_nl g) (w_go (g_nl g + 1) (X1 (C (w_lb F2 (w_lb F1 g)))))))))) := by
  have n2 : g_nl (w_lb F2 (w_lb F1 g)) = g_nl g + 2 := rfl
  have ml2 : wM (w_lb F1 g) (w_lb F2 (w_lb F1 g)) := (wM.rf _).lb _
  have mc := mC (w_lb F2 (w_lb F1 g))
  generalize hS3 : C (w_lb F2 (w_lb F1 g)) = S3 at *
  have mx := m1 S3
  generalize hS4 : X1 S3 = S4 at *
  have mg : wM S4 (w_go (g_nl g + 1) S4) := (wM.rf _).go _
  generalize hS5 : w_go (g_nl g + 1) S4 = S5 at *
  have mp : wM S5 (w_sl false (g_nl g) (w_put (g_nl g) S5)) := ((wM.rf _).put _).sl _ _
  have n6 : g_nl (w_sl false (g_nl g) (w_put (g_nl g) S5)) = g_nl S5 := by rw [w_sl_nl, w_put_s.2.2.2.1]
  generalize hS6 : w_sl false (g_nl g) (w_put (g_nl g) S5) = S6 at *
  have my := m2 S6
  generalize hS7 : X2 S6 = S7 at *
  have ms : wM S7 (w_sl false (g_nl g + 1) (w_put (g_nl g + 1) S7)) := ((wM.rf _).put _).sl _ _
  have ok7 := ms.1 hok
  have ok6 := my.1 ok7
  have ok5 := mp.1 ok6
  have ok4 := mg.1 ok5
  have ok3 := mx.1 ok4
  have ok2 := mc.1 ok3
  have nn3 := mc.nl
  have nn4 := mx.nl
  have nn5 := mg.nl
  have nn7 := my.nl
  refine KJ.lb (by omega) a h29 (ml2.1 ok2) (Nat.le_refl _) (fun lm1 lv1 x1 q1 w1 l1 z1 => ?_)
  refine KJ.lb (by omega) q1 z1 ok2 (Nat.le_succ _) (fun lm2 lv2 x2 q2 w2 l2 z2 => ?_)
  have w2 : lv2 (g_nl g + 1) = true := w2
  have l20 := l2 (g_nl g) (Nat.lt_succ_self _)
  have e20 : lm1 (g_nl g) = lm2 (g_nl g) := l20.1.symm
  have v20 : lv2 (g_nl g) = true := l20.2.trans w1
  rw [e20]
  refine KJ.bi (show g_nl g ≤ g_nl g + 2 by omega) (hC lm2 lv2 x2 q2 v20 ok3) (fun lm3 lv3 x3 q3 l3 f3 t3 => ?_)
  have c30 := l3 (g_nl g) (by omega)
  have c31 := l3 (g_nl g + 1) (by omega)
  refine h1 lm3 lv3 x3 S3 _ _ (g_nl g) (by omega) q3 (by rw [hS4]; exact ok4) (fun lm4 lv4 x4 q4 l4 => ?_)
  rw [hS4] at q4 ⊢
  have c40 := l4 (g_nl g) (by omega)
  have c41 := l4 (g_nl g + 1) (by omega)
  have j5 := KJ.of (n := g_nl S4) (c_go2 (d := d) (l := g_nl g + 1) (by omega) q4 (by omega) (by rw [c41.2, c31.2]; exact w2))
  rw [c41.1, c31.1, hS5] at j5
  refine KJ.bi (by omega) j5 (fun lm5 lv5 x5 q5 l5 f5 t5 => ?_)
  have c50 := l5 (g_nl g) (by omega)
  have c51 := l5 (g_nl g + 1) (by omega)
  have e50 : lm5 (g_nl g) = lm2 (g_nl g) := c50.1.trans (c40.1.trans c30.1)
  refine KJ.pl (by omega) false q5 (by omega) (by rw [c50.2, c40.2, c30.2]; exact v20) (Nat.le_refl _) (by rw [e50]) (fun lv6 x6 q6 k6 => ?_)
  rw [hS6] at q6 ⊢
  refine h2 lm5 lv6 x6 S6 _ _ (g_nl g) (by omega) q6 (by rw [hS7]; exact ok7) (fun lm7 lv7 x7 q7 l7 => ?_)
  rw [hS7] at q7 ⊢
  have c71 := l7 (g_nl g + 1) (by omega)
  refine KJ.pl (by omega) false q7 (by omega) (by rw [c71.2, k6 _ (by omega), c51.2, c41.2, c31.2]; exact w2) (by omega) (by rw [c71.1, c51.1, c41.1, c31.1]; rfl) (fun lv8 x8 q8 k8 => KJ.id_ q8)
theorem w_v0_all {rec : wR} (h1 : 35 ≤ nK nt n) (h2 : nK nt n ≤ 45) : w_v0 nt rec n g = w_chg nt rec (nA nt n) (nK nt n - 25).toNatClampNeg (nB nt n) true g := by
  have : ¬ (10 ≤ nK nt n ∧ nK nt n ≤ 20) := fun z => absurd (Int32.le_trans h1 z.2) (by decide)
  unfold w_v0; simp only [if_neg this, if_pos (And.intro h1 h2)]
/-- the arguments of a call -/
theorem K_args {d : Nat} {w : Int32} (hd : 6 * f + 13 ≤ d) (hT : wTb nt N M res par) (R : ∀ n, wE nt N f n → kV nt N f n) (hn : sp_nd N n = true) (hw : w = 0 ∨ w = 1) (hb : b + 4 * f + 2 ≤ 49900) {s0 : Nat} :
    ∀ (l : List Int32) (p : Int32) (s : Nat) (lm : Nat → Nat) (lv : Nat → Bool) (x : mj_X) (g : wG) (j : Nat), s + w_sum nt l = s0 → j ≤ g_nl g → sp_Ch nt N 49 l p → wCh nt N f 49 l → Y1 nt N P X b lm lv x g → g_ok (w_pe 15 5 (nA nt n).toInt64 s0 (w_tl (nT nt n)) (w_args nt (wV nt f) l g)) →
      KJ nt N P X b j g (rX0_value_2 d (192, [some (.ref 0), some (.int n), some (.int w), some (.int (nA nt n)), some (.int (nB nt n)), some (.int p)], [], x)) x lm lv (if w = 0 then (if nT nt n = 0 then w_pe 15 5 (nA nt n).toInt64 s0 (w_tl (nT nt n)) (w_args nt (wV nt f) l g) else w_em (7, 86 + (w_tl (nT nt n)).length, 0, 0, []) (w_tl (nT nt n)).length [] (w_pe 15 5 (nA nt n).toInt64 s0 (w_tl (nT nt n)) (w_args nt (wV nt f) l g))) else w_pe 15 5 (nA nt n).toInt64 s0 (w_tl (nT nt n)) (w_args nt (wV nt f) l g)) := by
  intro l
  induction l with
  | nil =>
    intro p s lm lv x g j hs hj hl _ a hok
    have hp : p = -1 := hl
    have hok : g_ok (w_pe 15 5 (nA nt n).toInt64 s0 (w_tl (nT nt n)) g) := hok
    rw [bX0_value_2_192, if_pos hp]
    refine KJ.bi (n1 := g_nl g) hj (c_inv (s := 5) (n := g_nl g) (by omega) (by omega) (Nat.le_refl _) a hok) (fun lm1 lv1 x1 q1 l1 f1 t1 => ?_)
    rcases hw with rfl | rfl
    · rw [if_pos (by rfl), if_pos (by rfl), q1.nd hn, q1.T.2.2.2.1, hT.ty hn]
      exact (c_drop (by omega) (hT.t hn).1 q1).end_
    · rw [if_neg (by decide), if_neg (by decide)]
      exact KJ.id_ q1
  | cons q r ih =>
    intro p s lm lv x g j hs hj hl hch a hok
    obtain ⟨e1, e2, e3, e4, e5⟩ := hl
    subst e1
    obtain ⟨-, hdq, -⟩ := hch p (List.mem_cons_self ..)
    have hf1 : 1 ≤ f := by have := (hT.d e2).1; omega
    obtain ⟨f', rfl⟩ : ∃ e, f = e + 1 := ⟨f - 1, by omega⟩
    obtain ⟨⟨ea, ta1, ta8⟩, -⟩ := wE_given hT e2 hdq e3
    have ea := ea.mono (Nat.le_succ _)
    have mr : wM (wV nt (f' + 1) (nA nt p) 0 0 g) (w_pe 15 5 (nA nt n).toInt64 s0 (w_tl (nT nt n)) (w_args nt (wV nt (f' + 1)) r (wV nt (f' + 1) (nA nt p) 0 0 g))) := (wM.args (wV_mono nt (f' + 1)) r (wM.rf _)).pe _ _ _ _ _
    have m0 := wV_mono nt (f' + 1) (nA nt p) 0 0 g
    rw [bX0_value_2_192, if_neg (nd_n1 e2), a.nd e2, a.T.2.1]
    refine KJ.bi (n1 := g_nl g) hj ((R _ ea P X b lm lv x g d hd hb a).1 (mr.1 hok)) (fun lm1 lv1 x1 q1 l1 f1 t1 => ?_)
    rw [q1.nd e2, q1.T.2.2.1]
    exact ih (nB nt p) (s + (w_tl (nT nt (nA nt p))).length) lm1 lv1 x1 _ j (by rw [← hs]; show _ = s + ((w_tl (nT nt (nA nt p))).length + w_sum nt r); omega) (by have := m0.nl; omega) e5 (fun k hk => hch k (List.mem_cons_of_mem _ hk)) q1 hok
end
