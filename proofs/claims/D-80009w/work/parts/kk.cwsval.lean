/-! CodeWriter: statements: values, codes, labels within them -/
section
variable {nt : sp_NT} {N M : Nat} {P : yP} {X : List (Nat × Bool)} {b : Nat} {lm lm' : Nat → Nat} {lv lv' : Nat → Bool} {x y : mj_X} {g h G H : wG}
/-- a load or store with any frame -/
theorem c_acc2 {d n tag far near t p : Nat} {F : wF} (hd : 3 ≤ d) (ht : (tag = 2 ∧ far = 21 ∧ near = 26) ∨ (tag = 3 ∧ far = 54 ∧ near = 59)) (h1 : 1 ≤ t) (h8 : t ≤ 8) (hp : p < 256) (a : Y1 nt N P X b lm lv x g) : KJ nt N P X b n g (kX0 d 40 [.ref 0, .int (nI far), .int (nI near), .int (nI t), .int (nI p)] x) x lm lv (w_es (tag, t, p, 0, []) F g) := by
  obtain ⟨d, rfl⟩ : ∃ c, d = c + 1 := ⟨d - 1, by omega⟩
  have he : ∀ w q, w_enc w w_z q (tag, t, p, 0, []) = w_loc far near t p := by
    intro w q
    rcases ht with ⟨rfl, rfl, rfl⟩ | ⟨rfl, rfl, rfl⟩ <;> rfl
  have hf : ∀ w q r, w_fx w q (tag, t, p, 0, []) r = r := by
    intro w q r
    rcases ht with ⟨rfl, rfl, rfl⟩ | ⟨rfl, rfl, rfl⟩ <;> rfl
  rw [eX0_access, sX0_letterOf (by omega) h1 h8, mj_rI_k]
  by_cases q : p ≤ 3
  · rw [if_neg (show ¬ (3 : Int32) < nI p from nI_nlt (b := p) (a := 3) q (by omega)), show (nI near + (4 : Int32) * nI (w_ltr t)) + nI p = nI (near + 4 * w_ltr t + p) by rw [show (4 : Int32) * nI (w_ltr t) = nI (4 * w_ltr t) from nI_mul 4 _, nI_add, nI_add]]
    exact (c_es1 (by omega) a ⟨fun s => by rw [he]; unfold w_loc; rw [if_pos q], fun _ _ => hf _ _ _⟩).end_
  · rw [if_pos (show (3 : Int32) < nI p from nI_lt (a := 3) (by omega) (by omega)), if_neg (show ¬ (256 : Int32) ≤ nI p from nI_ge (b := 256) (by omega) (by omega)), nI_add]
    exact c_es (by omega) a ⟨fun s => by rw [he]; unfold w_loc; rw [if_neg q, if_pos hp]; rfl, fun _ _ => hf _ _ _⟩ ((EK.emit (by omega) (nI p)).seq (EK.id_ _ _ _))
end
section
variable {nt : sp_NT} {N M : Nat} {P : yP} {hp : Nat} {H V : List wSl} {O : List (Int32 × List (Nat × Nat))} {K u sb : Nat} {C : Nat → Prop} {o : Option Int32} {lm lm' lm1 : Nat → Nat} {lv lv' lv1 ct ct' : Nat → Bool} {x y x1 : mj_X} {g G : wG} {res par : Nat → Int32}
theorem Y2.ch (h : Y2 nt N P hp H O K u sb C none V lm lv ct x g) : z_ch (x.1 0 59) K V := h.2.1.2.2.2.2.2.1
theorem yL.fewer {nl nl' v : Nat} (a : yL [] nl lm lv x v) (hn : nl' ≤ nl) : yL [] nl' lm lv x v := by
  obtain ⟨fr, L, l1, l2, l3, l4, l5, l6, l7, l8, l9⟩ := a
  exact ⟨fr, L, l1, l2, l3, l4, l5, l6, fun l hl => l7 l (by omega), fun l l' hl hl' => l8 l l' (by omega) (by omega), l9⟩
/-- behind a method of values: labels that are dropped (D) are none of cases, none of contexts -/
theorem Y2.ofv {b : Nat} {D : Nat → Prop} (h : Y2 nt N P hp H O K u sb C o V lm lv ct x g) (hm : wM g G) (hs : wU g G) (f : yfr (yw (p_pf P) (p_lf P)) (p_pf P) x x1)
    (hD : ∀ l, l < g_nl g → ¬ D l → lm1 l = lm l ∧ lv1 l = lv l) (hDc : ∀ l, D l → ct l = false) (hDx : x.1 0 29 = 0 → ∀ s, s ∈ H ++ V → (s.2.2.1 ≤ 1 → ¬ D s.2.2.2.2.1) ∧ (s.2.2.1 = 0 → ¬ D s.2.2.2.2.2.1))
    (q : (x.1 0 29 = 0 ∧ Y1 nt N (pH P hp) [] b lm1 lv1 x1 G ∧ b ≤ 49600) ∨ (¬ x.1 0 29 = 0 ∧ ¬ x1.1 0 29 = 0 ∧ yM P x1 ∧ yL [] (g_nl G) lm1 lv1 x1 49600)) : Y2 nt N P hp H O K u sb C o V lm1 lv1 (fun l => if l < g_nl g then ct l else false) x1 G := by
  have eU := yU.of f
  obtain ⟨he, hS, hC, hX⟩ := h
  have nD : ∀ l, ct l = true → ¬ D l := fun l hc hd => by rw [hDc l hd] at hc; cases hc
  have hC' : yCt nt C (g_nl G) lm1 lv1 (fun l => if l < g_nl g then ct l else false) x1 := by
    intro k hk
    obtain ⟨h1, h2, l, h3, h4, h5, h6⟩ := hC k hk
    obtain ⟨e1, e2⟩ := hD l h3 (nD l h5)
    exact ⟨h1, h2, l, Nat.lt_of_lt_of_le h3 hm.nl, e2.trans h4, (if_pos h3).trans h5, by rw [eU.2 35 rfl, e1]; exact h6⟩
  refine ⟨he.fr2 (K := K) f.up, by rw [hs.2.2.2.2.1]; exact hS.eq eU, hC', ?_⟩
  rcases q with ⟨h0, q1, hb⟩ | ⟨h0, z0, zM, zL⟩
  · rcases hX with ⟨-, h1, h2, h3, a1, a2, a3, a4, a5⟩ | ⟨q, -⟩
    · rcases q1.2.2.2 with ⟨z0, zL, z1⟩ | ⟨zM, zL, zo⟩
      · refine Or.inl ⟨z0, fun v p hv hp' => ⟨(q1.1.2.2.2.2.2.2.2.2.2 v p hv hp').1, (q1.1.2.2.2.2.2.2.2.2.2 v p hv hp').2, (h1 v p hv (by rw [hs.2.2.2.2.2] at hp'; exact hp')).2.2⟩, by simpa using zL, z1, a1.eq eU hs, ?_, fun k l hk => ?_, fun s hs' => ?_, a5.eq eU hm.2.1 hm.ph⟩
        · obtain ⟨i, hi⟩ := hm.2.1
          rw [eU.1 45 rfl, eU.2 22 rfl, hs.2.2.2.1, hi]; exact a2.app i
        · rw [hs.2.2.2.2.2] at hk
          obtain ⟨p0, p1, p2, p3, p4⟩ := a3 k l hk
          obtain ⟨e1, e2⟩ := hD l p1 (nD l p3)
          exact ⟨p0, Nat.lt_of_lt_of_le p1 hm.nl, e2.trans p2, (if_pos p1).trans p3, by rw [eU.2 35 rfl, e1]; exact p4⟩
        · obtain ⟨c1, c2, c3, c4, c5, c6⟩ := a4 s hs'
          obtain ⟨d1, d2⟩ := hDx h0 s hs'
          refine ⟨fun w => ?_, fun w => ?_, by rw [eU.2 56 rfl]; exact c3, c4, by rw [eU.2 53 rfl]; exact c5, by rw [eU.2 57 rfl]; exact c6⟩
          · obtain ⟨p1, p2, p3⟩ := c1 w
            obtain ⟨e1, e2⟩ := hD _ p1 (d1 w)
            exact ⟨Nat.lt_of_lt_of_le p1 hm.nl, e2.trans p2, by rw [eU.2 54 rfl, e1]; exact p3⟩
          · obtain ⟨p1, p2, p3⟩ := c2 w
            obtain ⟨e1, e2⟩ := hD _ p1 (d2 w)
            exact ⟨Nat.lt_of_lt_of_le p1 hm.nl, e2.trans p2, by rw [eU.2 55 rfl, e1]; exact p3⟩
      · exact Or.inr ⟨by rw [zM.1]; decide, zM, zL.mono hb, zo⟩
    · exact absurd h0 q
  · rcases hX with ⟨q, -⟩ | ⟨-, -, -, h3⟩
    · exact absurd q h0
    · exact Or.inr ⟨z0, zM, zL, h3.mono hm⟩
/-- a method that may be walked as a value when it was much, at S's state that is much -/
theorem KS.ofM {r : mj_R} {b : Nat} (hm : wM g G) (h : Y2 nt N P hp H O K u sb C none V lm lv ct x g)
    (Cx : x.1 0 29 = 0 → KJ nt N (pH P hp) [] b (g_nl g) g r x lm lv G) (hb : b ≤ 49600)
    (Cm : ¬ x.1 0 29 = 0 → Y1 nt N (pH P hp) [] 49600 lm lv x (s_mu g) → ∃ G', g_nl g ≤ g_nl G' ∧ KJ nt N (pH P hp) [] 49600 (g_nl g) (s_mu g) r x lm lv G') (hs : wU g G) : KS nt N P hp H O K u sb (g_nl g) (z_skl V) C ct g r x lm lv G := by
  by_cases h0 : x.1 0 29 = 0
  · obtain ⟨lm1, lv1, x1, e1, q1, l1, f1, t1⟩ := Cx h0
    have f1 : yfr (yw (p_pf P) (p_lf P)) (p_pf P) x x1 := f1
    exact ⟨V, C, lm1, lv1, _, x1, e1, h.ofv (D := fun _ => False) hm hs f1 (fun l hl _ => l1 l hl) (fun _ q => q.elim) (fun _ _ _ => ⟨fun _ q => q, fun _ q => q⟩) (Or.inl ⟨h0, q1, hb⟩), rfl, fun _ h => h, fun l hl => ⟨(l1 l hl).1, (l1 l hl).2, if_pos hl⟩, f1.up, t1⟩
  · obtain ⟨hY, -⟩ := h.vm h0
    obtain ⟨G', hn, lm1, lv1, x1, e1, q1, l1, f1, t1⟩ := Cm h0 hY
    have f1 : yfr (yw (p_pf P) (p_lf P)) (p_pf P) x x1 := f1
    have z0 : ¬ x1.1 0 29 = 0 := fun w => h0 (t1 w).1
    obtain ⟨zM, zL, -⟩ := q1.mc z0
    have zL := (zL.fewer hn).nl (nl' := g_nl G)
    have hlab : ∀ l, l < g_nl g → (fun l => if l < g_nl g then lm1 l else 0) l = lm l ∧ (fun l => if l < g_nl g then lv1 l else false) l = lv l := fun l hl => ⟨(if_pos hl).trans (l1 l hl).1, (if_pos hl).trans (l1 l hl).2⟩
    exact ⟨V, C, _, _, _, x1, e1, h.ofv (b := 0) (D := fun _ => False) hm hs f1 (fun l hl _ => hlab l hl) (fun _ q => q.elim) (fun _ _ _ => ⟨fun _ q => q, fun _ q => q⟩) (Or.inr ⟨h0, z0, zM, zL⟩), rfl, fun _ h => h, fun l hl => ⟨(hlab l hl).1, (hlab l hl).2, if_pos hl⟩, f1.up, fun w => absurd w z0⟩
/-- values -/
theorem KS.val {d : Nat} (hd : 253 ≤ d) (hT : wTb nt N M res par) {n : Int32} (hE : wE nt N 40 n) (h : Y2 nt N P hp H O K u sb C none V lm lv ct x g) (hok : g_ok (wV nt 40 n 0 0 g)) :
    KS nt N P hp H O K u sb (g_nl g) (z_skl V) C ct g (kX0 d 35 [.ref 0, .int n, .int (1 : Int32)] x) x lm lv (wV nt 40 n 0 0 g) := by
  refine KS.of (b := 45500) (wV_mono nt 40 n 0 0 g) h h.ch (fun h0 => (kV_all hT 40 n hE (pH P hp) [] 45500 lm lv x g d (by omega) (by omega) (h.vx h0 (by omega) (by omega))).1 hok) (by omega) (fun h0 a => (Q_all hT 40).1 n (pH P hp) [] 49600 lm lv x (s_mu g) d 1 hE (by omega) (by omega) a (Or.inr h0)) ?_
  cases hq : w_q g
  · exact ((wV_sh hT 40 n hE).2 g 0 hq (Nat.zero_le _)).1.1.1.2
  · rw [((wV_sh hT 40 n hE).1 g hq).1]; exact ⟨rfl, rfl, rfl, rfl, rfl, rfl⟩
theorem KS.cnd {d : Nat} (hd : 253 ≤ d) (hT : wTb nt N M res par) {n : Int32} (hE : wE nt N 40 n) (ht : nT nt n = 1) (so : Bool) {l : Nat} (hl : l < g_nl g) (hv : lv l = true) (h : Y2 nt N P hp H O K u sb C none V lm lv ct x g) (hok : g_ok (wV nt 40 n (bif so then 2 else 3) l g)) :
    KS nt N P hp H O K u sb (g_nl g) (z_skl V) C ct g (kX0 d 65 [.ref 0, .int n, .int (sp_b so), .int (nI (lm l))] x) x lm lv (wV nt 40 n (bif so then 2 else 3) l g) := by
  refine KS.of (b := 45500) (wV_mono nt 40 n _ l g) h h.ch (fun h0 => (kV_all hT 40 n hE (pH P hp) [] 45500 lm lv x g d (by omega) (by omega) (h.vx h0 (by omega) (by omega))).2 ht so l hl hv hok) (by omega) (fun h0 a => (Q_all hT 40).2 n (pH P hp) [] 49600 lm lv x (s_mu g) d _ _ hE ht (by omega) (by omega) a (Or.inr h0)) ?_
  cases hq0 : w_q g
  · have := ((wV_sh hT 40 n hE).2 g 0 hq0 (Nat.zero_le _)).2.2 ht l hl
    cases so
    · exact this.2.1.1.2
    · exact this.1.1.1.2
  · cases so
    · rw [show wV nt 40 n (bif false then 2 else 3) l g = g from (((wV_sh hT 40 n hE).1 g hq0).2 l).2]; exact ⟨rfl, rfl, rfl, rfl, rfl, rfl⟩
    · rw [show wV nt 40 n (bif true then 2 else 3) l g = g from (((wV_sh hT 40 n hE).1 g hq0).2 l).1]; exact ⟨rfl, rfl, rfl, rfl, rfl, rfl⟩
theorem KS.an {d : Nat} (hd : 253 ≤ d) (hT : wTb nt N M res par) {n : Int32} (hE : wE nt N 40 n) (hq : w_q g = false) (h : Y2 nt N P hp H O K u sb C none V lm lv ct x g) (hok : g_ok (wV nt 40 n 1 0 g)) :
    KS nt N P hp H O K u sb (g_nl g) (z_skl V) C ct g (kX0 d 35 [.ref 0, .int n, .int (0 : Int32)] x) x lm lv (wV nt 40 n 1 0 g) := by
  refine KS.of (b := 45500) (wV_mono nt 40 n 1 0 g) h h.ch (fun h0 => ?_) (by omega) (fun h0 a => (Q_all hT 40).1 n (pH P hp) [] 49600 lm lv x (s_mu g) d 0 hE (by omega) (by omega) a (Or.inr h0)) ((wV_sh hT 40 n hE).2 g 0 hq (Nat.zero_le _)).2.1.1.1.2
  have := K_an (f := 39) (d := d) (by omega) hT (kV_all hT 39) hE (b := 45500) (by omega) (h.vx h0 (by omega) (by omega)) (fun _ => hok)
  rw [hq] at this; exact this
/-- codes -/
theorem KS.es {d : Nat} (hd : 2 ≤ d) {i : wI} {F : wF} {cc : Int32} {bs : List Int32} {k : mj_X → mj_R} (h : Y2 nt N P hp H O K u sb C none V lm lv ct x g) (hi : w_in1 (p_w P) i cc bs) (hk : EK (p_w P) (p_M P) (p_cf P) bs k) : KS nt N P hp H O K u sb (g_nl g) (z_skl V) C ct g (mj_rV (kX0 d 37 [.ref 0, .int cc] x) k) x lm lv (w_es i F g) :=
  KS.of (b := 45500) ((wM.rf g).es _ _) h h.ch (fun h0 => c_es hd (h.vx h0 (by omega) (by omega)) hi hk) (by omega) (fun h0 a => by
    rw [c_codeq hd (Or.inr h0), mj_rV_k, hk.1 x (Or.inr h0)]; exact QR.id_ a (Or.inr h0)) (wU_es _ _)
theorem KS.es1 {d : Nat} (hd : 2 ≤ d) {i : wI} {F : wF} {cc : Int32} (h : Y2 nt N P hp H O K u sb C none V lm lv ct x g) (hi : w_in1 (p_w P) i cc []) : KS nt N P hp H O K u sb (g_nl g) (z_skl V) C ct g (kX0 d 37 [.ref 0, .int cc] x) x lm lv (w_es i F g) :=
  KS.of (b := 45500) ((wM.rf g).es _ _) h h.ch (fun h0 => c_es1 hd (h.vx h0 (by omega) (by omega)) hi) (by omega) (fun h0 a => by
    rw [c_codeq hd (Or.inr h0)]; exact QR.id_ a (Or.inr h0)) (wU_es _ _)
theorem KS.e1 {d off : Nat} {on : List Nat} (hd : 2 ≤ d) {i : wI} {cc : Int32} (h : Y2 nt N P hp H O K u sb C none V lm lv ct x g) (hi : w_in1 (p_w P) i cc []) : KS nt N P hp H O K u sb (g_nl g) (z_skl V) C ct g (kX0 d 37 [.ref 0, .int cc] x) x lm lv (w_em i off on g) :=
  KS.of (b := 45500) ((wM.rf g).em _ _ _) h h.ch (fun h0 => c_e1 hd (h.vx h0 (by omega) (by omega)) hi) (by omega) (fun h0 a => by
    rw [c_codeq hd (Or.inr h0)]; exact QR.id_ a (Or.inr h0)) (wU_em _ _ _)
theorem wU_pe (s : Nat) (v : Int64) (off : Nat) (on : List Nat) (g : wG) : wU g (w_pe 15 s v off on g) := by
  cases hq0 : w_q g
  · exact (wP_pe (n := 0) hq0).1.1.2
  · rw [show w_pe 15 s v off on g = g by unfold w_pe; rw [hq0]; rfl]; exact ⟨rfl, rfl, rfl, rfl, rfl, rfl⟩
theorem KS.inv {d s off : Nat} {v : Int64} {on : List Nat} (hd : 4 ≤ d) (hs : s < 100) (h : Y2 nt N P hp H O K u sb C none V lm lv ct x g) (hok : g_ok (w_pe 15 s v off on g)) : KS nt N P hp H O K u sb (g_nl g) (z_skl V) C ct g (kX0 d 54 [.ref 0, .int (nI s), .long v] x) x lm lv (w_pe 15 s v off on g) :=
  KS.of (b := 45500) ((wM.rf g).pe _ _ _ _ _) h h.ch (fun h0 => c_inv hd hs (Nat.le_refl _) (h.vx h0 (by omega) (by omega)) hok) (by omega) (fun h0 a => QR.inv hd a (Or.inr h0)) (wU_pe _ _ _ _ _)
/-- a store to, a load from, a place of which nothing is known when it was much -/
theorem KS.stn {d t : Nat} (hd : 4 ≤ d) (t1 : 1 ≤ t) (t8 : t ≤ 8) {p : Int32} {q : Nat} {F : wF} (h : Y2 nt N P hp H O K u sb C none V lm lv ct x g) (hpq : x.1 0 29 = 0 → p = nI q ∧ q < 256) : KS nt N P hp H O K u sb (g_nl g) (z_skl V) C ct g (kX0 d 39 [.ref 0, .int (nI t), .int p] x) x lm lv (w_es (3, t, q, 0, []) F g) := by
  refine KS.of (b := 45500) ((wM.rf g).es _ _) h h.ch (fun h0 => ?_) (by omega) (fun h0 a => by rw [c_stq hd (Or.inr h0)]; exact QR.id_ a (Or.inr h0)) (wU_es _ _)
  obtain ⟨rfl, hq⟩ := hpq h0
  obtain ⟨d, rfl⟩ : ∃ e, d = e + 1 := ⟨d - 1, by omega⟩
  rw [eX0_store]
  exact (c_acc2 (far := 54) (near := 59) (by omega) (Or.inr ⟨rfl, rfl, rfl⟩) t1 t8 hq (h.vx h0 (by omega) (by omega))).end_
theorem KS.ldn {d t : Nat} (hd : 4 ≤ d) (t1 : 1 ≤ t) (t8 : t ≤ 8) {p : Int32} {q : Nat} {on : List Nat} (h : Y2 nt N P hp H O K u sb C none V lm lv ct x g) (hpq : x.1 0 29 = 0 → p = nI q ∧ q < 256) : KS nt N P hp H O K u sb (g_nl g) (z_skl V) C ct g (kX0 d 47 [.ref 0, .int (nI t), .int p] x) x lm lv (w_ld t q on g) := by
  refine KS.of (b := 45500) ((wM.rf g).ld _ _ _) h h.ch (fun h0 => ?_) (by omega) (fun h0 a => by rw [c_ldq hd (Or.inr h0)]; exact QR.id_ a (Or.inr h0)) (wU_em _ _ _)
  obtain ⟨rfl, hq⟩ := hpq h0
  exact c_ld hd t1 t8 hq (h.vx h0 (by omega) (by omega))
/-- the ways: to a label, a label is put -/
theorem wU_go (l : Nat) (g : wG) : wU g (w_go l g) := (wX_go (n := 0) (l := l) (tg := []) (g := g) (Or.inl (Nat.zero_le _))).1.2
theorem KS.go {d l : Nat} (hd : 7 ≤ d) (hl : l < g_nl g) (hv : lv l = true) (h : Y2 nt N P hp H O K u sb C none V lm lv ct x g) : KS nt N P hp H O K u sb (g_nl g) (z_skl V) C ct g (kX0 d 66 [.ref 0, .int (nI (lm l))] x) x lm lv (w_go l g) :=
  KS.ofM (b := 45500) ((wM.rf g).go _) h (fun h0 => KJ.of (c_go2 hd (h.vx h0 (by omega) (by omega)) hl hv)) (by omega) (fun h0 a => ⟨_, (((wM.rf (s_mu g)).go l).nl : _), KJ.of (c_go2 hd a hl hv)⟩) (wU_go l g)
theorem wU_put (l : Nat) (g : wG) : wU g (w_put l g) := by
  unfold w_put
  cases g_al g <;> cases g_goes g l <;> exact ⟨rfl, rfl, rfl, rfl, rfl, rfl⟩
theorem KS.put {d l : Nat} (hd : 1 ≤ d) (hl : l < g_nl g) (hv : lv l = true) (h : Y2 nt N P hp H O K u sb C none V lm lv ct x g) : KS nt N P hp H O K u sb (g_nl g) (z_skl V) C ct g (kX0 d 71 [.ref 0, .int (nI (lm l))] x) x lm lv (w_put l g) :=
  KS.ofM (b := 45500) ((wM.rf g).put _) h (fun h0 => KJ.of (c_put hd (h.vx h0 (by omega) (by omega)) hl hv)) (by omega) (fun h0 a => ⟨_, (((wM.rf (s_mu g)).put l).nl : _), KJ.of (c_put hd a hl hv)⟩) (wU_put l g)
end
