/-! CodeWriter: statements: labels that are taken and given back, ends, places, lines -/
section
variable {nt : sp_NT} {N M : Nat} {P : yP} {hp : Nat} {H V : List wSl} {O : List (Int32 × List (Nat × Nat))} {K u sb : Nat} {C : Nat → Prop} {o : Option Int32} {lm lm' lm1 : Nat → Nat} {lv lv' lv1 ct ct' : Nat → Bool} {x y x1 : mj_X} {g G : wG} {res par : Nat → Int32}
/-- the labels that contexts know -/
def w_cl (n : Nat) (c : wC) : Prop := (c.1 ≤ 1 → c.2.2.1 < n) ∧ (c.1 = 0 → c.2.2.2.1 < n)
theorem w_cl.wK {n : Nat} : ∀ {a b : List wC}, wK a b → (∀ c, c ∈ a → w_cl n c) → ∀ c, c ∈ b → w_cl n c := by
  intro a
  induction a with
  | nil => intro b h _; cases b with
    | nil => intro c hc; cases hc
    | cons _ _ => exact h.elim
  | cons x a ih => intro b h hx; cases b with
    | nil => exact h.elim
    | cons y b =>
      intro c hc
      rcases List.mem_cons.mp hc with rfl | hc
      · have e := h.1.1
        have e1 : c.1 = x.1 := by have := congrArg Prod.fst e; exact this
        have e2 : c.2.2.1 = x.2.2.1 := by have := congrArg (fun q => q.2.2.1) e; exact this
        have e3 : c.2.2.2.1 = x.2.2.2.1 := by have := congrArg (fun q => q.2.2.2.1) e; exact this
        have := hx x (by simp)
        unfold w_cl at *
        rw [e1, e2, e3]; exact this
      · exact ih h.2 (fun c hc => hx c (List.mem_cons_of_mem _ hc)) c hc
theorem Y2.cl (h : Y2 nt N P hp H O K u sb C o V lm lv ct x g) (h0 : x.1 0 29 = 0) : (∀ c, c ∈ g_cx g → w_cl (g_nl g) c) ∧ ∀ s, s ∈ H → w_cl (g_nl g) s.2.2 := by
  obtain ⟨-, -, -, -, -, -, a4, -⟩ := h.ex h0
  have key : ∀ s, s ∈ H ++ V → w_cl (g_nl g) s.2.2 := fun s hs => by
    obtain ⟨c1, c2, -⟩ := a4 s hs
    exact ⟨fun q => (c1 q).1, fun q => (c2 q).1⟩
  refine ⟨fun c hc => ?_, fun s hs => key s (List.mem_append.mpr (Or.inl hs))⟩
  rw [← h.2.1.1] at hc
  obtain ⟨s, hs, rfl⟩ := List.mem_map.mp hc
  exact key s (List.mem_append.mpr (Or.inr hs))
/-- a new label, while all is exact -/
theorem KS.lb {d n : Nat} {S : List (Nat × Int32)} {hp' K' u' sb' : Nat} {H' : List wSl} {O' : List (Int32 × List (Nat × Nat))} (hd : 1 ≤ d) {F : wF} {k : Int32 → mj_X → mj_R} {L : wG} (h : Y2 nt N P hp H O K u sb C none V lm lv ct x g) (h0 : x.1 0 29 = 0) (hok : g_ok (w_lb F g)) (hn : n ≤ g_nl g)
    (hk : ∀ lm' lv' ct' x', Y2 nt N P hp H O K u sb C none V lm' lv' ct' x' (w_lb F g) → lv' (g_nl g) = true → ct' (g_nl g) = false → (∀ l, l < g_nl g → lm' l = lm l ∧ lv' l = lv l ∧ ct' l = ct l) → x'.1 0 29 = 0 → yfr (yw (p_pf P) (p_lf P)) (p_pf P) x x' → KS nt N P hp' H' O' K' u' sb' n S C ct' (w_lb F g) (k (nI (lm' (g_nl g))) x') x' lm' lv' L) :
    KS nt N P hp' H' O' K' u' sb' n S C ct g (mj_rI (kX0 d 64 [.ref 0] x) k) x lm lv L := by
  obtain ⟨i, x1, e1, q1, f1, z1, t1⟩ := c_lb hd (h.vx (b := 45500) h0 (by omega) (by omega)) h0 hok
  have f1 : yfr (yw (p_pf P) (p_lf P)) (p_pf P) x x1 := f1
  have hm : wM g (w_lb F g) := (wM.rf g).lb F
  have hlab : ∀ l, l < g_nl g → (fun l => if l = g_nl g then i else lm l) l = lm l ∧ (fun l => if l = g_nl g then true else lv l) l = lv l := fun l hl => ⟨if_neg (by omega), if_neg (by omega)⟩
  have q2 := h.ofv (D := fun _ => False) hm ⟨rfl, rfl, rfl, rfl, rfl, rfl⟩ f1 (fun l hl _ => hlab l hl) (fun _ q => q.elim) (fun _ _ _ => ⟨fun _ q => q, fun _ q => q⟩) (Or.inl ⟨h0, q1, by omega⟩)
  have r := hk _ _ _ x1 q2 (if_pos rfl) (if_neg (Nat.lt_irrefl _)) (fun l hl => ⟨(hlab l hl).1, (hlab l hl).2, if_pos hl⟩) z1 f1
  rw [if_pos rfl] at r
  obtain ⟨V2, C2, lm2, lv2, ct2, x2, e2, p2, v2, c2, l2, f2, t2⟩ := r
  refine ⟨V2, C2, lm2, lv2, ct2, x2, by rw [e1, mj_rI_k, e2], p2, v2, c2, fun l hl => ?_, f1.up.tr f2, fun w => ?_⟩
  · obtain ⟨a1, a2, a3⟩ := l2 l hl
    exact ⟨a1.trans (hlab l (by omega)).1, a2.trans (hlab l (by omega)).2, a3.trans (if_pos (by omega))⟩
  · exact ⟨h0, yT.tr t1 (t2 w).2⟩
theorem wU_sl (bb : Bool) (l : Nat) (g : wG) : wU g (w_sl bb l g) := by
  unfold w_sl
  cases g_goes g l <;> exact ⟨rfl, rfl, rfl, rfl, rfl, rfl⟩
/-- a label is given back; it is none of cases, none of contexts -/
theorem KS.sl {d l n : Nat} (hd : 1 ≤ d) (bb : Bool) (hl : l < g_nl g) (hv : lv l = true) (hct : ct l = false) (hn : n ≤ l) (h : Y2 nt N P hp H O K u sb C none V lm lv ct x g) (hV : ∀ c, c ∈ g_cx g → w_cl l c) (hH : ∀ s, s ∈ H → w_cl l s.2.2) : KS nt N P hp H O K u sb n (z_skl V) C ct g (kX0 d 72 [.ref 0, .int (nI (lm l))] x) x lm lv (w_sl bb l g) := by
  have hm : wM g (w_sl bb l g) := (wM.rf g).sl _ _
  have hDx : x.1 0 29 = 0 → ∀ s, s ∈ H ++ V → (s.2.2.1 ≤ 1 → ¬ s.2.2.2.2.1 = l) ∧ (s.2.2.1 = 0 → ¬ s.2.2.2.2.2.1 = l) := fun _ s hs => by
    have : w_cl l s.2.2 := by
      rcases List.mem_append.mp hs with q | q
      · exact hH s q
      · exact hV _ (by rw [← h.2.1.1]; exact List.mem_map.mpr ⟨s, q, rfl⟩)
    exact ⟨fun q => by have := this.1 q; omega, fun q => by have := this.2 q; omega⟩
  have fin : ∀ (lv1 : Nat → Bool) (x1 : mj_X), (∀ k, k ≠ l → lv1 k = lv k) → yfr (yw (p_pf P) (p_lf P)) (p_pf P) x x1 → kX0 d 72 [.ref 0, .int (nI (lm l))] x = some (none, x1) → (x1.1 0 29 = 0 → x.1 0 29 = 0 ∧ yT x g x1 (w_sl bb l g)) → ((x.1 0 29 = 0 ∧ Y1 nt N (pH P hp) [] 45500 lm lv1 x1 (w_sl bb l g) ∧ (45500 : Nat) ≤ 49600) ∨ (¬ x.1 0 29 = 0 ∧ ¬ x1.1 0 29 = 0 ∧ yM P x1 ∧ yL [] (g_nl (w_sl bb l g)) lm lv1 x1 49600)) → KS nt N P hp H O K u sb n (z_skl V) C ct g (kX0 d 72 [.ref 0, .int (nI (lm l))] x) x lm lv (w_sl bb l g) := by
    intro lv1 x1 hk f e t q
    exact ⟨V, C, lm, lv1, _, x1, e, h.ofv (D := fun k => k = l) hm (wU_sl _ _ _) f (fun k _ hk' => ⟨rfl, hk k hk'⟩) (fun k hk' => by rw [hk']; exact hct) hDx q, rfl, fun _ h => h, fun k hk' => ⟨rfl, hk k (by omega), if_pos (by omega)⟩, f.up, t⟩
  by_cases h0 : x.1 0 29 = 0
  · obtain ⟨lv1, x1, e1, q1, k1, f1, t1⟩ := c_sl hd bb (h.vx (b := 45500) h0 (by omega) (by omega)) hl hv
    exact fin lv1 x1 k1 f1 e1 t1 (Or.inl ⟨h0, q1, by omega⟩)
  · obtain ⟨hY, -⟩ := h.vm h0
    obtain ⟨lv1, x1, e1, q1, k1, f1, t1⟩ := c_sl hd bb hY hl hv
    have z0 : ¬ x1.1 0 29 = 0 := fun w => h0 (t1 w).1
    obtain ⟨zM, zL, -⟩ := q1.mc z0
    exact fin lv1 x1 k1 f1 e1 (fun w => absurd w z0) (Or.inr ⟨h0, z0, zM, by rw [w_sl_nl] at zL ⊢; exact zL⟩)
theorem wU_tr {a b c : wG} (h : wU a b) (k : wU b c) : wU a c := ⟨k.1.trans h.1, k.2.1.trans h.2.1, k.2.2.1.trans h.2.2.1, k.2.2.2.1.trans h.2.2.2.1, k.2.2.2.2.1.trans h.2.2.2.2.1, k.2.2.2.2.2.trans h.2.2.2.2.2⟩
/-- a label is put and given back: all others stay -/
theorem Y2.pl {d l : Nat} (hd : 2 ≤ d) (bb : Bool) (hl : l < g_nl g) (hv : lv l = true) (hct : ct l = false) (h : Y2 nt N P hp H O K u sb C none V lm lv ct x g) (hV : ∀ c, c ∈ g_cx g → w_cl l c) (hH : ∀ s, s ∈ H → w_cl l s.2.2) :
    ∃ lv1 ct1 x1, kX0 d 70 [.ref 0, .int (nI (lm l))] x = some (none, x1) ∧ Y2 nt N P hp H O K u sb C none V lm lv1 ct1 x1 (w_sl bb l (w_put l g)) ∧ (∀ k, k < g_nl g → k ≠ l → lv1 k = lv k ∧ ct1 k = ct k) ∧ yfr (yw (p_pf P) (p_lf P)) (p_pf P) x x1 ∧ (x1.1 0 29 = 0 → x.1 0 29 = 0 ∧ yT x g x1 (w_sl bb l (w_put l g))) := by
  have hm : wM g (w_sl bb l (w_put l g)) := ((wM.rf g).put _).sl _ _
  have hU := wU_tr (wU_put l g) (wU_sl bb l (w_put l g))
  have hnl : g_nl (w_sl bb l (w_put l g)) = g_nl g := by rw [w_sl_nl, w_put_s.2.2.2.1]
  have hDx : x.1 0 29 = 0 → ∀ s, s ∈ H ++ V → (s.2.2.1 ≤ 1 → ¬ s.2.2.2.2.1 = l) ∧ (s.2.2.1 = 0 → ¬ s.2.2.2.2.2.1 = l) := fun _ s hs => by
    have : w_cl l s.2.2 := by
      rcases List.mem_append.mp hs with q | q
      · exact hH s q
      · exact hV _ (by rw [← h.2.1.1]; exact List.mem_map.mpr ⟨s, q, rfl⟩)
    exact ⟨fun q => by have := this.1 q; omega, fun q => by have := this.2 q; omega⟩
  by_cases h0 : x.1 0 29 = 0
  · obtain ⟨lv1, x1, e1, q1, k1, f1, t1⟩ := c_pl hd bb (h.vx (b := 45500) h0 (by omega) (by omega)) hl hv
    have f1 : yfr (yw (p_pf P) (p_lf P)) (p_pf P) x x1 := f1
    exact ⟨lv1, _, x1, e1, h.ofv (D := fun k => k = l) hm hU f1 (fun k _ hk' => ⟨rfl, k1 k hk'⟩) (fun k hk' => by rw [hk']; exact hct) hDx (Or.inl ⟨h0, q1, by omega⟩), fun k hk hk' => ⟨k1 k hk', if_pos hk⟩, f1, t1⟩
  · obtain ⟨hY, -⟩ := h.vm h0
    obtain ⟨lv1, x1, e1, q1, k1, f1, t1⟩ := c_pl hd bb hY hl hv
    have f1 : yfr (yw (p_pf P) (p_lf P)) (p_pf P) x x1 := f1
    have z0 : ¬ x1.1 0 29 = 0 := fun w => h0 (t1 w).1
    obtain ⟨zM, zL, -⟩ := q1.mc z0
    have zL : yL [] (g_nl g) lm lv1 x1 49600 := zL.fewer (by rw [w_sl_nl, w_put_s.2.2.2.1]; exact Nat.le_refl _)
    exact ⟨lv1, _, x1, e1, h.ofv (b := 0) (D := fun k => k = l) hm hU f1 (fun k _ hk' => ⟨rfl, k1 k hk'⟩) (fun k hk' => by rw [hk']; exact hct) hDx (Or.inr ⟨h0, z0, zM, by rw [hnl]; exact zL⟩), fun k hk hk' => ⟨k1 k hk', if_pos hk⟩, f1, fun w => absurd w z0⟩
theorem KS.pl {d l n : Nat} (hd : 2 ≤ d) (bb : Bool) (hl : l < g_nl g) (hv : lv l = true) (hct : ct l = false) (hn : n ≤ l) (h : Y2 nt N P hp H O K u sb C none V lm lv ct x g) (hV : ∀ c, c ∈ g_cx g → w_cl l c) (hH : ∀ s, s ∈ H → w_cl l s.2.2) : KS nt N P hp H O K u sb n (z_skl V) C ct g (kX0 d 70 [.ref 0, .int (nI (lm l))] x) x lm lv (w_sl bb l (w_put l g)) := by
  obtain ⟨lv1, ct1, x1, e1, q1, k1, f1, t1⟩ := Y2.pl hd bb hl hv hct h hV hH
  exact ⟨V, C, lm, lv1, ct1, x1, e1, q1, rfl, fun _ h => h, fun k hk => ⟨rfl, (k1 k (by omega) (by omega)).1, (k1 k (by omega) (by omega)).2⟩, f1.up, t1⟩
/-- nothing follows; something follows again -/
theorem Y2.al (h : Y2 nt N P hp H O K u sb C o V lm lv ct x g) (al : Bool) : Y2 nt N P hp H O K u sb C o V lm lv ct (mj_wI x 0 30 (sp_b al)) (s_al al g) := by
  have f : yfr (yw (p_pf P) (p_lf P)) (p_pf P) x (mj_wI x 0 30 (sp_b al)) := (yfr.rf _ _ _).w _ rfl
  have eU := yU.of f
  obtain ⟨he, hS, hC, hX⟩ := h
  refine ⟨he.fr2 (K := K) f.up, hS.eq (cx := g_cx (s_al al g)) eU, hC, ?_⟩
  rcases hX with ⟨h0, h1, h2, ⟨o1, o2, o3, o4, o5, o6, o7, ⟨p1, p2, p3, p4⟩, o9⟩, hx⟩ | ⟨h0, ⟨m1, m2, m3⟩, hL, ho⟩
  · refine Or.inl ⟨h0, h1, h2, ⟨o1, o2, rfl, o4, o5, o6, o7, ⟨p1, p2, p3, ?_⟩, o9⟩, ?_⟩
    · refine y_po.same (x := x) ?_ ?_ ?_ _ p4 <;> rfl
    · exact hx.eq (G := s_al al g) eU (fun _ _ => ⟨rfl, rfl, rfl⟩) ⟨[], rfl⟩ (Nat.le_refl _) rfl rfl (fun _ => rfl) (hx.1.eq (G := s_al al g) eU ⟨rfl, rfl, rfl, rfl, rfl, rfl⟩)
  · exact Or.inr ⟨h0, ⟨m1, ⟨al, rfl⟩, m3⟩, hL, ho.mono ((wM.rf g).s_al _)⟩
/-- a place is kept for a variable -/
theorem Y2.plw {v : Int32} {p : Int32} {q : Nat} (hv : v.toNatClampNeg < 4000) (hk : nt 0 v.toNatClampNeg = 5) (h : Y2 nt N P hp H O K u sb C o V lm lv ct x g) (hpq : x.1 0 29 = 0 → p = nI q ∧ q < 256) : Y2 nt N P hp H O K u sb C o V lm lv ct (mj_wI x 35 v.toNatClampNeg p) (s_pl v.toNatClampNeg q g) := by
  have f2 : yfr (yw2 P K) (p_pf P) x (mj_wI x 35 v.toNatClampNeg p) := (yfr.rf _ _ x).w _ (by unfold yw2; exact Bool.or_true _)
  have ne : ∀ k, C k → k ≠ v.toNatClampNeg := fun k hc e => by
    have := (h.2.2.1 k hc).2.1
    rw [e, hk] at this
    revert this; decide
  obtain ⟨he, hS, hC, hX⟩ := h
  have hC' : yCt nt C (g_nl g) lm lv ct (mj_wI x 35 v.toNatClampNeg p) := by
    intro k hc
    obtain ⟨h1, h2, l, h3, h4, h5, h6⟩ := hC k hc
    refine ⟨h1, h2, l, h3, h4, h5, ?_⟩
    show upd (x.1 35) v.toNatClampNeg p k = _
    rw [pk_un (ne k hc)]; exact h6
  refine ⟨he.fr2 f2, hS, hC', ?_⟩
  rcases hX with ⟨h0, h1, h2, h3, a1, a2, a3, a4, a5⟩ | ⟨h0, m1, m2, m3⟩
  · have e0 : yV0 x (mj_wI x 35 v.toNatClampNeg p) := by
      refine ⟨fun _ _ => rfl, fun k hk => ?_, rfl⟩
      have : k ≠ 35 := fun z => by rw [z] at hk; revert hk; decide
      funext j; rw [mj_wI_1, if_neg this]
    refine Or.inl ⟨h0, fun k r hk4 hr => ?_, h2.v0 e0, h3.v0 e0, a1, a2, fun k l hk => ?_, a4, a5⟩
    · have hr : (if k = v.toNatClampNeg then some q else g_pl g k) = some r := hr
      show upd (x.1 35) v.toNatClampNeg p k = nI r ∧ r < 256 ∧ nt 0 k = 5
      by_cases e : k = v.toNatClampNeg
      · rw [if_pos e] at hr
        injection hr with hr
        rw [e, pk_us, ← hr]; exact ⟨(hpq h0).1, (hpq h0).2, hk⟩
      · rw [if_neg e] at hr
        rw [pk_un e]; exact h1 k r hk4 hr
    · have hk : (if 4000 + k = v.toNatClampNeg then some q else g_pl g (4000 + k)) = some l := hk
      rw [if_neg (by omega)] at hk
      obtain ⟨p0, p1, p2, p3, p4⟩ := a3 k l hk
      refine ⟨p0, p1, p2, p3, ?_⟩
      show upd (x.1 35) v.toNatClampNeg p k = _
      rw [pk_un (ne k p0)]; exact p4
  · exact Or.inr ⟨h0, m1, m2, m3⟩
/-- the line that is to be told -/
theorem Y2.pn {v p : Int32} (h : Y2 nt N P hp H O K u sb C o V lm lv ct x g) (hv : x.1 0 29 = 0 → v = p) : Y2 nt N P hp H O K u sb C o V lm lv ct (mj_wI x 0 47 v) (s_pn p g) := by
  have f : yfr (yw (p_pf P) (p_lf P)) (p_pf P) x (mj_wI x 0 47 v) := (yfr.rf _ _ _).w _ rfl
  have eU := yU.of f
  obtain ⟨he, hS, hC, hX⟩ := h
  refine ⟨he.fr2 (K := K) f.up, hS.eq (cx := g_cx (s_pn p g)) eU, hC, ?_⟩
  rcases hX with ⟨h0, h1, h2, ⟨o1, o2, o3, o4, o5, o6, o7, ⟨p1, p2, p3, p4⟩, ⟨n1, n2, n3⟩⟩, hx⟩ | ⟨h0, ⟨m1, m2, m3⟩, hL, ho⟩
  · refine Or.inl ⟨h0, h1, h2, ⟨o1, o2, o3, o4, o5, o6, o7, ⟨p1, p2, p3, ?_⟩, ⟨n1, hv h0, n3⟩⟩, ?_⟩
    · refine y_po.same (x := x) ?_ ?_ ?_ _ p4 <;> rfl
    · exact hx.eq (G := s_pn p g) eU (fun _ _ => ⟨rfl, rfl, rfl⟩) ⟨[], rfl⟩ (Nat.le_refl _) rfl rfl (fun _ => rfl) (hx.1.eq (G := s_pn p g) eU ⟨rfl, rfl, rfl, rfl, rfl, rfl⟩)
  · exact Or.inr ⟨h0, ⟨m1, m2, m3⟩, hL, ho⟩
end
