/-! CodeWriter: statements: what a loop does with its context -/
theorem ykk (K a : Nat) (h : [50, 51, 52, 53, 54, 55, 56, 57, 58].elem a = true) : yk K a K = true := by
  have : a = 50 ∨ a = 51 ∨ a = 52 ∨ a = 53 ∨ a = 54 ∨ a = 55 ∨ a = 56 ∨ a = 57 ∨ a = 58 := by simpa using h
  have e : Nat.ble K K = true := Nat.ble_eq_true_of_le (Nat.le_refl _)
  rcases this with rfl | rfl | rfl | rfl | rfl | rfl | rfl | rfl | rfl <;> exact e
theorem w_lbl_f (k : Int32) (F : wF) (g : wG) : g_nl (w_lbl k F g) = g_nl g + 3 ∧ g_nx (w_lbl k F g) = g_nx g ∧ g_it (w_lbl k F g) = g_it g ∧ g_cx (w_lbl k F g) = g_cx g := by
  rw [w_lbl_e]
  by_cases q : k = 67
  · rw [if_pos q]
    obtain ⟨b1, b2, b3, b4, -⟩ := w_lb0_f F (w_lb F (w_lb F g))
    obtain ⟨u1, u2, u3, u4, u5, u6⟩ := w_lb0_U F (w_lb F (w_lb F g))
    refine ⟨b4.trans rfl, u1.trans rfl, b3.trans rfl, u5.trans rfl⟩
  · rw [if_neg q]; exact ⟨rfl, rfl, rfl, rfl⟩
def w_slF (g : wG) : wG := s_ok (g_fm g < 3999) (s_lb (g_nl g, g_lat g, g_goes g, g_lF g, (g_us g - 1, g_n1 g, g_fm g)) g)
theorem w_sl_tF {l : Nat} {g : wG} (h : g_goes g l = true) : w_sl false l g = g := by unfold w_sl; rw [h]; rfl
theorem w_sl_fF {l : Nat} {g : wG} (h : g_goes g l = false) : w_sl false l g = w_slF g := by unfold w_sl; rw [h]; rfl
theorem w_sl_goes (l m : Nat) (g : wG) : g_goes (w_sl false l g) m = g_goes g m := by unfold w_sl; cases g_goes g l <;> rfl
theorem w_sl_comm (a b : Nat) (g : wG) : w_sl false a (w_sl false b g) = w_sl false b (w_sl false a g) := by
  rcases Bool.eq_false_or_eq_true (g_goes g a) with ha | ha
  · rw [w_sl_tF (l := a) (g := w_sl false b g) ((w_sl_goes b a g).trans ha), w_sl_tF ha]
  · rcases Bool.eq_false_or_eq_true (g_goes g b) with hb | hb
    · rw [w_sl_tF (l := b) (g := w_sl false a g) ((w_sl_goes a b g).trans hb), w_sl_tF hb]
    · rw [w_sl_fF (l := a) (g := w_sl false b g) ((w_sl_goes b a g).trans ha), w_sl_fF hb, w_sl_fF (l := b) (g := w_sl false a g) ((w_sl_goes a b g).trans hb), w_sl_fF ha]
theorem w_put_cx (l : Nat) (cs : List wC) (g : wG) : w_put l (s_cx cs g) = s_cx cs (w_put l g) := by
  unfold w_put
  have e1 : g_al (s_cx cs g) = g_al g := rfl
  have e2 : g_goes (s_cx cs g) l = g_goes g l := rfl
  simp only [e1, e2]
  cases g_al g <;> cases g_goes g l <;> rfl
section
variable {nt : sp_NT} {N M : Nat} {P : yP} {hp : Nat} {H V : List wSl} {O : List (Int32 × List (Nat × Nat))} {K u sb : Nat} {C : Nat → Prop} {o : Option Int32} {lm lm' lm1 : Nat → Nat} {lv lv' lv1 ct ct' : Nat → Bool} {x y x1 : mj_X} {g G : wG} {res par : Nat → Int32} {f : Nat} {n : Int32}
theorem Y2.ne {s : wSl} (h : Y2 nt N P hp H O K u sb C o (s :: V) lm lv ct x g) : ∀ t, t ∈ H ++ V → s.1 ≠ t.1 := by
  have p : (H ++ s :: V).Perm (s :: (H ++ V)) := List.perm_middle
  exact fun t ht => (List.pairwise_cons.mp ((p.pairwise_iff (fun {a b} h => h.symm)).mp h.2.1.2.2.2.2.2.2.1)).1 t ht
/-- where a loop goes on is told anew -/
theorem Y2.cont {s : wSl} {oo : Nat} {v : Int32} (h : Y2 nt N P hp H O K u sb C o (s :: V) lm lv ct x g) (ho : x.1 0 29 = 0 → oo < g_nl g ∧ lv oo = true ∧ v = nI (lm oo)) :
    Y2 nt N P hp H O K u sb C o ((s.1, s.2.1, (s.2.2.1, s.2.2.2.1, s.2.2.2.2.1, oo, s.2.2.2.2.2.2)) :: V) lm lv ct (mj_wI x 55 s.1 v) (s_cx ((s.2.2.1, s.2.2.2.1, s.2.2.2.2.1, oo, s.2.2.2.2.2.2) :: (g_cx g).tail) g) := by
  have hne := h.ne
  have fw : yfr (yw2 P s.1) (p_pf P) x (mj_wI x 55 s.1 v) := (yfr.rf _ _ x).w _ (by
    unfold yw2
    have : Nat.ble s.1 s.1 = true := Nat.ble_eq_true_of_le (Nat.le_refl _)
    simp only [this, Bool.or_true])
  have e0 : yV0 x (mj_wI x 55 s.1 v) := by
    refine ⟨fun _ _ => rfl, fun k hk => ?_, rfl⟩
    have : k ≠ 55 := fun z => by rw [z] at hk; revert hk; decide
    funext j; rw [mj_wI_1, if_neg this]
  obtain ⟨he, ⟨s1, s2, s3, s4, s5, s6, s7, s8, s9, s10, s11, s12, s13⟩, hC, hX⟩ := h
  have mem : ∀ t : wSl, t ∈ H ++ (s.1, s.2.1, (s.2.2.1, s.2.2.2.1, s.2.2.2.2.1, oo, s.2.2.2.2.2.2)) :: V → t = (s.1, s.2.1, (s.2.2.1, s.2.2.2.1, s.2.2.2.2.1, oo, s.2.2.2.2.2.2)) ∨ t ∈ H ++ V := by
    intro t ht
    rcases List.mem_append.mp ht with q | q
    · exact Or.inr (List.mem_append.mpr (Or.inl q))
    · rcases List.mem_cons.mp q with q | q
      · exact Or.inl q
      · exact Or.inr (List.mem_append.mpr (Or.inr q))
  have up : ∀ t : wSl, t ∈ H ++ V → t ∈ H ++ s :: V := by
    intro t ht
    rcases List.mem_append.mp ht with q | q
    · exact List.mem_append.mpr (Or.inl q)
    · exact List.mem_append.mpr (Or.inr (List.mem_cons_of_mem _ q))
  have ms : s ∈ H ++ s :: V := by simp
  have hnp0 : w_np ((s.2.2.1, s.2.2.2.1, s.2.2.2.2.1, oo, s.2.2.2.2.2.2) :: (g_cx g).tail) = w_np (g_cx g) := by rw [← s1]; rfl
  have hnp : w_np (g_cx (s_cx ((s.2.2.1, s.2.2.2.1, s.2.2.2.2.1, oo, s.2.2.2.2.2.2) :: (g_cx g).tail) g)) = w_np (g_cx g) := hnp0
  refine ⟨he.fr2 fw, ⟨?_, s2, s3, s4, s5, s6, ?_, fun t ht => ?_, s9, s10, s11, s12, s13⟩, hC, ?_⟩
  · show _ :: V.map (fun s => s.2.2) = _ :: (g_cx g).tail; rw [← s1]; rfl
  · refine pw_ne ?_ s7
    rw [List.map_append, List.map_append]; rfl
  · rcases mem t ht with rfl | q
    · exact s8 s ms
    · exact s8 t (up t q)
  · rcases hX with ⟨h0, h5, h6, h7, r1, r2, r3, r4, L, t', q1, q2, q3, q4, q5, q6, q7, q8, q9, q10, q11⟩ | ⟨h0, m1, m2, m3⟩
    · refine Or.inl ⟨h0, h5, h6.v0 e0, (h7.v0 e0).same ⟨rfl, rfl, rfl, rfl, rfl, rfl, rfl, rfl, rfl, rfl⟩, r1, r2, r3, fun t ht => ?_, L, t', q1, q2, q3, q4, by unfold w_ph; rw [hnp]; exact q5, q6, q7, fun t ht => ?_, q9, ?_, fun t ht h2 => ?_⟩
      · rcases mem t ht with rfl | q
        · obtain ⟨c1, c2, c3⟩ := r4 s ms
          obtain ⟨z1, z2, z3⟩ := ho h0
          exact ⟨c1, fun _ => ⟨z1, z2, by show upd (x.1 55) s.1 v s.1 = _; rw [pk_us]; exact z3⟩, c3⟩
        · obtain ⟨c1, c2, c3⟩ := r4 t (up t q)
          refine ⟨c1, fun z => ?_, c3⟩
          obtain ⟨z1, z2, z3⟩ := c2 z
          refine ⟨z1, z2, ?_⟩
          show upd (x.1 55) s.1 v t.1 = _
          rw [pk_un (fun z => hne t q z.symm)]; exact z3
      · rcases mem t ht with rfl | q
        · exact q8 s ms
        · exact q8 t (up t q)
      · have e : (H ++ (s.1, s.2.1, (s.2.2.1, s.2.2.2.1, s.2.2.2.2.1, oo, s.2.2.2.2.2.2)) :: V).map (fun s => x.1 52 s.1) = (H ++ s :: V).map (fun s => x.1 52 s.1) := by rw [List.map_append, List.map_append]; rfl
        show (O.map Prod.fst ++ (H ++ (s.1, s.2.1, (s.2.2.1, s.2.2.2.1, s.2.2.2.2.1, oo, s.2.2.2.2.2.2)) :: V).map (fun s => x.1 52 s.1)).Nodup
        rw [e]; exact q10
      · rcases List.mem_cons.mp ht with rfl | q
        · exact q11 s (by simp) h2
        · exact q11 t (List.mem_cons_of_mem _ q) h2
    · exact Or.inr ⟨h0, m1.v0 e0, m2.v0 e0, m3.of rfl rfl rfl (by
        unfold w_ph; rw [hnp]; exact Nat.le_refl _) rfl rfl rfl⟩
/-- the innermost context is told anew -/
theorem Y2.set59 {v w : Int32} (h : Y2 nt N P hp H O K u sb C o V lm lv ct x g) (e : o.getD (x.1 0 59) = w) : Y2 nt N P hp H O K u sb C (some w) V lm lv ct (mj_wI x 0 59 v) g := by
  have f : yfr (yk K) (p_pf P) x (mj_wI x 0 59 v) := (yfr.rf _ _ x).w _ rfl
  have e0 := yV0.of f (yvok K) rfl
  obtain ⟨he, ⟨s1, s2, s3, s4, s5, s6, s7, s8, s9, s10, s11, s12, s13⟩, hC, hX⟩ := h
  refine ⟨he.fr2 (yk_w f), ⟨s1, s2, s3, s4, s5, by show z_ch w K V; rw [← e]; exact s6, s7, s8, s9, s10, s11, s12, s13⟩, hC, ?_⟩
  rcases hX with ⟨h0, h5, h6, h7, r1, r2, r3, r4, L, t', q1, q2, q3, q4, q5, q6, q7, q8, q9, q10, q11⟩ | ⟨h0, m1, m2, m3⟩
  · exact Or.inl ⟨h0, h5, h6.v0 e0, h7.v0 e0, r1, r2, r3, r4, L, t', q1, q2, q3, q4, q5, q6, q7, q8, q9, q10, q11⟩
  · exact Or.inr ⟨h0, m1.v0 e0, m2.v0 e0, m3⟩
/-- a label is given back: all others stay -/
theorem Y2.sl {d l : Nat} (hd : 1 ≤ d) (bb : Bool) (hl : l < g_nl g) (hv : lv l = true) (hct : ct l = false) (h : Y2 nt N P hp H O K u sb C none V lm lv ct x g) (hV : ∀ c, c ∈ g_cx g → w_cl l c) (hH : ∀ s, s ∈ H → w_cl l s.2.2) :
    ∃ lv1 ct1 x1, kX0 d 72 [.ref 0, .int (nI (lm l))] x = some (none, x1) ∧ Y2 nt N P hp H O K u sb C none V lm lv1 ct1 x1 (w_sl bb l g) ∧ (∀ k, k < g_nl g → k ≠ l → lv1 k = lv k ∧ ct1 k = ct k) ∧ yfr (yw (p_pf P) (p_lf P)) (p_pf P) x x1 ∧ (x1.1 0 29 = 0 → x.1 0 29 = 0 ∧ yT x g x1 (w_sl bb l g)) := by
  have hm : wM g (w_sl bb l g) := (wM.rf g).sl _ _
  have hU := wU_sl bb l g
  have hnl : g_nl (w_sl bb l g) = g_nl g := w_sl_nl _ _ _
  have hDx : x.1 0 29 = 0 → ∀ s, s ∈ H ++ V → (s.2.2.1 ≤ 1 → ¬ s.2.2.2.2.1 = l) ∧ (s.2.2.1 = 0 → ¬ s.2.2.2.2.2.1 = l) := fun _ s hs => by
    have : w_cl l s.2.2 := by
      rcases List.mem_append.mp hs with q | q
      · exact hH s q
      · exact hV _ (by rw [← h.2.1.1]; exact List.mem_map.mpr ⟨s, q, rfl⟩)
    exact ⟨fun q => by have := this.1 q; omega, fun q => by have := this.2 q; omega⟩
  by_cases h0 : x.1 0 29 = 0
  · obtain ⟨lv1, x1, e1, q1, k1, f1, t1⟩ := c_sl hd bb (h.vx (b := 45500) h0 (by omega) (by omega)) hl hv
    have f1 : yfr (yw (p_pf P) (p_lf P)) (p_pf P) x x1 := f1
    exact ⟨lv1, _, x1, e1, h.ofv (D := fun k => k = l) hm hU f1 (fun k _ hk' => ⟨rfl, k1 k hk'⟩) (fun k hk' => by rw [hk']; exact hct) hDx (Or.inl ⟨h0, q1, by omega⟩), fun k hk hk' => ⟨k1 k hk', if_pos hk⟩, f1, t1⟩
  · obtain ⟨hY, -⟩ := h.vm h0
    obtain ⟨lv1, x1, e1, q1, k1, f1, t1⟩ := c_sl hd bb hY hl hv
    have f1 : yfr (yw (p_pf P) (p_lf P)) (p_pf P) x x1 := f1
    have z0 : ¬ x1.1 0 29 = 0 := fun w => h0 (t1 w).1
    obtain ⟨zM, zL, -⟩ := q1.mc z0
    have zL : yL [] (g_nl g) lm lv1 x1 49600 := zL.fewer (by rw [w_sl_nl]; exact Nat.le_refl _)
    exact ⟨lv1, _, x1, e1, h.ofv (b := 0) (D := fun k => k = l) hm hU f1 (fun k _ hk' => ⟨rfl, k1 k hk'⟩) (fun k hk' => by rw [hk']; exact hct) hDx (Or.inr ⟨h0, z0, zM, by rw [hnl]; exact zL⟩), fun k hk hk' => ⟨k1 k hk', if_pos hk⟩, f1, fun w => absurd w z0⟩
/-- a context without pieces is shut -/
theorem Y2.shut0 {s : wSl} (h : Y2 nt N P hp H O (K + 1) u sb C none (s :: V) lm lv ct x g) (hs : s.1 = K) (hps : c_ps s.2.2 = []) : Y2 nt N P hp H O K u sb C none V lm lv ct (mj_wI (mj_wI x 0 59 (x.1 51 K)) 0 58 (nI K)) (w_shut g) := by
  have hch : z_ch (x.1 0 59) (K + 1) (s :: V) := h.ch
  have hne := h.ne
  have hlo : ∀ t, t ∈ H → t.1 < K + 1 := fun t ht => (h.low (s := t) (List.mem_append.mpr (Or.inl ht))).1
  have h51 : x.1 51 K = s.2.1 := by have := (h.sk (s := s) (by simp)).2.1; rw [hs] at this; exact this
  have q := h.hide
  rw [hps] at q
  have q : Y2 nt N P hp (s :: H) O (K + 1) u sb C (some s.2.1) V lm lv ct x (w_shut g) := q
  have q2 := (q.shutH (fun t ht => by have := hne t (List.mem_append.mpr (Or.inl ht)); have := hlo t ht; omega) hch.2.2).lessO
  rw [hs] at q2
  rw [h51]; exact q2
/-- the end of a loop -/
theorem k_ltail {d : Nat} (hd : 2 ≤ d) {e l1 l2 : Nat} {a1 a2 a3 a4 a5 a6 hr : Int32} {o8 o9 : Option Value} {V5 : List wSl} (q : Y2 nt N P hp H O (K + 1) u sb C none V5 lm lv ct x G) (hs : z_skl V5 = (K, hr) :: z_skl V) (hcx : ∃ dd r, g_cx G = dd :: r ∧ c_ps dd = [] ∧ ∀ c, c ∈ r → w_cl e c) (hclH : ∀ s, s ∈ H → w_cl e s.2.2)
    (he1 : e < l1) (he2 : e < l2) (h12 : l1 ≠ l2) (hl1 : l1 < g_nl G) (hl2 : l2 < g_nl G) (ve : lv e = true ∧ ct e = false) (v1 : lv l1 = true ∧ ct l1 = false) (v2 : lv l2 = true ∧ ct l2 = false) (e1 : a4 = nI (lm l1)) (e2 : a5 = nI (lm l2)) (e3 : a6 = nI (lm e)) :
    KS nt N P hp H O K u sb e (z_skl V) C ct G (rX0_loop d (199, [some (.ref 0), some (.int a1), some (.int a2), some (.int a3), some (.int a4), some (.int a5), some (.int a6), some (.int (nI K)), o8, o9], [], x)) x lm lv (w_sl false e (w_put e (w_sl false l2 (w_sl false l1 (w_shut G))))) := by
  cases V5 with
  | nil => simp [z_skl] at hs
  | cons s V6 =>
    have e4 : (s.1, s.2.1) = (K, hr) := by injection hs
    have e5 : z_skl V6 = z_skl V := by injection hs
    have e6 : s.1 = K := congrArg Prod.fst e4
    obtain ⟨dd, r, hg, hps, hcl⟩ := hcx
    have hc := q.2.1.1
    rw [hg] at hc
    have hd0 : s.2.2 = dd := by injection hc
    have hlo := q.low (s := s) (by simp)
    have q2 := q.shut0 e6 (by rw [hd0]; exact hps)
    have hcl2 : ∀ c, c ∈ g_cx (w_shut G) → w_cl e c := by
      show ∀ c, c ∈ (g_cx G).tail → w_cl e c
      rw [hg]; exact hcl
    have up : ∀ {c : wC} {m : Nat}, e ≤ m → w_cl e c → w_cl m c := fun hm q => ⟨fun z => by have := q.1 z; omega, fun z => by have := q.2 z; omega⟩
    rw [bX0_loop_199, e_shutX (by omega) (by omega), mj_rV_k]
    obtain ⟨lv1, ct1, x1, E1, q3, k3, f3, t3⟩ := Y2.sl (d := d) (by omega) false (l := l1) (g := w_shut G) hl1 v1.1 v1.2 q2 (fun c hc => up (by omega) (hcl2 c hc)) (fun s hs => up (by omega) (hclH s hs))
    rw [e1, E1, mj_rV_k]
    have n3 : g_nl (w_sl false l1 (w_shut G)) = g_nl G := w_sl_nl _ _ _
    have c3 : g_cx (w_sl false l1 (w_shut G)) = g_cx (w_shut G) := (wU_sl false l1 (w_shut G)).2.2.2.2.1
    obtain ⟨a2', b2'⟩ := k3 l2 hl2 (fun z => h12 z.symm)
    obtain ⟨ae, be⟩ := k3 e (show e < g_nl G by omega) (by omega)
    obtain ⟨lv2, ct2, x2, E2, q4, k4, f4, t4⟩ := Y2.sl (d := d) (by omega) false (l := l2) (g := w_sl false l1 (w_shut G)) (by rw [n3]; exact hl2) (a2'.trans v2.1) (b2'.trans v2.2) q3 (fun c hc => up (by omega) (hcl2 c (by rw [c3] at hc; exact hc))) (fun s hs => up (by omega) (hclH s hs))
    rw [e2, E2, mj_rV_k]
    have n4 : g_nl (w_sl false l2 (w_sl false l1 (w_shut G))) = g_nl G := (w_sl_nl _ _ _).trans n3
    have c4 : g_cx (w_sl false l2 (w_sl false l1 (w_shut G))) = g_cx (w_shut G) := (wU_sl false l2 _).2.2.2.2.1.trans c3
    obtain ⟨ae2, be2⟩ := k4 e (by rw [n3]; omega) (by omega)
    obtain ⟨lv3, ct3, x3, E3, q5, k5, f5, t5⟩ := Y2.pl (d := d) (by omega) false (l := e) (g := w_sl false l2 (w_sl false l1 (w_shut G))) (by rw [n4]; omega) (ae2.trans (ae.trans ve.1)) (be2.trans (be.trans ve.2)) q4 (fun c hc => hcl2 c (by rw [c4] at hc; exact hc)) hclH
    rw [e3, E3, mj_rV_k]
    have f3 : yfr (yw (p_pf P) (p_lf P)) (p_pf P) _ x1 := f3
    have fsh : yfr (yw2 P K) (p_pf P) x (mj_wI (mj_wI x 0 59 (x.1 51 K)) 0 58 (nI K)) := ((yfr.rf _ _ x).w _ rfl).w _ rfl
    refine ⟨V6, C, lm, lv3, ct3, x3, rfl, q5, e5, fun _ h => h, fun l hl => ⟨rfl, ?_, ?_⟩, fsh.tr (((f3.tr f4).tr f5).up), fun w => ?_⟩
    · exact (k5 l (by rw [n4]; omega) (by omega)).1.trans ((k4 l (by rw [n3]; omega) (by omega)).1.trans (k3 l (show l < g_nl G by omega) (by omega)).1)
    · exact (k5 l (by rw [n4]; omega) (by omega)).2.trans ((k4 l (by rw [n3]; omega) (by omega)).2.trans (k3 l (show l < g_nl G by omega) (by omega)).2)
    · obtain ⟨w5, u5⟩ := t5 w
      obtain ⟨w4, u4⟩ := t4 w5
      obtain ⟨w3, u3⟩ := t3 w4
      have sh : yT x G (mj_wI (mj_wI x 0 59 (x.1 51 K)) 0 58 (nI K)) (w_shut G) := yT.rf rfl rfl rfl
      exact ⟨w3, sh.tr (u3.tr (u4.tr u5))⟩
end
