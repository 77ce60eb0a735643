/-! statements of CodeWriterModel: what is left on a way out -/
section
variable {nt : sp_NT} {N M : Nat} {w : Bool} {ba pf rf lf c hp : Nat} {H V : List wSl} {K u : Nat} {o : Option Int32} {lm lm' : Nat → Nat} {lv lv' : Nat → Bool} {x y : mj_X} {g G : wG} {res par : Nat → Int32} {f : Nat} {n : Int32}
theorem m_stM {d : Nat} (hd : 1 ≤ d) (h : ¬ x.1 0 34 = 0) (v : Int32) : kX1 d 38 [.ref 0, .int v] x = some (none, x) := by
  obtain ⟨d, rfl⟩ : ∃ c, d = c + 1 := ⟨d - 1, by omega⟩
  rw [eX1_statement]
  by_cases q : x.1 0 35 = 0
  · rw [if_pos q]
  · rw [if_neg q, if_neg h]
theorem m_goM {d : Nat} (hd : 1 ≤ d) (h : ¬ x.1 0 34 = 0) (v : Int32) : kX1 d 47 [.ref 0, .int v] x = some (none, x) := by
  obtain ⟨d, rfl⟩ : ∃ c, d = c + 1 := ⟨d - 1, by omega⟩
  rw [eX1_jump]
  by_cases q : x.1 0 35 = 0
  · rw [if_pos q]
  · rw [if_neg q, if_neg h]
/-- the end of a context -/
theorem m_end {d : Nat} {s : wSl} (hd : 6 * f + 262 ≤ d) (hf : f ≤ 200) (hs : s ∈ H ++ V) (h3 : 3 ≤ s.2.2.1) (hcok : w_cok nt N s.2.2) (hT : wTb nt N M res par) (R : ∀ m, wA nt N 40 m → mS nt N M w ba pf rf lf c f m) (hC : ∀ c, c ∈ g_cx g → w_cok nt N c) (h : Q2 nt N M w ba pf rf lf c hp H K (200 - f) none V lm lv x g) (hok : g_ok (w_end (wS nt f) s.2.2 g)) :
    J2 nt N M w ba pf rf lf c hp H K (200 - f) (g_nl g) (z_skl V) (kX1 d 87 [.ref 0, .int (nI s.1)] x) x lm lv (w_end (wS nt f) s.2.2 g) := by
  obtain ⟨d, rfl⟩ : ∃ c, d = c + 1 := ⟨d - 1, by omega⟩
  have hlt := h.lt hs
  obtain ⟨k1, k2, k3, -⟩ := h.sk hs
  have h65 : x.1 0 34 = 0 → x.1 65 s.1 = s.2.2.2.1 := fun q => ((h.ex q).2.2.2.2.1 s hs).2.2.2.2 h3
  rw [eX1_end, nI_nd (by omega), nI_cl (by omega), k1]
  by_cases q4 : s.2.2.1 = 4
  · have e : w_end (wS nt f) s.2.2 g = w_em (16, 195, 0, 0, []) 1 [] (w_ld 5 s.2.2.2.1.toNatClampNeg [11] g) := by unfold w_end; rw [if_pos q4]
    rw [e] at hok ⊢
    obtain ⟨p, p1, p2⟩ := hcok.2 q4
    have p3 : s.2.2.2.1.toNatClampNeg = p := by rw [p2]; exact nI_cl (by omega)
    rw [p3] at hok ⊢
    have m2 : wM (w_ld 5 p [11] g) (w_em (16, 195, 0, 0, []) 1 [] (w_ld 5 p [11] g)) := (wM.rf _).em _ _ _
    rw [if_pos (by rw [q4]; rfl), nI_nd (by omega)]
    refine J2.b (Nat.le_refl _) (J2.ldn (d := d) (t := 5) (q := p) (on := [11]) (by omega) (by decide) (by decide) rfl h (fun q => ⟨by rw [h65 q, p2], p1⟩) (m2.1 hok)) (fun V1 lm1 lv1 x1 q1 v1 l1 f1 mm1 => ?_)
    rw [← v1]
    refine J2.end_ ((J2.e1 (d := d) (i := (16, 195, 0, 0, [])) (off := 1) (on := []) (cc := 195) (by omega) q1 hok rfl rfl ⟨fun _ => rfl, fun _ _ => rfl⟩).le ?_)
    exact ((wM.rf g).ld _ _ _).2.2.2.2.2.2.1
  · have e : w_end (wS nt f) s.2.2 g = w_aln (wS nt f) s.2.2.2.1 g := by unfold w_end; rw [if_neg q4]
    rw [e] at hok ⊢
    rw [if_neg (show ¬ nI s.2.2.1 = (4 : Int32) from fun e => q4 ((nI_eq (b := 4) (by omega) (by omega)).mp e)), nI_nd (by omega)]
    obtain ⟨ff, hA⟩ := hcok.1 (by omega)
    have hA40 : wA nt N 40 s.2.2.2.1 := ⟨hA.1, hA.2.1, (hT.d hA.1).2⟩
    by_cases h0 : x.1 0 34 = 0
    · rw [h65 h0]
      exact J2.end_ (J2.block (R _ hA40) (d := d) (by omega) (by omega) h hC hok)
    · obtain ⟨d, rfl⟩ : ∃ e, d = e + 1 := ⟨d - 1, by omega⟩
      rw [eX1_block, m_stM (by omega) h0, mj_rV_k, mj_rV_k]
      have hm : wM g (w_aln (wS nt f) s.2.2.2.1 g) := (wM.rf g).aln (wS_mono nt f) _
      have q := h.nx (v := x.1 0 38) (n := g_nx g) (fun q => absurd q h0)
      have hm' : wM (s_nx (g_nx g) g) (w_aln (wS nt f) s.2.2.2.1 g) := hm
      exact (J2.skM (k := g_nl g) q h0 hm' (Nat.le_refl _)).pre ((zfr.rf _ x).w _ rfl) (fun q => q)
theorem Q2.oo {hr : Int32} (h : Q2 nt N M w ba pf rf lf c hp H K u o V lm lv x g) (hch : z_ch hr K V) : Q2 nt N M w ba pf rf lf c hp H K u (some hr) V lm lv x g := by
  obtain ⟨hlm, he, ⟨s1, s2, s3, s4, s5, s6, s7⟩, hX⟩ := h
  exact ⟨hlm, he, ⟨s1, s2, s3, s4, s5, hch, s7⟩, hX⟩
theorem w_ends_s {rec : wT} {ab k : Nat} {c : wC} {r : List wC} (hq : w_q g = false) (hc : g_cx g = c :: r) : w_ends rec ab (k + 1) g = (s_cx ((if 2 ≤ c.1 then w_pc (g_it g).length c else c) :: g_cx (w_ends rec ab k (if 3 ≤ c.1 then w_fin rec ab c (s_cx r g) else s_cx r g)).1) (w_ends rec ab k (if 3 ≤ c.1 then w_fin rec ab c (s_cx r g) else s_cx r g)).1, (w_ends rec ab k (if 3 ≤ c.1 then w_fin rec ab c (s_cx r g) else s_cx r g)).2 + 1) := by
  show (bif w_q g then (g, 0) else match g_cx g with | [] => (g, 0) | c :: r => _) = _
  rw [hq, hc]; rfl
theorem w_ends_q {rec : wT} {ab k : Nat} (hq : w_q g = true) : w_ends rec ab k g = (g, 0) := by
  cases k with
  | zero => rfl
  | succ k => show (bif w_q g then (g, 0) else _) = _; rw [hq]; rfl
theorem z_at_le {V : List wSl} {v : Int32} {s : wSl} (h : ∃ j, j ≤ V.length ∧ v = z_at V j) : ∃ j, j ≤ (s :: V).length ∧ v = z_at (s :: V) j := by
  obtain ⟨j, h1, h2⟩ := h
  exact ⟨j + 1, by simp; omega, h2⟩
theorem z_at_skl {V V2 : List wSl} (h : z_skl V2 = z_skl V) (j : Nat) : z_at V2 j = z_at V j := by
  have h1 := pw_skl h
  have h2 : (V2.drop j).map (fun s => s.1) = (V.drop j).map (fun s => s.1) := by rw [List.map_drop, List.map_drop, h1]
  unfold z_at
  cases e1 : V2.drop j with
  | nil => cases e2 : V.drop j with
    | nil => rfl
    | cons t q => rw [e1, e2] at h2; simp at h2
  | cons s r => cases e2 : V.drop j with
    | nil => rw [e1, e2] at h2; simp at h2
    | cons t q =>
      rw [e1, e2] at h2
      have : s.1 = t.1 := by simp at h2; exact h2.1
      show nI s.1 = nI t.1; rw [this]
theorem m_ends_loop {d : Nat} (hd : 6 * f + 262 ≤ d) (hf : f ≤ 200) (hT : wTb nt N M res par) (R : ∀ m, wA nt N 40 m → mS nt N M w ba pf rf lf c f m) {ab : Nat} (hab : ab ≤ 8000) {above was had to : Int32} :
    ∀ (k hp : Nat) (H V : List wSl) (lm : Nat → Nat) (lv : Nat → Bool) (x : mj_X) (g : wG) (hr : Int32), k ≤ V.length → to = z_at V k → (x.1 0 34 = 0 → above = nI ab) → z_ch hr K V → (∀ c, c ∈ g_cx g → w_cok nt N c) → Q2 nt N M w ba pf rf lf c hp H K (200 - f) (some hr) V lm lv x g → g_ok (w_ends (wS nt f) ab k g).1 →
      ∃ V' lm' lv' x' v, rX1_ends d (14, [some (.ref 0), some (.int to), some (.int above), some (.int was), some (.int had), some (.int hr)], [], x) = some (some (.int v), mj_wI (mj_wI x' 0 59 was) 0 38 had) ∧ Q2 nt N M w ba pf rf lf c hp H K (200 - f) (some hr) V' lm' lv' x' (w_ends (wS nt f) ab k g).1 ∧ z_skl V' = z_skl V ∧ (∀ l, l < g_nl g → lm' l = lm l ∧ lv' l = lv l) ∧ zfr (zw2 ba pf rf lf) x x' ∧ (¬ x.1 0 34 = 0 → ¬ x'.1 0 34 = 0)
        ∧ (x'.1 0 34 = 0 → v = z_at V (w_ends (wS nt f) ab k g).2) ∧ ∃ j, j ≤ V.length ∧ v = z_at V j := by
  intro k
  induction k with
  | zero =>
    intro hp H V lm lv x g hr hk hto hab' hch hC h hok
    rw [bX1_ends_14, if_pos (by rw [hto]; exact hch.at0)]
    exact ⟨V, lm, lv, x, hr, rfl, h, rfl, fun _ _ => ⟨rfl, rfl⟩, zfr.rf _ x, fun q => q, fun _ => hch.at0, 0, Nat.zero_le _, hch.at0⟩
  | succ k ih =>
    intro hp H V lm lv x g hr hk hto hab' hch hC h hok
    cases V with
    | nil => simp at hk
    | cons s r =>
      have hlt := h.lt (s := s) (by simp)
      have h4 : s.1 < 4000 := by omega
      obtain ⟨hr1, -, hchr⟩ := hch
      subst hr1
      rw [z_at_s] at hto
      have hkr : k ≤ r.length := by simpa using hk
      rw [bX1_ends_14, if_neg (by rw [hto]; exact z_at_ne hchr h4)]
      -- it stops here
      have stop : (x.1 0 35 = 0 ∨ ¬ x.1 0 34 = 0) → ∃ V' lm' lv' x' v, (some (some (Value.int (nI s.1)), mj_wI (mj_wI x 0 59 was) 0 38 had) : mj_R) = some (some (.int v), mj_wI (mj_wI x' 0 59 was) 0 38 had) ∧ Q2 nt N M w ba pf rf lf c hp H K (200 - f) (some (nI s.1)) V' lm' lv' x' (w_ends (wS nt f) ab (k + 1) g).1 ∧ z_skl V' = z_skl (s :: r) ∧ (∀ l, l < g_nl g → lm' l = lm l ∧ lv' l = lv l) ∧ zfr (zw2 ba pf rf lf) x x' ∧ (¬ x.1 0 34 = 0 → ¬ x'.1 0 34 = 0)
          ∧ (x'.1 0 34 = 0 → v = z_at (s :: r) (w_ends (wS nt f) ab (k + 1) g).2) ∧ ∃ j, j ≤ (s :: r).length ∧ v = z_at (s :: r) j := by
        intro hst
        by_cases h0 : x.1 0 34 = 0
        · have h35 := hst.resolve_right (fun q => q h0)
          have hq := (h.ex h0).1.dead h35 h0
          rw [w_ends_q hq]
          exact ⟨s :: r, lm, lv, x, nI s.1, rfl, h, rfl, fun _ _ => ⟨rfl, rfl⟩, zfr.rf _ x, fun q => q, fun _ => rfl, 0, Nat.zero_le _, rfl⟩
        · obtain ⟨V', lm', q, v, l⟩ := h.skip h0 (wM_ends (wS_mono nt f) ab (k + 1) g)
          exact ⟨V', lm', lv, x, nI s.1, rfl, q, v, fun k hk => ⟨l k hk, rfl⟩, zfr.rf _ x, fun q => q, fun q => absurd q h0, 0, Nat.zero_le _, rfl⟩
      by_cases h35 : x.1 0 35 = 0
      · rw [if_pos h35]; exact stop (Or.inl h35)
      rw [if_neg h35]
      by_cases h34' : ¬ x.1 0 34 = 0
      · rw [if_neg h34']; exact stop (Or.inr h34')
      have h34 : x.1 0 34 = 0 := Decidable.not_not.mp h34'
      rw [if_pos h34]
      have hq := (h.ex h34).1.live h35 h34
      have hcx : g_cx g = s.2.2 :: r.map (fun s => s.2.2) := h.2.2.1.1.symm
      rw [w_ends_s hq hcx] at hok ⊢
      obtain ⟨k1, k2, k3, -⟩ := h.sk (s := s) (by simp)
      have hC1 : w_cok nt N s.2.2 := hC _ (by rw [hcx]; simp)
      have hCr : ∀ c, c ∈ r.map (fun s => s.2.2) → w_cok nt N c := fun c hc => hC c (by rw [hcx]; exact List.mem_cons_of_mem _ hc)
      have tl : (g_cx g).tail = r.map (fun s => s.2.2) := by rw [hcx]; rfl
      rw [nI_nd h4, nI_cl h4, k1]
      -- from 51 on, once the piece is cut
      have from51 : ∀ (c1 : wC) (x1 : mj_X), wCs c1 = wCs s.2.2 → (if 2 ≤ s.2.2.1 then w_pc (g_it g).length s.2.2 else s.2.2) = c1 → zfr (zw2 ba pf rf lf) x x1 → (x1.1 0 34 = 0 → above = nI ab) → Q2 nt N M w ba pf rf lf c hp H K (200 - f) (some (nI s.1)) ((s.1, s.2.1, c1) :: r) lm lv x1 (s_cx (c1 :: r.map (fun s => s.2.2)) g) →
          ∃ V' lm' lv' x' v, rX1_ends d (51, [some (.ref 0), some (.int to), some (.int above), some (.int was), some (.int had), some (.int (nI s.1))], [], x1) = some (some (.int v), mj_wI (mj_wI x' 0 59 was) 0 38 had) ∧ Q2 nt N M w ba pf rf lf c hp H K (200 - f) (some (nI s.1)) V' lm' lv' x' (s_cx (c1 :: g_cx (w_ends (wS nt f) ab k (if 3 ≤ s.2.2.1 then w_fin (wS nt f) ab s.2.2 (s_cx (r.map (fun s => s.2.2)) g) else s_cx (r.map (fun s => s.2.2)) g)).1) (w_ends (wS nt f) ab k (if 3 ≤ s.2.2.1 then w_fin (wS nt f) ab s.2.2 (s_cx (r.map (fun s => s.2.2)) g) else s_cx (r.map (fun s => s.2.2)) g)).1)
            ∧ z_skl V' = z_skl (s :: r) ∧ (∀ l, l < g_nl g → lm' l = lm l ∧ lv' l = lv l) ∧ zfr (zw2 ba pf rf lf) x x' ∧ (¬ x1.1 0 34 = 0 → ¬ x'.1 0 34 = 0)
            ∧ (x'.1 0 34 = 0 → v = z_at (s :: r) ((w_ends (wS nt f) ab k (if 3 ≤ s.2.2.1 then w_fin (wS nt f) ab s.2.2 (s_cx (r.map (fun s => s.2.2)) g) else s_cx (r.map (fun s => s.2.2)) g)).2 + 1)) ∧ ∃ j, j ≤ (s :: r).length ∧ v = z_at (s :: r) j := by
        intro c1 x1 hw hc1 f1 hab1 q1
        have w1 : c1.1 = s.2.2.1 := by have := congrArg Prod.fst hw; exact this
        have w5 : c1.2.2.2.2.1 = s.2.2.2.2.2.2.1 := by have := congrArg (fun q => q.2.2.2.2) hw; exact this
        obtain ⟨j1, j2, j3, -⟩ := q1.sk (s := (s.1, s.2.1, c1)) (by simp)
        have j1 : x1.1 61 s.1 = nI s.2.2.1 := by rw [← w1]; exact j1
        have j2 : x1.1 62 s.1 = s.2.1 := j2
        have qh := q1.hide
        have qh : Q2 nt N M w ba pf rf lf c (hp + (c_ps c1).length) ((s.1, s.2.1, c1) :: H) K (200 - f) (some s.2.1) r lm lv x1 (s_cx (r.map (fun s => s.2.2)) g) := qh
        rw [bX1_ends_51, nI_nd h4, nI_cl h4, j1]
        by_cases q3 : 3 ≤ s.2.2.1
        · rw [if_neg (show ¬ nI s.2.2.1 < (3 : Int32) from nI_nlt (b := 3) q3 (by omega)), nI_nd h4, nI_nd h4, sX1_max (by omega), mj_rI_k, j2]
          simp only [if_pos q3] at hok ⊢
          have q2 := qh.o2
          have hx66 : x1.1 0 34 = 0 → x1.1 66 s.1 = nI s.2.2.2.2.2.2.1 ∧ s.2.2.2.2.2.2.1 ≤ 8000 := fun z => by
            have := (q1.ex z).2.2.2.2.1 (s.1, s.2.1, c1) (by simp)
            have t1 := this.2.2.1
            have t2 := this.2.2.2.1
            rw [← w5]; exact ⟨t1, t2⟩
          have q3' : Q2 nt N M w ba pf rf lf c (hp + (c_ps c1).length) ((s.1, s.2.1, c1) :: H) K (200 - f) none r lm lv (mj_wI (mj_wI x1 0 59 s.2.1) 0 38 (mj_max (x1.1 66 s.1) above)) (s_nx (max s.2.2.2.2.2.2.1 ab) (s_L ((g_L g).take (max s.2.2.2.2.2.2.1 ab)) (s_cx (r.map (fun s => s.2.2)) g))) := by
            have q2' : Q2 nt N M w ba pf rf lf c (hp + (c_ps c1).length) ((s.1, s.2.1, c1) :: H) K (200 - f) none r lm lv (mj_wI x1 0 59 s.2.1) (s_L ((g_L g).take (max s.2.2.2.2.2.2.1 ab)) (s_cx (r.map (fun s => s.2.2)) g)) := q2
            refine q2'.nx (fun z => ?_)
            have z : x1.1 0 34 = 0 := z
            obtain ⟨t1, t2⟩ := hx66 z
            rw [t1, hab1 z, nI_max (by omega) (by omega)]
            exact ⟨rfl, by omega⟩
          have hfin : w_fin (wS nt f) ab s.2.2 (s_cx (r.map (fun s => s.2.2)) g) = w_end (wS nt f) c1 (s_nx (max s.2.2.2.2.2.2.1 ab) (s_L ((g_L g).take (max s.2.2.2.2.2.2.1 ab)) (s_cx (r.map (fun s => s.2.2)) g))) := by
            have w2 : c1.2.1 = s.2.2.2.1 := by have := congrArg (fun q => q.2.1) hw; exact this
            show w_end (wS nt f) s.2.2 _ = w_end (wS nt f) c1 _
            unfold w_end; rw [w1, w2]
            rfl
          have mE := wM_ends (wS_mono nt f) ab k (w_fin (wS nt f) ab s.2.2 (s_cx (r.map (fun s => s.2.2)) g))
          have okE : g_ok (w_fin (wS nt f) ab s.2.2 (s_cx (r.map (fun s => s.2.2)) g)) := mE.1 hok
          have mF : wM (s_cx (r.map (fun s => s.2.2)) g) (w_fin (wS nt f) ab s.2.2 (s_cx (r.map (fun s => s.2.2)) g)) := (wM.rf _).fin (wS_mono nt f) ab _
          rw [hfin] at okE
          have je := m_end (d := d) (s := (s.1, s.2.1, c1)) (by omega) hf (by simp) (by rw [w1]; exact q3) (by unfold w_cok at *; rw [w1, show c1.2.1 = s.2.2.2.1 from congrArg (fun q => q.2.1) hw]; exact hC1) hT R hCr q3' okE
          rw [← hfin] at je
          obtain ⟨V2, lm2, lv2, x2, e2, qq2, v2, l2, f2, m2⟩ := je
          rw [e2, mj_rV_k, nI_nd h4]
          have j2' : x2.1 62 s.1 = s.2.1 := (qq2.sk (s := (s.1, s.2.1, c1)) (by simp)).2.1
          rw [j2']
          have chV2 : z_ch s.2.1 s.1 V2 := hchr.skl v2
          have lenV2 : V2.length = r.length := by have := congrArg List.length v2; simpa [z_skl] using this
          obtain ⟨V3, lm3, lv3, x3, v, e3, qq3, v3, l3, f3, m3, hv, hj⟩ := ih (hp + (c_ps c1).length) ((s.1, s.2.1, c1) :: H) V2 lm2 lv2 x2 _ s.2.1 (by rw [lenV2]; exact hkr) (by rw [hto]; exact (z_at_skl v2 k).symm) (fun z => hab1 (Decidable.byContradiction fun p => m2 p z)) (chV2.le (by omega)) (w_cok.wK mF.2.2.2.2.2.1 hCr) (qq2.oo (chV2.le (by omega))) hok
          have chV3 : z_ch s.2.1 s.1 V3 := chV2.skl v3
          refine ⟨(s.1, s.2.1, c1) :: V3, lm3, lv3, x3, v, e3, qq3.seen (s := (s.1, s.2.1, c1)) chV3, ?_, fun l hl => ?_, ((f1.tr (((zfr.rf _ x1).w _ rfl).w _ rfl)).tr f2).tr f3, fun z => m3 (m2 z), fun z => ?_, ?_⟩
          · show (s.1, s.2.1) :: z_skl V3 = (s.1, s.2.1) :: z_skl r; rw [v3, v2]
          · have hl2 := l2 l hl
            have hl3 := l3 l (Nat.lt_of_lt_of_le hl mF.2.2.2.2.2.2.1)
            exact ⟨hl3.1.trans hl2.1, hl3.2.trans hl2.2⟩
          · rw [hv z, z_at_skl v2, z_at_s]
          · obtain ⟨j, j1, j2⟩ := hj
            exact z_at_le ⟨j, by rw [← lenV2]; exact j1, by rw [j2]; exact z_at_skl v2 j⟩
        · rw [if_pos (show nI s.2.2.1 < (3 : Int32) from nI_lt (b := 3) (by omega) (by omega)), nI_nd h4, j2]
          simp only [if_neg q3] at hok ⊢
          obtain ⟨V3, lm3, lv3, x3, v, e3, qq3, v3, l3, f3, m3, hv, hj⟩ := ih (hp + (c_ps c1).length) ((s.1, s.2.1, c1) :: H) r lm lv x1 _ s.2.1 hkr hto hab1 (hchr.le (by omega)) hCr qh hok
          have chV3 : z_ch s.2.1 s.1 V3 := hchr.skl v3
          refine ⟨(s.1, s.2.1, c1) :: V3, lm3, lv3, x3, v, e3, qq3.seen (s := (s.1, s.2.1, c1)) chV3, ?_, l3, f1.tr f3, m3, fun z => ?_, z_at_le hj⟩
          · show (s.1, s.2.1) :: z_skl V3 = (s.1, s.2.1) :: z_skl r; rw [v3]
          · rw [hv z, z_at_s]
      by_cases q2 : 2 ≤ s.2.2.1
      · rw [if_neg (show ¬ nI s.2.2.1 < (2 : Int32) from nI_nlt (b := 2) q2 (by omega))]
        obtain ⟨x1, e1, p1, p2, p3⟩ := m_piece (d := d) (by omega) q2 h
        rw [e1, mj_rV_k]
        rw [tl] at p1
        simp only [if_pos q2] at hok ⊢
        obtain ⟨V', lm', lv', x', v, r1, r2, r3, r4, r5, r6, r7, r8⟩ := from51 (w_pc (g_it g).length s.2.2) x1 rfl (if_pos q2) (zpc_zw2 p2) (fun _ => hab' h34) p1
        exact ⟨V', lm', lv', x', v, r1, r2, r3, r4, r5, fun z => absurd h34 z, r7, r8⟩
      · rw [if_pos (show nI s.2.2.1 < (2 : Int32) from nI_lt (b := 2) (by omega) (by omega))]
        simp only [if_neg q2] at hok ⊢
        have hself : s_cx (s.2.2 :: r.map (fun s => s.2.2)) g = g := by rw [← hcx]; rfl
        obtain ⟨V', lm', lv', x', v, r1, r2, r3, r4, r5, r6, r7, r8⟩ := from51 s.2.2 x rfl (if_neg q2) (zfr.rf _ x) hab' (by rw [hself]; exact h)
        exact ⟨V', lm', lv', x', v, r1, r2, r3, r4, r5, fun z => absurd h34 z, r7, r8⟩
end
