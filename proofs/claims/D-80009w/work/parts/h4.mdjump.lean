/-! jumps of CodeWriterModel -/
section
variable {nt : sp_NT} {N M : Nat} {w : Bool} {ba pf rf lf c : Nat} {lm : Nat → Nat} {lv : Nat → Bool} {x : mj_X} {g : wG}
theorem Z1.pk {B B' : List Int32} {F F' : List (Nat × Nat × Nat × Bool)} {G : wG} (h : Z1 nt N M w ba pf rf lf c lm lv B F x g G) (hq : w_q g = false) : (z_env nt N M ba pf lf (g_pl G) x ∧ (∀ l, l < g_nl G → lm l < 300000)) ∧ ((g_al G = true ∧ g_ov G = false ∧ z1 w ba pf lf c lm lv B F (g_it g) x G) ∨ (m1 ba lf c x ∧ w_over w rf lf G)) := by
  obtain ⟨h1, h2, h3⟩ := h
  refine ⟨⟨h1, h2⟩, ?_⟩
  rcases h3 with ⟨_, h3⟩ | h3 | ⟨h3, _⟩
  · exact Or.inl h3
  · exact Or.inr h3
  · rw [w_q_iff] at hq; rw [hq.1] at h3; simp at h3
/-- a jump is kept -/
theorem m_fix {d : Nat} (hd : 3 ≤ d) {B : List Int32} {F : List (Nat × Nat × Nat × Bool)} {G : wG} {p l : Nat} {from_ : Int32} (b : Bool) (h : Z1 nt N M w ba pf rf lf c lm lv B F x g G) (hq : w_q g = false) (hl : l < g_nl G) (hF : B.length ≤ 65535 → F.length + 1 ≤ 25000)
    (hp : x.1 0 34 = 0 → from_ = nI p) (hB : B.length + (bif b then 4 else 2) ≤ (w_by_ w w_z (g_it G)).length) :
    ∃ x', kX1 d 48 [.ref 0, .int from_, .int (nI (lm l)), .int (sp_b b)] x = some (none, x') ∧ zfr (zw ba pf lf) x x' ∧ Z1 nt N M w ba pf rf lf c lm lv (B ++ (bif b then o32 0 else o16 0)) ((B.length, p, l, b) :: F) x' g G := by
  obtain ⟨d, rfl⟩ : ∃ c, d = c + 1 := ⟨d - 1, by omega⟩
  obtain ⟨⟨he, hlm⟩, h⟩ := Z1.pk (B' := B) (F' := F) h hq
  rw [eX1_fix]
  have key : ∃ n y, x.1 0 55 = nI n ∧ n ≤ 30000 ∧ (n = 30000 → m1 ba lf c (mj_wI x 0 34 1) ∧ w_over w rf lf G) ∧ (n < 30000 → y = mj_wI (mj_wI (mj_wI (mj_wI (mj_wI x 52 n (x.1 0 32)) 53 n from_) 54 n (nI (lm l))) 55 n (sp_b b)) 0 55 (nI (n + 1)) ∧ Z1 nt N M w ba pf rf lf c lm lv B ((B.length, p, l, b) :: F) y g G ∧ zfr (zw ba pf lf) x y) := by
    rcases h with ⟨h0, ho, h⟩ | ⟨h, ho⟩
    · obtain ⟨h1, h2, ⟨f1, f2, f3, f4⟩, h4⟩ := h
      have hF := hF h2.2.2.2.1
      refine ⟨F.length, _, f1, by omega, fun q => by omega, fun _ => ⟨rfl, ?_, ?_⟩⟩
      · have f := (((((zfr.rf (zw ba pf lf) x).w (k := 52) (j := F.length) (x.1 0 32) rfl).w (k := 53) (j := F.length) from_ rfl).w (k := 54) (j := F.length) (nI (lm l)) rfl).w (k := 55) (j := F.length) (sp_b b) rfl).w (k := 0) (j := 55) (nI (F.length + 1)) rfl
        refine ⟨he.fr f, hlm, Or.inl ⟨hq, h0, ho, h1, h2, ⟨rfl, by simp only [List.length_cons]; omega, fun q hq => ?_, ⟨?_, ?_, ?_, ?_⟩, ?_⟩, h4⟩⟩
        · rcases List.mem_cons.mp hq with rfl | hq
          · exact hl
          · exact f3 q hq
        · show upd (x.1 52) F.length (x.1 0 32) F.length = _
          rw [pk_us, h2.2.2.1]
        · show upd (x.1 53) F.length from_ F.length = _
          rw [pk_us, hp h1]
        · show upd (x.1 54) F.length _ F.length = _
          rw [pk_us]
        · show upd (x.1 55) F.length _ F.length = _
          rw [pk_us]
        · refine f4.mono (fun k q hk _ hh => ?_)
          show upd (x.1 52) F.length _ k = _ ∧ upd (x.1 53) F.length _ k = _ ∧ upd (x.1 54) F.length _ k = _ ∧ upd (x.1 55) F.length _ k = _
          rw [pk_un (by omega), pk_un (by omega), pk_un (by omega), pk_un (by omega)]; exact hh
      · exact (((((zfr.rf (zw ba pf lf) x).w _ rfl).w _ rfl).w _ rfl).w _ rfl).w _ rfl
    · obtain ⟨a1, a2, a3, a4, a5, ⟨n, n1, n2⟩, a7⟩ := h
      refine ⟨n, _, n2, n1, fun _ => ⟨⟨rfl, a2, a3, a4, a5, ⟨n, n1, n2⟩, a7⟩, ho⟩, fun hn => ⟨rfl, ?_, ?_⟩⟩
      · have f := (((((zfr.rf (zw ba pf lf) x).w (k := 52) (j := n) (x.1 0 32) rfl).w (k := 53) (j := n) from_ rfl).w (k := 54) (j := n) (nI (lm l)) rfl).w (k := 55) (j := n) (sp_b b) rfl).w (k := 0) (j := 55) (nI (n + 1)) rfl
        exact ⟨he.fr f, hlm, Or.inr (Or.inl ⟨⟨a1, a2, a3, a4, a5, ⟨n + 1, by omega, rfl⟩, a7⟩, ho⟩)⟩
      · exact (((((zfr.rf (zw ba pf lf) x).w _ rfl).w _ rfl).w _ rfl).w _ rfl).w _ rfl
  obtain ⟨n, y, n1, n2, n3, n4⟩ := key
  rw [n1]
  by_cases q : n = 30000
  · rw [if_pos (by rw [q]; rfl)]
    have f := (zfr.rf (zw ba pf lf) x).w (k := 0) (j := 34) 1 rfl
    exact ⟨_, rfl, f, he.fr f, hlm, Or.inr (Or.inl (n3 q))⟩
  · rw [if_neg (show ¬ nI n = (30000 : Int32) from fun e => q ((nI_eq (b := 30000) (by omega) (by omega)).mp e)), mj_g_k (mj_in_nI (by omega) (by omega)), mj_g_k (mj_in_nI (by omega) (by omega)), mj_g_k (mj_in_nI (by omega) (by omega)), mj_gb_b, mj_g_k (mj_in_nI (by omega) (by omega)), nI_clamp (by omega), nI_1]
    obtain ⟨y1, y2, y3⟩ := n4 (by omega)
    rw [← y1]
    cases b
    · rw [if_pos (by decide)]
      obtain ⟨x', e, f, r⟩ := m_op2 (d := d) (by omega) 0 y2 (fun _ => by simp only [cond_false] at hB; omega)
      exact ⟨x', by rw [e, mj_rV_k], y3.tr f, r⟩
    · rw [if_neg (by decide)]
      obtain ⟨x', e, f, r⟩ := m_op4 (d := d) (by omega) 0 y2 (fun _ => by simp only [cond_true] at hB; omega)
      exact ⟨x', by rw [e, mj_rV_k], y3.tr f, r⟩
theorem Q1.al0 (h : Q1 nt N M w ba pf rf lf c lm lv x g) : Q1 nt N M w ba pf rf lf c lm lv (mj_wI x 0 35 0) (s_al false g) := by
  obtain ⟨he, hlm, h⟩ := h
  refine ⟨he.fr ((zfr.rf _ x).w _ rfl), hlm, ?_⟩
  rcases h with ⟨ho, h1, h2, h3, h4, h5, h6, ⟨s1, s2, s3, s4⟩⟩ | ⟨⟨a1, a2, a3, a4, a5, a6⟩, ho⟩
  · exact Or.inl ⟨ho, h1, h2, h3, h4, h5, h6, ⟨rfl, fun q => Bool.noConfusion q, s3, s4⟩⟩
  · exact Or.inr ⟨⟨a1, a2, a3, a4, ⟨false, rfl⟩, a6⟩, ho⟩
theorem Q1.much (h : Q1 nt N M w ba pf rf lf c lm lv x g) {G : wG} (hm : wM g G) (hpl : g_pl G = g_pl g) (hnl : ∀ l, l < g_nl G → lm l < 300000) (h1 : ¬ x.1 0 34 = 0) : Q1 nt N M w ba pf rf lf c lm lv x G := by
  obtain ⟨he, hlm, h⟩ := h
  rcases h with ⟨ho, h⟩ | ⟨h, ho⟩
  · exact absurd h.1 h1
  · exact ⟨by rw [hpl]; exact he, hnl, Or.inr ⟨h, ho.mono hm⟩⟩
/-- what a guarded method does when it does nothing -/
theorem J1.skip {G : wG} (h : Q1 nt N M w ba pf rf lf c lm lv x g) (hq : w_q g = true → G = g) (hm : wM g G) (hpl : g_pl G = g_pl g) (hnl : g_nl G = g_nl g) (h0 : x.1 0 35 = 0 ∨ ¬ x.1 0 34 = 0) : J1 nt N M w ba pf rf lf c (some (none, x)) x lm lv g G := by
  refine ⟨lm, lv, x, rfl, ?_, fun _ _ => ⟨rfl, rfl⟩, zfr.rf _ x⟩
  by_cases h1 : x.1 0 34 = 0
  · have h0 := h0.resolve_right (fun q => q h1)
    have hh := h
    obtain ⟨he, hlm, h⟩ := h
    rcases h with ⟨ho, h⟩ | ⟨h, ho⟩
    · have : w_q g = true := by
        have s := h.2.2.2.2.2.2.1
        rw [h0] at s
        unfold w_q
        cases ha : g_al g
        · rfl
        · rw [ha] at s; exact absurd s (by decide)
      rw [hq this]; exact hh
    · exact absurd h1 (by rw [h.1]; decide)
  · exact h.much hm hpl (by rw [hnl]; exact h.2.1) h1
theorem m_go {d : Nat} (hd : 4 ≤ d) {l : Nat} (h : Q1 nt N M w ba pf rf lf c lm lv x g) (hok : g_ok (w_go l g)) (hl : l < g_nl g) (hv : lv l = true) : J1 nt N M w ba pf rf lf c (kX1 d 47 [.ref 0, .int (nI (lm l))] x) x lm lv g (w_go l g) := by
  have hm : wM g (w_go l g) := (wM.rf g).go l
  have hX := wX_go (n := g_nl g) (l := l) (tg := [l]) (g := g) (Or.inr (by simp))
  have hpl : g_pl (w_go l g) = g_pl g := hX.1.2.2.2.2.2.2
  have hnl : g_nl (w_go l g) = g_nl g := by
    cases hq : w_q g
    · exact (w_go_f hq).2.2.2.2.2
    · rw [w_go_q hq]
  obtain ⟨d, rfl⟩ : ∃ c, d = c + 1 := ⟨d - 1, by omega⟩
  rw [eX1_jump]
  by_cases h0 : x.1 0 35 = 0
  · rw [if_pos h0]; exact J1.skip h (fun q => w_go_q q) hm hpl hnl (Or.inl h0)
  rw [if_neg h0]
  by_cases h1' : ¬ x.1 0 34 = 0
  · rw [if_neg h1']; exact J1.skip h (fun q => w_go_q q) hm hpl hnl (Or.inr h1')
  have h1 : x.1 0 34 = 0 := Decidable.not_not.mp h1'
  rw [if_pos h1]
  have hh := h
  obtain ⟨he, hlm, h2⟩ := h
  obtain ⟨ho, h2⟩ := h2.resolve_right (fun q => absurd h1 (by rw [q.1.1]; decide))
  have ha : g_al g = true := by
    have s := h2.2.2.2.2.2.2.1
    cases ha : g_al g
    · rw [ha] at s; exact absurd s h0
    · rfl
  have hq : w_q g = false := (w_q_iff g).mpr ⟨ha, ho⟩
  have e : w_go l g = s_al false (w_come l (s_ok (0 ≤ (g_st g).length) (w_es (20, 0, 0, 0, [(0, l)]) (g_L g, [] ++ (g_st g).drop 0) g))) := by unfold w_go w_em; rw [hq]; rfl
  rw [e] at hok ⊢
  have hok1 : g_ok (w_es (20, 0, 0, 0, [(0, l)]) (g_L g, [] ++ (g_st g).drop 0) g) := hok.1.1
  obtain ⟨k1, k2, k3, k4, k5, k6, k7, k8, k9, k10, k11, k12, k13⟩ := w_es_f (i := (20, 0, 0, 0, [(0, l)])) (F := (g_L g, [] ++ (g_st g).drop 0)) hq
  have h33 : x.1 0 33 = sp_b w := h2.2.1.2.1
  have h32 : x.1 0 32 = nI (w_by_ w w_z (g_it g)).length := h2.2.1.2.2.1
  have hF := w_fxs_len w w_z (g_it g)
  have hB := h2.2.1.2.2.2.1
  have main : ∀ cc : Int32, (∀ p, w_enc w w_z p (20, 0, 0, 0, [(0, l)]) = o8 cc :: (bif w then o32 0 else o16 0)) → J1 nt N M w ba pf rf lf c (rX1_jump d (37, [some (.ref 0), some (.int (nI (lm l))), some (.int (x.1 0 32))], [.int cc, .ref 0], x)) x lm lv g (s_al false (w_come l (s_ok (0 ≤ (g_st g).length) (w_es (20, 0, 0, 0, [(0, l)]) (g_L g, [] ++ (g_st g).drop 0) g)))) := by
    intro cc hcc
    rw [bX1_jump_37]
    obtain ⟨x1, e1, f1, r1⟩ := m_code (d := d) (cc := cc) (a2 := 0) (a3 := 0) (by omega) hh hok1 (fun _ => by simp) (by rw [hcc]; simp)
    have hby : w_by_ w w_z (((20, 0, 0, 0, [(0, l)]), (g_L g, g_st g)) :: g_it g) = (w_by_ w w_z (g_it g) ++ [o8 cc]) ++ (bif w then o32 0 else o16 0) := by
      show w_by_ w w_z (g_it g) ++ w_enc w w_z _ _ = _
      rw [hcc, List.append_assoc]; rfl
    have x133 : x1.1 0 33 = sp_b w := by rw [f1.2 0 33 rfl]; exact h33
    obtain ⟨x2, e2, f2, r2⟩ := m_fix (d := d) (p := (w_by_ w w_z (g_it g)).length) (l := l) (from_ := x.1 0 32) (by omega) w r1 hq (by show l < g_nl (w_es _ _ g); rw [show g_nl (w_es (20, 0, 0, 0, [(0, l)]) (g_L g, [] ++ (g_st g).drop 0) g) = g_nl g from congrArg Prod.fst k11]; exact hl) (by omega) (fun _ => h32) (by rw [k1, hby]; cases w <;> simp [o16, o32])
    rw [e1, mj_rV_k, x133, e2, mj_rV_k]
    have q2 : Q1 nt N M w ba pf rf lf c lm lv x2 (w_es (20, 0, 0, 0, [(0, l)]) (g_L g, [] ++ (g_st g).drop 0) g) := by
      refine Z1.fin ?_
      rw [hby]
      have hf : w_fxs w w_z (((20, 0, 0, 0, [(0, l)]), (g_L g, g_st g)) :: g_it g) = ((w_by_ w w_z (g_it g) ++ [o8 cc]).length, (w_by_ w w_z (g_it g)).length, l, w) :: w_fxs w w_z (g_it g) := by
        show ((w_by_ w w_z (g_it g)).length + 1, (w_by_ w w_z (g_it g)).length, l, w) :: w_fxs w w_z (g_it g) = _
        rw [List.length_append]; rfl
      rw [hf]; exact r2
    obtain ⟨lm3, lv3, x3, e3, q3, l3, f3⟩ := m_come (d := d) (by omega) (g := s_ok (0 ≤ (g_st g).length) (w_es (20, 0, 0, 0, [(0, l)]) (g_L g, [] ++ (g_st g).drop 0) g)) q2 (Or.inl (by show g_al (w_es _ _ g) = true; rw [k2]; exact ha)) hok (by show l < g_nl (w_es _ _ g); rw [show g_nl (w_es (20, 0, 0, 0, [(0, l)]) (g_L g, [] ++ (g_st g).drop 0) g) = g_nl g from congrArg Prod.fst k11]; exact hl) hv
    refine ⟨lm3, lv3, _, by rw [e3, mj_rV_k], q3.al0, fun k hk => l3 k (by show k < g_nl (w_es _ _ g); rw [show g_nl (w_es (20, 0, 0, 0, [(0, l)]) (g_L g, [] ++ (g_st g).drop 0) g) = g_nl g from congrArg Prod.fst k11]; exact hk), (((f1.tr f2).tr f3).w _ rfl)⟩
  rw [h33]
  cases w
  · rw [if_pos (by decide)]; exact main 167 (fun p => rfl)
  · rw [if_neg (by decide)]; exact main 200 (fun p => rfl)
end
