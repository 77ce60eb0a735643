/-! statements of CodeWriterModel: ranges, handlers, ways out -/
/-- what a range changes -/
def zrg (rf k j : Nat) : Bool := match k with
  | 0 => [34, 44].elem j
  | 24 => Nat.ble (4 * rf) j
  | _ => false
section
variable {nt : sp_NT} {N M : Nat} {w : Bool} {ba pf rf lf c hp : Nat} {H V : List wSl} {K u : Nat} {o : Option Int32} {lm lm' : Nat → Nat} {lv lv' : Nat → Bool} {x y : mj_X} {g G : wG}
theorem zrg_zw2 (f : zfr (zrg rf) x y) : zfr (zw2 ba pf rf lf) x y := f.mono (fun k j h => by
  unfold zw2 at h
  rw [Bool.or_eq_false_iff] at h
  unfold zrg
  split
  · have h2 := h.1; have h1 := h.2; simp [zw] at h1 h2 ⊢; omega
  · exact h.2
  · rfl)
theorem m_range {d hp2 : Nat} (hd : 1 ≤ d) (hhp : hp ≤ hp2 + 1) {a b e : Nat} {k va vb ve : Int32} (h : Q2 nt N M w ba pf rf lf c hp H K u o V lm lv x g)
    (hx : x.1 0 34 = 0 → (va = nI (w_at w (g_it g) a) ∧ vb = nI (w_at w (g_it g) b) ∧ ve = nI (w_at w (g_it g) e)) ∧ a ≤ (g_it g).length ∧ b ≤ (g_it g).length ∧ e ≤ (g_it g).length) :
    ∃ x', kX1 d 93 [.ref 0, .int va, .int vb, .int ve, .int k] x = some (none, x') ∧ Q2 nt N M w ba pf rf lf c hp2 H K u o V lm lv x' (s_rg ((a, b, e, k) :: g_rg g) g) ∧ zfr (zrg rf) x x' ∧ (¬ x.1 0 34 = 0 → ¬ x'.1 0 34 = 0) := by
  obtain ⟨d, rfl⟩ : ∃ c, d = c + 1 := ⟨d - 1, by omega⟩
  obtain ⟨hlm, he, ⟨s1, s2, s3, s4, s5, s6, s7, s8, s9, ⟨n, n1, n2⟩, s11, s12⟩, hX⟩ := h
  have he' := he
  obtain ⟨-, e7, e40, -⟩ := he'
  have e7 : x.1 0 7 = nI M := e7
  have e40 : M ≤ 40 := e40
  have hph : w_ph (s_rg ((a, b, e, k) :: g_rg g) g) = w_ph g + 1 := by
    show (g_rg g).length + 1 + w_np (g_cx g) = (g_rg g).length + w_np (g_cx g) + 1; omega
  rw [eX1_range, e7, mj_g_k (mj_in_nI (by omega) (by omega)), nI_clamp (by omega), s11, n2, nI_add]
  have str : ∀ y : mj_X, zfr (zrg rf) x y → (∃ n, rf + n ≤ 20000 ∧ y.1 0 44 = nI n) → zS M rf H V K u o y (g_cx g) := by
    intro y f hn
    have e := f.2
    have E : ∀ a, (∀ j, zrg rf a j = false) → y.1 a = x.1 a := fun a ha => funext fun j => e a j (ha j)
    refine ⟨s1, by rw [e 0 58 rfl]; exact s2, s3, s4, by rw [e 0 41 rfl]; exact s5, by rw [e 0 59 rfl]; exact s6, s7, ?_, by rw [e 0 72 rfl]; exact s9, hn, by rw [e 17 M rfl]; exact s11, by rw [E 74 (fun _ => rfl)]; exact s12⟩
    unfold z_sk at *
    rw [E 61 (fun _ => rfl), E 62 (fun _ => rfl), E 68 (fun _ => rfl), E 69 (fun _ => rfl)]; exact s8
  have hzo : ∀ y : mj_X, zfr (zrg rf) x y → y.1 0 34 = x.1 0 34 → zfr zo x y := fun y f h34 => ⟨f.1, fun k j hz => by
    by_cases q : k = 0 ∧ j = 34
    · rw [q.1, q.2]; exact h34
    · refine f.2 k j ?_
      unfold zrg
      split
      · simp [zo] at hz q ⊢; omega
      · simp [zo] at hz
      · rfl⟩
  have env : ∀ y : mj_X, zfr (zrg rf) x y → z_env nt N M ba pf lf (fun _ => none) y := fun y f => he.fr2 (rf := rf) (zrg_zw2 f)
  by_cases q : rf + n = 20000
  · rw [if_neg (by rw [q]; decide)]
    have f : zfr (zrg rf) x (mj_wI x 0 34 1) := (zfr.rf _ x).w _ rfl
    refine ⟨_, rfl, ⟨hlm, env _ f, str _ f ⟨n, n1, n2⟩, Or.inr ⟨by show ¬ (1 : Int32) = 0; decide, ?_⟩⟩, f, fun _ => by show ¬ (1 : Int32) = 0; decide⟩
    rcases hX with ⟨h0, q1, a1, a2, -⟩ | ⟨h0, hm, ho⟩
    · have q2 := q1.2.2.resolve_right (fun p => absurd h0 (by rw [p.1.1]; decide))
      refine ⟨q2.2.much, ?_⟩
      right; right; left
      have hn : n = (g_rg g).length := by
        have := a2.1; rw [n2] at this
        have hh := a2.2.1
        exact (nI_eq (by omega) (by omega)).mp this
      rw [hph]; unfold w_ph; omega
    · refine ⟨?_, ?_⟩
      · obtain ⟨p1, p2⟩ := hm
        exact ⟨rfl, p2⟩
      · exact ho.of rfl rfl rfl (by rw [hph]; omega)
  · rw [if_pos (show nI (rf + n) < (20000 : Int32) from nI_lt (b := 20000) (by omega) (by omega)), mj_g_k (mj_in_nI (by omega) (by omega)), show (4 : Int32) * nI (rf + n) = nI (4 * (rf + n)) from nI_mul 4 _, show nI (4 * (rf + n)) + (1 : Int32) = nI (4 * (rf + n) + 1) from nI_add _ 1, show nI (4 * (rf + n)) + (2 : Int32) = nI (4 * (rf + n) + 2) from nI_add _ 2, show nI (4 * (rf + n)) + (3 : Int32) = nI (4 * (rf + n) + 3) from nI_add _ 3, mj_g_k (mj_in_nI (by omega) (by omega)), mj_g_k (mj_in_nI (by omega) (by omega)), mj_g_k (mj_in_nI (by omega) (by omega)), mj_g_k (mj_in_nI (by omega) (by omega)), nI_clamp (by omega), nI_clamp (by omega), nI_clamp (by omega), nI_clamp (by omega), show nI n + (1 : Int32) = nI (n + 1) from nI_add n 1]
    have b4 : ∀ j, 4 * (rf + n) ≤ j → zrg rf 24 j = true := fun j hj => by show Nat.ble (4 * rf) j = true; exact Nat.ble_eq_true_of_le (by omega)
    have f : zfr (zrg rf) x (mj_wI (mj_wI (mj_wI (mj_wI (mj_wI x 24 (4 * (rf + n)) va) 24 (4 * (rf + n) + 1) vb) 24 (4 * (rf + n) + 2) ve) 24 (4 * (rf + n) + 3) k) 0 44 (nI (n + 1))) := (((((zfr.rf _ x).w _ (b4 _ (by omega))).w _ (b4 _ (by omega))).w _ (b4 _ (by omega))).w _ (b4 _ (by omega))).w _ rfl
    refine ⟨_, rfl, ⟨hlm, env _ f, str _ f ⟨n + 1, by omega, rfl⟩, ?_⟩, f, fun q => q⟩
    have fz := hzo _ f rfl
    rcases hX with ⟨h0, q1, a1, a2, a3, a4, n', ps, b1, b2, b3⟩ | ⟨h0, hm, ho⟩
    · obtain ⟨⟨v1, v2, v3⟩, v4, v5, v6⟩ := hx h0
      have hn : n = (g_rg g).length := by
        have := a2.1; rw [n2] at this
        have hh := a2.2.1
        exact (nI_eq (by omega) (by omega)).mp this
      have q1' := q1.2.2.resolve_right (fun p => absurd h0 (by rw [p.1.1]; decide))
      refine Or.inl ⟨h0, Q1.ext (rf := rf + hp2) (g := g) ⟨q1.1, q1.2.1, Or.inl q1'⟩ fz ⟨rfl, rfl, rfl, rfl, rfl, rfl, rfl, rfl, rfl, rfl⟩ (by rw [hph]; omega), a1, ⟨?_, ?_, ?_, ?_⟩, a3, a4, n', ps, b1, by rw [hph]; omega, b3⟩
      · show nI (n + 1) = nI ((g_rg g).length + 1); rw [hn]
      · show rf + ((g_rg g).length + 1) ≤ 20000; omega
      · intro r hr
        rcases List.mem_cons.mp hr with rfl | hr
        · exact ⟨v4, v5, v6⟩
        · exact a2.2.2.1 r hr
      · have u : ∀ j, (mj_wI (mj_wI (mj_wI (mj_wI (mj_wI x 24 (4 * (rf + n)) va) 24 (4 * (rf + n) + 1) vb) 24 (4 * (rf + n) + 2) ve) 24 (4 * (rf + n) + 3) k) 0 44 (nI (n + 1))).1 24 j = upd (upd (upd (upd (x.1 24) (4 * (rf + n)) va) (4 * (rf + n) + 1) vb) (4 * (rf + n) + 2) ve) (4 * (rf + n) + 3) k j := fun _ => rfl
        refine ⟨?_, a2.2.2.2.mono (fun j r hj _ hr => ?_)⟩
        · have e0 := (u (4 * (rf + n))).trans (by rw [pk_un (by omega), pk_un (by omega), pk_un (by omega), pk_us])
          have e1 := (u (4 * (rf + n) + 1)).trans (by rw [pk_un (by omega), pk_un (by omega), pk_us])
          have e2 := (u (4 * (rf + n) + 2)).trans (by rw [pk_un (by omega), pk_us])
          have e3 := (u (4 * (rf + n) + 3)).trans (by rw [pk_us])
          rw [← hn]
          exact ⟨e0.trans v1, e1.trans v2, e2.trans v3, e3⟩
        · rw [← hn] at hj
          have z : ∀ i, i ≤ 3 → (mj_wI (mj_wI (mj_wI (mj_wI (mj_wI x 24 (4 * (rf + n)) va) 24 (4 * (rf + n) + 1) vb) 24 (4 * (rf + n) + 2) ve) 24 (4 * (rf + n) + 3) k) 0 44 (nI (n + 1))).1 24 (4 * (rf + j) + i) = x.1 24 (4 * (rf + j) + i) := fun i hi => by
            rw [u, pk_un (by omega), pk_un (by omega), pk_un (by omega), pk_un (by omega)]
          have z0 := z 0 (by omega)
          rw [Nat.add_zero] at z0
          obtain ⟨r0, r1, r2, r3⟩ := hr
          exact ⟨z0.trans r0, (z 1 (by omega)).trans r1, (z 2 (by omega)).trans r2, (z 3 (by omega)).trans r3⟩
    · exact Or.inr ⟨h0, hm.ofzo fz, ho.of rfl rfl rfl (by rw [hph]; omega)⟩
/-- a link of an older piece -/
theorem z_lnk_app {nxt : Nat → Int32} : ∀ (l1 : List Nat) {p : Nat} {l2 : List Nat} {v : Int32}, z_lnk nxt v (l1 ++ p :: l2) → nxt p = (match l1.getLast? with | none => v | some q => nI q) := by
  intro l1
  induction l1 with
  | nil => intro p l2 v h; exact h.1
  | cons a r ih =>
    intro p l2 v h
    have := ih h.2
    rw [this]
    cases r with
    | nil => rfl
    | cons b s =>
      rw [List.getLast?_cons_cons]
      cases hh : (b :: s).getLast? with
      | none => simp at hh
      | some t => rfl
theorem z_fst_last : ∀ (ps : List Nat), z_fst ps = match ps.getLast? with | none => -1 | some q => nI q := by
  intro ps
  induction ps with
  | nil => rfl
  | cons a r ih => rw [z_fst_cons]; cases r with
    | nil => rfl
    | cons b s => rw [List.getLast?_cons_cons]; exact ih
theorem z_pcs_app {its : List (wI × wF)} {a70 a71 : Nat → Int32} : ∀ (l1 : List Nat) (q1 : List (Nat × Nat)) {p : Nat} {q : Nat × Nat} {l2 : List Nat} {q2 : List (Nat × Nat)}, l1.length = q1.length → z_pcs w its a70 a71 (l1 ++ p :: l2) (q1 ++ q :: q2) → (a70 p = nI (w_at w its q.1) ∧ a71 p = nI (w_at w its q.2) ∧ q.1 ≤ its.length ∧ q.2 ≤ its.length) := by
  intro l1
  induction l1 with
  | nil => intro q1 p q l2 q2 hl h; cases q1 with
    | nil => exact h.1
    | cons _ _ => simp at hl
  | cons a r ih => intro q1 p q l2 q2 hl h; cases q1 with
    | nil => simp at hl
    | cons b s => exact ih s (by simpa using hl) h.2
theorem z_pcs.len {its : List (wI × wF)} {a70 a71 : Nat → Int32} : ∀ {ps : List Nat} {qs : List (Nat × Nat)}, z_pcs w its a70 a71 ps qs → ps.length = qs.length := by
  intro ps
  induction ps with
  | nil => intro qs h; cases qs with
    | nil => rfl
    | cons _ _ => exact h.elim
  | cons p r ih => intro qs h; cases qs with
    | nil => exact h.elim
    | cons q s => simp only [List.length_cons]; rw [ih h.2]
theorem Q1.hd (L : List Nat) (h : Q1 nt N M w ba pf rf lf c lm lv x g) : Q1 nt N M w ba pf rf lf c lm lv (mj_wI (mj_wI (mj_wI x 0 35 1) 0 36 1) 0 37 (mj_max (x.1 0 37) 1)) (s_ms 1 (s_al true (s_fr (L, [10]) g))) := by
  obtain ⟨he, hlm, h⟩ := h
  refine ⟨he.fr ((((zfr.rf _ x).w _ rfl).w _ rfl).w _ rfl), hlm, ?_⟩
  rcases h with ⟨ho, h1, h2, h3, h4, h5, h6, ⟨s1, s2, s3, s4⟩⟩ | ⟨⟨a1, a2, a3, a4, a5, a6⟩, ho⟩
  · refine Or.inl ⟨ho, h1, h2, h3, h4, h5, h6, ⟨rfl, fun _ => rfl, ?_, ?_⟩⟩
    · show mj_max (x.1 0 37) 1 = nI (max (g_ms g) 1)
      rw [s3]; exact nI_max (b := 1) (by omega) (by omega)
    · show max (g_ms g) 1 < 3370; omega
  · exact Or.inr ⟨⟨a1, a2, a3, a4, ⟨true, rfl⟩, a6⟩, ho⟩
/-- what a handler changes -/
def zhd (rf k j : Nat) : Bool := match k with
  | 0 => [34, 35, 36, 37, 44].elem j
  | 24 => Nat.ble (4 * rf) j
  | _ => false
theorem zrg_zhd (f : zfr (zrg rf) x y) : zfr (zhd rf) x y := f.mono (fun k j h => by
  unfold zrg
  split
  · simp [zhd] at h ⊢; omega
  · exact h
  · rfl)
theorem zhd_zw2 (f : zfr (zhd rf) x y) : zfr (zw2 ba pf rf lf) x y := f.mono (fun k j h => by
  unfold zw2 at h
  rw [Bool.or_eq_false_iff] at h
  unfold zhd
  split
  · have h2 := h.1; have h1 := h.2; simp [zw] at h1 h2 ⊢; omega
  · exact h.2
  · rfl)
/-- a handler of a hidden context's pieces begins -/
theorem m_handler {d hp2 : Nat} (hd : 2 ≤ d) {s : wSl} {L : List Nat} {k : Int32} (hs : s ∈ H ++ V) (h0 : x.1 0 34 = 0) (h : Q2 nt N M w ba pf rf lf c hp H K u none V lm lv x g) (hhp : hp ≤ hp2 + (c_ps s.2.2).length) :
    ∃ x', kX1 d 92 [.ref 0, .int (nI s.1), .int k] x = some (none, x') ∧ Q2 nt N M w ba pf rf lf c hp2 H K u none V lm lv x' (w_hd L (c_ps s.2.2) k g) ∧ zfr (zhd rf) x x' := by
  obtain ⟨d, rfl⟩ : ∃ c, d = c + 1 := ⟨d - 1, by omega⟩
  have hlt := h.lt hs
  have h4 : s.1 < 4000 := by omega
  obtain ⟨-, -, -, -, -, n, ps, b1, b2, b3, b4⟩ := h.ex h0
  obtain ⟨⟨c1, c2, c3, c4, c5, c6, c7⟩, c8⟩ := b3 s hs
  have hlen := c6.len
  have q1 := (h.ex h0).1.2.2.resolve_right (fun p => absurd h0 (by rw [p.1.1]; decide))
  have h32 : x.1 0 32 = nI (w_by_ w w_z (g_it g)).length := q1.2.2.1.2.2.1
  rw [eX1_handler, nI_nd h4, nI_cl h4, c3]
  have loop : ∀ (m : Nat) (l1 l2 : List Nat) (r1 r2 : List (Nat × Nat)) (hpj : Nat) (y : mj_X), l1.length = m → l1.length = r1.length → ps s.1 = l1 ++ l2 → c_ps s.2.2 = r1 ++ r2 → hpj ≤ hp2 + r1.length → zfr (zrg rf) x y →
      Q2 nt N M w ba pf rf lf c hpj H K u none V lm lv y (s_rg (w_reg (g_it g).length k r2 (g_rg g)) g) →
      ∃ x', rX1_handler d (7, [some (.ref 0), some (.int (nI s.1)), some (.int k), some (.int (match l1.getLast? with | none => -1 | some q => nI q))], [], y) = some (none, x') ∧ Q2 nt N M w ba pf rf lf c hp2 H K u none V lm lv x' (s_ms 1 (s_al true (s_fr (L, [10]) (s_rg (w_reg (g_it g).length k (c_ps s.2.2) (g_rg g)) g)))) ∧ zfr (zhd rf) x x' := by
    intro m
    induction m with
    | zero =>
      intro l1 l2 r1 r2 hpj y hl hl2 hp hr hh f q
      have e1 : l1 = [] := List.length_eq_zero_iff.mp hl
      subst e1
      have e2 : r1 = [] := List.length_eq_zero_iff.mp (by rw [← hl2]; rfl)
      subst e2
      have hr : c_ps s.2.2 = r2 := hr
      rw [← hr] at q
      have hh : hpj ≤ hp2 := hh
      have q := q.hpm hh
      rw [bX1_handler_7]
      show ∃ x', (if (-1 : Int32) = -1 then _ else _) = _ ∧ _
      rw [if_pos rfl, sX1_max (by omega), mj_rI_k]
      have fh : zfr (zhd rf) x (mj_wI (mj_wI (mj_wI y 0 35 1) 0 36 1) 0 37 (mj_max (y.1 0 37) 1)) := (((zrg_zhd f).w _ rfl).w _ rfl).w _ rfl
      refine ⟨_, rfl, ?_, fh⟩
      obtain ⟨hlm, he, hS, hX⟩ := q
      have fw : zfr (zw ba pf lf) y (mj_wI (mj_wI (mj_wI y 0 35 1) 0 36 1) 0 37 (mj_max (y.1 0 37) 1)) := (((zfr.rf _ y).w _ rfl).w _ rfl).w _ rfl
      refine ⟨hlm, he.fr fw, hS.eq (eS.of_zw fw), ?_⟩
      rcases hX with ⟨y0, p, hx⟩ | ⟨y0, hm, ho⟩
      · exact Or.inl ⟨y0, p.hd L, hx.eq (eS.of_zw (M := M) fw).2.2 (eX.of_zw fw) (fun _ _ => ⟨rfl, rfl⟩) ⟨[], rfl⟩ (Nat.le_refl _) rfl rfl (fun _ => rfl) hx.1⟩
      · obtain ⟨a1, a2, a3, a4, a5, a6⟩ := hm
        exact Or.inr ⟨y0, ⟨a1, a2, a3, a4, ⟨true, rfl⟩, a6⟩, ho⟩
    | succ m ih =>
      intro l1 l2 r1 r2 hpj y hl hl2 hp hr hh f q
      rcases List.eq_nil_or_concat l1 with e | ⟨l1', p, e⟩
      · rw [e] at hl; simp at hl
      rcases List.eq_nil_or_concat r1 with e' | ⟨r1', r, e'⟩
      · rw [e', hl] at hl2; simp at hl2
      rw [List.concat_eq_append] at e e'
      subst e; subst e'
      have hp' : ps s.1 = l1' ++ p :: l2 := by rw [hp, List.append_assoc]; rfl
      have hr' : c_ps s.2.2 = r1' ++ r :: r2 := by rw [hr, List.append_assoc]; rfl
      have hll : l1'.length = r1'.length := by simpa using hl2
      have hlm' : l1'.length = m := by simpa using hl
      have hpm : p < n := c8 p (by rw [hp']; simp)
      have hpn : p < 30000 := by have := b1.2; omega
      rw [hp', hr'] at c6
      obtain ⟨k1, k2, k3, k4⟩ := z_pcs_app l1' r1' hll c6
      rw [hp'] at c5
      have kn := z_lnk_app l1' c5
      have e := f.2
      rw [List.getLast?_concat, bX1_handler_7]
      show ∃ x', (if nI p = (-1 : Int32) then _ else _) = _ ∧ _
      rw [if_neg (fun e => by have := congrArg Int32.toInt e; rw [nI_toInt (by omega)] at this; have h2 : (-1 : Int32).toInt = -1 := rfl; omega), mj_g_k (mj_in_nI (by omega) (by omega)), nI_clamp (by omega), e 70 p rfl, e 71 p rfl, k1, k2, e 0 32 rfl, h32]
      obtain ⟨y1, e1, q1', f1, -⟩ := m_range (d := d) (hp := hpj) (hp2 := hpj - 1) (k := k) (a := r.1) (b := r.2) (e := (g_it g).length) (va := nI (w_at w (g_it g) r.1)) (vb := nI (w_at w (g_it g) r.2)) (ve := nI (w_by_ w w_z (g_it g)).length) (by omega) (by omega) q (fun _ => ⟨⟨rfl, rfl, by rw [← w_at_len]; rfl⟩, k3, k4, Nat.le_refl _⟩)
      rw [mj_g_k (mj_in_nI (by omega) (by omega)), e1, mj_rV_k, mj_g_k (mj_in_nI (by omega) (by omega)), f1.2 72 p rfl, e 72 p rfl, kn]
      exact ih l1' (p :: l2) r1' (r :: r2) (hpj - 1) y1 hlm' hll hp' hr' (by simp at hh; omega) (f.tr f1) q1'
  have := loop (ps s.1).length (ps s.1) [] (c_ps s.2.2) [] hp x rfl hlen (List.append_nil _).symm (List.append_nil _).symm hhp (zfr.rf _ x) h
  rw [← z_fst_last] at this
  exact this
end
