/-! casts and growth of CodeWriterModel; steps -/
section
variable {nt : sp_NT} {N M : Nat} {w : Bool} {ba pf rf lf c : Nat} {lm : Nat → Nat} {lv : Nat → Bool} {x : mj_X} {g : wG}
theorem J1.b {r : mj_R} {k : mj_X → mj_R} {G H : wG} (m : wM g G) (h : J1 nt N M w ba pf rf lf c r x lm lv g G)
    (hk : ∀ lm' lv' x', Q1 nt N M w ba pf rf lf c lm' lv' x' G → (∀ l, l < g_nl g → lm' l = lm l ∧ lv' l = lv l) → zfr (zw ba pf lf) x x' → J1 nt N M w ba pf rf lf c (k x') x' lm' lv' G H) : J1 nt N M w ba pf rf lf c (mj_rV r k) x lm lv g H := h.bind m.2.2.2.2.2.2.1 hk
theorem J1.mono {c' : Nat} {r : mj_R} {G : wG} (h : J1 nt N M w ba pf rf lf c r x lm lv g G) (hc : c ≤ c') : J1 nt N M w ba pf rf lf c' r x lm lv g G := by
  obtain ⟨lm1, lv1, x1, e1, q1, l1, f1⟩ := h
  exact ⟨lm1, lv1, x1, e1, q1.mono hc, l1, f1⟩
/-- a new label, and what follows -/
theorem J1.lb {d : Nat} (hd : 1 ≤ d) (hc : c + 1 ≤ 4000) {F : wF} {k : Int32 → mj_X → mj_R} {H : wG} (h : Q1 nt N M w ba pf rf lf (c + 1) lm lv x g) (hok : g_ok (w_lb F g))
    (hk : ∀ lm' lv' x', Q1 nt N M w ba pf rf lf c lm' lv' x' (w_lb F g) → lv' (g_nl g) = true → (∀ l, l < g_nl g → lm' l = lm l ∧ lv' l = lv l) → J1 nt N M w ba pf rf lf c (k (nI (lm' (g_nl g))) x') x' lm' lv' (w_lb F g) H) :
    J1 nt N M w ba pf rf lf c (mj_rI (kX1 d 45 [.ref 0] x) k) x lm lv g H := by
  obtain ⟨i, x1, e1, f1, -, q1⟩ := m_lb hd hc h hok
  have hag : ∀ l, l < g_nl g → (fun l => if l = g_nl g then i else lm l) l = lm l ∧ (fun l => if l = g_nl g then true else lv l) l = lv l := fun l hl => ⟨if_neg (by omega), if_neg (by omega)⟩
  have hi : (fun l => if l = g_nl g then i else lm l) (g_nl g) = i := if_pos rfl
  obtain ⟨lm2, lv2, x2, e2, q2, l2, f2⟩ := hk _ _ x1 q1 (if_pos rfl) hag
  rw [if_pos rfl] at e2
  refine ⟨lm2, lv2, x2, by rw [e1, mj_rI_k, e2], q2, fun l hl => ?_, f1.tr f2⟩
  have a := l2 l (show l < g_nl g + 1 by omega)
  have b := hag l hl
  exact ⟨a.1.trans b.1, a.2.trans b.2⟩
theorem m_cast {d : Nat} (hd : 4 ≤ d) {f t : Nat} (hf1 : 1 ≤ f) (hf4 : f ≤ 4) (ht : (1 ≤ t ∧ t ≤ 4) ∨ (9 ≤ t ∧ t ≤ 11)) (h : Q1 nt N M w ba pf rf lf c lm lv x g) (hok : g_ok (w_cast f t g)) : J1 nt N M w ba pf rf lf c (kX1 d 75 [.ref 0, .int (nI f), .int (nI t)] x) x lm lv g (w_cast f t g) := by
  obtain ⟨d, rfl⟩ : ∃ c, d = c + 1 := ⟨d - 1, by omega⟩
  -- the last code
  have tail : ∀ (u : Nat) (o4 : Option Value) {lm1 : Nat → Nat} {lv1 : Nat → Bool} {x1 : mj_X} {g1 : wG}, Q1 nt N M w ba pf rf lf c lm1 lv1 x1 g1 → g_ok (bif Nat.blt 4 t then w_em (11, t, 0, 0, []) 1 [1] g1 else g1) → J1 nt N M w ba pf rf lf c (rX1_cast d (56, [some (.ref 0), some (.int (nI f)), some (.int (nI t)), some (.int (nI u)), o4], [], x1)) x1 lm1 lv1 g1 (bif Nat.blt 4 t then w_em (11, t, 0, 0, []) 1 [1] g1 else g1) := by
    intro u o4 lm1 lv1 x1 g1 q1 hok1
    rw [bX1_cast_56]
    by_cases h4 : t ≤ 4
    · have e : Nat.blt 4 t = false := by rw [← Bool.not_eq_true, Nat.blt_eq]; omega
      rw [e] at hok1 ⊢
      rw [if_pos (show nI t ≤ (4 : Int32) from nI_le (b := 4) h4 (by omega))]
      exact J1.id_ q1
    · have e : Nat.blt 4 t = true := by rw [Nat.blt_eq]; omega
      rw [e] at hok1 ⊢
      rw [if_neg (show ¬ nI t ≤ (4 : Int32) from nI_ge (a := 4) (by omega) (by omega))]
      refine J1.end_ (m_e1 (by omega) q1 hok1 rfl rfl ⟨fun _ => ?_, fun _ _ => rfl⟩)
      show [o8 (nI (145 + (t - 9)))] = _
      rw [show (145 : Int32) + nI t - 9 = nI (145 + t - 9) by rw [show (145 : Int32) + nI t = nI (145 + t) from nI_add 145 t]; exact nI_sub (b := 9) (by omega), show 145 + t - 9 = 145 + (t - 9) by omega]
  have main : ∀ u : Nat, u = (if 4 < t then 1 else t) → J1 nt N M w ba pf rf lf c (rX1_cast d (10, [some (.ref 0), some (.int (nI f)), some (.int (nI t)), none, none], [.int (nI u)], x)) x lm lv g (w_cast f t g) := by
    intro u hu
    have hu1 : 1 ≤ u ∧ u ≤ 4 := by rw [hu]; split <;> omega
    have hE : w_cast f t g = (bif Nat.blt 4 t then w_em (11, t, 0, 0, []) 1 [1] (bif Nat.beq f u then g else w_em (10, f, u, 0, []) (w_tl f).length (w_tl u) g) else (bif Nat.beq f u then g else w_em (10, f, u, 0, []) (w_tl f).length (w_tl u) g)) := by unfold w_cast; rw [hu]
    rw [hE] at hok ⊢
    rw [bX1_cast_10]
    by_cases q1 : f = u
    · have e : Nat.beq f u = true := by rw [q1]; exact Nat.beq_refl u
      rw [e] at hok ⊢
      rw [if_pos (by rw [q1])]
      exact tail u none h hok
    · have e : Nat.beq f u = false := by apply Bool.eq_false_iff.mpr; intro r; exact q1 (Nat.eq_of_beq_eq_true r)
      rw [e] at hok ⊢
      rw [if_neg (fun r => q1 ((nI_eq (by omega) (by omega)).mp r))]
      have mid : ∀ (s : Nat), s = (if u < f then u - 1 else u - 2) → J1 nt N M w ba pf rf lf c (rX1_cast d (30, [some (.ref 0), some (.int (nI f)), some (.int (nI t)), some (.int (nI u)), none], [.int (nI s)], x)) x lm lv g (bif Nat.blt 4 t then w_em (11, t, 0, 0, []) 1 [1] (w_em (10, f, u, 0, []) (w_tl f).length (w_tl u) g) else w_em (10, f, u, 0, []) (w_tl f).length (w_tl u) g) := by
        intro s hs
        rw [bX1_cast_30, sX1_placesOf (by omega), mj_rI_k, sX1_placesOf (by omega), mj_rI_k, sp_pl_n (by omega), sp_pl_n (by omega)]
        have hm2 : wM (w_em (10, f, u, 0, []) (w_tl f).length (w_tl u) g) (bif Nat.blt 4 t then w_em (11, t, 0, 0, []) 1 [1] (w_em (10, f, u, 0, []) (w_tl f).length (w_tl u) g) else w_em (10, f, u, 0, []) (w_tl f).length (w_tl u) g) := wM.cond ((wM.rf _).em _ _ _) (wM.rf _)
        refine J1.b ((wM.rf g).em _ _ _) (m_e1 (by omega) h (hm2.1 hok) rfl rfl ⟨fun _ => ?_, fun _ _ => rfl⟩) (fun lm1 lv1 x1 q1 _ _ => tail u _ q1 hok)
        show [o8 (nI (w_cop f u))] = _
        rw [show nI f - 1 = nI (f - 1) from nI_sub (b := 1) hf1, show (3 : Int32) * nI (f - 1) = nI (3 * (f - 1)) from nI_mul 3 _, show (133 : Int32) + nI (3 * (f - 1)) = nI (133 + 3 * (f - 1)) from nI_add 133 _, nI_add, hs]
        rfl
      by_cases q2 : u ≤ f
      · rw [if_pos (nI_le q2 (by omega)), show nI u - 1 = nI (u - 1) from nI_sub (b := 1) (by omega)]
        exact mid _ (by rw [if_pos (by omega)])
      · rw [if_neg (nI_ge (by omega) (by omega)), show nI u - 2 = nI (u - 2) from nI_sub (b := 2) (by omega)]
        exact mid _ (by rw [if_neg (by omega)])
  rw [eX1_cast]
  by_cases h4 : t ≤ 4
  · rw [if_pos (show nI t ≤ (4 : Int32) from nI_le (b := 4) h4 (by omega))]; exact main t (by rw [if_neg (by omega)])
  · rw [if_neg (show ¬ nI t ≤ (4 : Int32) from nI_ge (a := 4) (by omega) (by omega))]; exact main 1 (by rw [if_pos (by omega)])
theorem m_inc {d : Nat} (hd : 4 ≤ d) {p : Nat} (hp : p < 256) (b : Int32) (h : Q1 nt N M w ba pf rf lf c lm lv x g) (hok : g_ok (w_inc p b.toInt64 g)) : J1 nt N M w ba pf rf lf c (kX1 d 56 [.ref 0, .int (nI p), .int b] x) x lm lv g (w_inc p b.toInt64 g) := by
  obtain ⟨d, rfl⟩ : ∃ c, d = c + 1 := ⟨d - 1, by omega⟩
  have l1 : ((-128 : Int64) ≤ b.toInt64 ∧ b.toInt64 ≤ 127) = (-128 ≤ b ∧ b ≤ 127) := by
    rw [show (-128 : Int64) = (-128 : Int32).toInt64 from rfl, show (127 : Int64) = (127 : Int32).toInt64 from rfl, propext (i64_le (a := -128)), propext (i64_le (b := 127))]
  have enc : ∀ q, w_enc w w_z q (6, p, 0, b.toInt64, []) = (if -128 ≤ b ∧ b ≤ 127 then [o8 132, o8 (nI p), o8 b] else [o8 196, o8 132] ++ (o16 (nI p) ++ o16 b)) := by
    intro q
    show (if p < 256 ∧ (-128 : Int64) ≤ b.toInt64 ∧ b.toInt64 ≤ 127 then [o8 132, o8 (nI p), o8 b.toInt64.toInt32] else [o8 196, o8 132] ++ (o16 (nI p) ++ o16 b.toInt64.toInt32)) = _
    rw [i64_i]
    simp only [l1, hp, true_and]
  rw [eX1_increase, if_neg (show ¬ (256 : Int32) ≤ nI p from nI_ge (b := 256) hp (by omega))]
  have hs : ∀ ho : g_ok (w_es (6, p, 0, b.toInt64, []) (g_L g, [] ++ (g_st g).drop 0) g), w_q g = false → nI (g_st g).length + ((0 : Int32) - 0) = nI ([] ++ (g_st g).drop 0).length := fun _ _ => by simp
  have by_ : w_by_ w w_z (((6, p, 0, b.toInt64, []), (g_L g, g_st g)) :: g_it g) = w_by_ w w_z (g_it g) ++ (if -128 ≤ b ∧ b ≤ 127 then [o8 132, o8 (nI p), o8 b] else [o8 196, o8 132] ++ (o16 (nI p) ++ o16 b)) := by
    show w_by_ w w_z (g_it g) ++ w_enc w w_z _ _ = _
    rw [enc]
  have wide : ¬ (-128 ≤ b ∧ b ≤ 127) → J1 nt N M w ba pf rf lf c (rX1_increase d (43, [some (.ref 0), some (.int (nI p)), some (.int b)], [], x)) x lm lv g (w_inc p b.toInt64 g) := by
    intro hb
    rw [bX1_increase_43]
    refine w_em_J hok (fun _ => h) (fun ho _ => ?_)
    rw [if_neg hb] at by_
    have by2 : w_by_ w w_z (((6, p, 0, b.toInt64, []), (g_L g, g_st g)) :: g_it g) = ((w_by_ w w_z (g_it g) ++ [o8 196]) ++ [o8 132]) ++ o16 (nI p) ++ o16 b := by rw [by_]; simp
    obtain ⟨x1, e1, f1, r1⟩ := m_code (d := d) (cc := 196) (a2 := 0) (a3 := 0) (by omega) h ho (hs ho) (w_enc_pos _ _ _ _)
    obtain ⟨x2, e2, f2, r2⟩ := m_op1 (d := d) (by omega) 132 r1 (fun q => by rw [(w_es_f q).1, by2]; simp [o16])
    obtain ⟨x3, e3, f3, r3⟩ := m_op2 (d := d) (by omega) (nI p) r2 (fun q => by rw [(w_es_f q).1, by2]; simp [o16])
    obtain ⟨x4, e4, f4, r4⟩ := m_op2 (d := d) (by omega) b r3 (fun q => by rw [(w_es_f q).1, by2]; simp [o16])
    refine ⟨lm, lv, x4, by rw [e1, mj_rV_k, e2, mj_rV_k, e3, mj_rV_k, e4, mj_rV_k], Z1.fin ?_, fun _ _ => ⟨rfl, rfl⟩, ((f1.tr f2).tr f3).tr f4⟩
    rw [by2]; exact r4
  by_cases q1 : b < -128
  · rw [if_pos q1]; exact wide (fun q => absurd q.1 (Int32.not_le.mpr q1))
  · rw [if_neg q1]
    by_cases q2 : 127 < b
    · rw [if_pos q2]; exact wide (fun q => absurd q.2 (Int32.not_le.mpr q2))
    · rw [if_neg q2]
      have hb : -128 ≤ b ∧ b ≤ 127 := ⟨Int32.not_lt.mp q1, Int32.not_lt.mp q2⟩
      refine w_em_J hok (fun _ => h) (fun ho _ => ?_)
      rw [if_pos hb] at by_
      have by2 : w_by_ w w_z (((6, p, 0, b.toInt64, []), (g_L g, g_st g)) :: g_it g) = ((w_by_ w w_z (g_it g) ++ [o8 132]) ++ [o8 (nI p)]) ++ [o8 b] := by rw [by_]; simp
      obtain ⟨x1, e1, f1, r1⟩ := m_code (d := d) (cc := 132) (a2 := 0) (a3 := 0) (by omega) h ho (hs ho) (w_enc_pos _ _ _ _)
      obtain ⟨x2, e2, f2, r2⟩ := m_op1 (d := d) (by omega) (nI p) r1 (fun q => by rw [(w_es_f q).1, by2]; simp)
      obtain ⟨x3, e3, f3, r3⟩ := m_op1 (d := d) (by omega) b r2 (fun q => by rw [(w_es_f q).1, by2]; simp)
      refine ⟨lm, lv, x3, by rw [e1, mj_rV_k, e2, mj_rV_k, e3, mj_rV_k], Z1.fin ?_, fun _ _ => ⟨rfl, rfl⟩, (f1.tr f2).tr f3⟩
      rw [by2]; exact r3
/-- a label to which nothing jumps is given back -/
theorem m_sl {l : Nat} (hc : c + 1 ≤ 4000) (h : Q1 nt N M w ba pf rf lf c lm lv x g) (hok : g_ok (w_sl true l g)) (hl : l < g_nl g) (hv : lv l = true) :
    ∃ lv' x', (mj_g (nI (lm l)) 300000 (if 0 ≤ (x.1 50 (nI (lm l)).toNatClampNeg) then some (none, x) else mj_g (x.1 0 57) 4000 (some (none, (mj_wI (mj_wI x 57 (x.1 0 57).toNatClampNeg (nI (lm l))) 0 57 ((x.1 0 57) + (1 : Int32))))))) = some (none, x') ∧ zfr (zw ba pf lf) x x' ∧ (∀ k, k ≠ l → lv' k = lv k) ∧ Q1 nt N M w ba pf rf lf (c + 1) lm lv' x' (w_sl true l g) := by
  obtain ⟨he, hlm, h⟩ := h
  have hk := hlm l hl
  have hm : wM g (w_sl true l g) := (wM.rf g).sl true l
  have hpl : g_pl (w_sl true l g) = g_pl g := by unfold w_sl; cases g_goes g l <;> rfl
  have hnl : g_nl (w_sl true l g) = g_nl g := by unfold w_sl; cases g_goes g l <;> rfl
  have hlm' : ∀ k, k < g_nl (w_sl true l g) → lm k < 300000 := by rw [hnl]; exact hlm
  have he' : ∀ {y : mj_X}, zfr (zw ba pf lf) x y → z_env nt N M ba pf lf (g_pl (w_sl true l g)) y := by intro y f; rw [hpl]; exact he.fr f
  rw [nI_clamp (by omega), mj_g_k (mj_in_nI (by omega) (by omega))]
  rcases h with ⟨hov, h⟩ | ⟨h, ho⟩
  · have hov' : g_ov (w_sl true l g) = false := by rw [(w_sl_f true l g).2.2.1]; exact hov
    have hh := h
    obtain ⟨h1, h2, ⟨f1, f2, f3, f4⟩, ⟨fr, l1, l2, l3, l4, l5, l6, l7, l8, l9, l10, l11, l12, l13⟩, h5⟩ := h
    obtain ⟨p1, p2, p3, p4⟩ := l9 l hl hv
    have h13 := l13 l hl
    rw [p4]
    cases hg : g_goes g l
    · rw [show (g.2.2.2.2.2.2.2.2.1.2.2.1 l) = false from hg, cond_false, if_neg (by decide), l1, nI_clamp (by omega), mj_g_k (mj_in_nI (by omega) (by omega)), nI_1]
      have e : w_sl true l g = s_ok (g_fm g < 3999) (s_lb (g_nl g, g_lat g, g_goes g, g_lF g, (g_us g - 1, g_n1 g, g_fm g + 1)) g) := by unfold w_sl; rw [hg]; rfl
      have f := ((zfr.rf (zw ba pf lf) x).w (k := 57) (j := fr.length) (nI (lm l)) rfl).w (k := 0) (j := 57) (nI (fr.length + 1)) rfl
      refine ⟨fun k => if k = l then false else lv k, _, rfl, f, fun k hk => if_neg hk, he' f, hlm', Or.inl ⟨hov', ?_⟩⟩
      rw [e]
      refine ⟨h1, h2, ⟨f1, f2, f3, f4⟩, ⟨lm l :: fr, rfl, by show fr.length + 1 = g_fm g + 1; rw [l2], by simp only [List.length_cons]; omega, l4, l5, ⟨?_, ?_⟩, List.nodup_cons.mpr ⟨p2, l7⟩, fun q hq => ?_, fun k hk hkv => ?_, fun k k' hk hk' hkv hkv' he => ?_, fun k hk hg' => ?_, l12, l13⟩, h5⟩
      · show upd (x.1 57) fr.length (nI (lm l)) fr.length = _
        rw [pk_us]
      · refine l6.mono (fun j q hj _ hh => ?_)
        show upd (x.1 57) fr.length (nI (lm l)) j = _
        rw [pk_un (by omega)]; exact hh
      · rcases List.mem_cons.mp hq with rfl | hq
        · exact p1
        · exact l8 q hq
      · have hkv : (if k = l then false else lv k) = true := hkv
        have hkl : ¬ k = l := fun q => by rw [if_pos q] at hkv; simp at hkv
        rw [if_neg hkl] at hkv
        obtain ⟨q1, q2, q3, q4⟩ := l9 k hk hkv
        refine ⟨q1, fun hm => ?_, q3, q4⟩
        rcases List.mem_cons.mp hm with hm | hm
        · exact hkl (l10 k l hk hl hkv hv hm)
        · exact q2 hm
      · have hkv : (if k = l then false else lv k) = true := hkv
        have hkv' : (if k' = l then false else lv k') = true := hkv'
        have hkl : ¬ k = l := fun q => by rw [if_pos q] at hkv; simp at hkv
        have hkl' : ¬ k' = l := fun q => by rw [if_pos q] at hkv'; simp at hkv'
        rw [if_neg hkl] at hkv; rw [if_neg hkl'] at hkv'
        exact l10 k k' hk hk' hkv hkv' he
      · show (if k = l then false else lv k) = true
        have hkl : ¬ k = l := fun q => by
          have hg' : g_goes g k = true := hg'
          rw [q, hg] at hg'; simp at hg'
        rw [if_neg hkl]; exact l11 k hk hg'
    · rw [show (g.2.2.2.2.2.2.2.2.1.2.2.1 l) = true from hg, cond_true, if_pos (nI_pos' (by omega))]
      have e : w_sl true l g = g := by unfold w_sl; rw [hg]; rfl
      refine ⟨lv, x, rfl, zfr.rf _ x, fun _ _ => rfl, he' (zfr.rf _ x), hlm', Or.inl ⟨hov', ?_⟩⟩
      rw [e]; exact hh.mono (Nat.le_succ _)
  · obtain ⟨h1, h2, h3, h4, h5, h6, h7, ⟨f, f1, f2, f3⟩, h9⟩ := h
    by_cases q : 0 ≤ x.1 50 (lm l)
    · rw [if_pos q]
      exact ⟨lv, x, rfl, zfr.rf _ x, fun _ _ => rfl, he' (zfr.rf _ x), hlm', Or.inr ⟨⟨h1, h2, h3, h4, h5, h6, h7, ⟨f, by omega, f2, f3⟩, h9⟩, ho.mono hm⟩⟩
    · rw [if_neg q, f2, nI_clamp (by omega), mj_g_k (mj_in_nI (by omega) (by omega)), nI_1]
      have fz := ((zfr.rf (zw ba pf lf) x).w (k := 57) (j := f) (nI (lm l)) rfl).w (k := 0) (j := 57) (nI (f + 1)) rfl
      refine ⟨lv, _, rfl, fz, fun _ _ => rfl, he' fz, hlm', Or.inr ⟨⟨h1, h2, h3, h4, h5, h6, h7, ⟨f + 1, by omega, rfl, fun j hj => ?_⟩, h9⟩, ho.mono hm⟩⟩
      show ∃ m, m < 300000 ∧ upd (x.1 57) f (nI (lm l)) j = nI m
      by_cases qj : j = f
      · rw [qj, pk_us]; exact ⟨lm l, hk, rfl⟩
      · rw [pk_un qj]; exact f3 j (by omega)
end
