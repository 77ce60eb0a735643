/-! statements of CodeWriterModel: one by one -/
/-- what the end of a context is -/
def w_cok (nt : sp_NT) (N : Nat) (c : wC) : Prop := (c.1 = 3 → ∃ f, wA nt N f c.2.1) ∧ (c.1 = 4 → ∃ p, p < 256 ∧ c.2.1 = nI p)
theorem w_cok.wK {nt : sp_NT} {N : Nat} : ∀ {a b : List wC}, wK a b → (∀ c, c ∈ a → w_cok nt N c) → ∀ c, c ∈ b → w_cok nt N c := by
  intro a
  induction a with
  | nil => intro b h _; cases b with
    | nil => intro c hc; cases hc
    | cons _ _ => exact h.elim
  | cons x a ih => intro b h hx; cases b with
    | nil => exact h.elim
    | cons y b =>
      intro c hc
      rcases List.mem_cons.mp hc with rfl | hc
      · have e := h.1.1
        have e1 : c.1 = x.1 := by have := congrArg Prod.fst e; exact this
        have e2 : c.2.1 = x.2.1 := by have := congrArg (fun q => q.2.1) e; exact this
        have := hx x (by simp)
        unfold w_cok at *
        rw [e1, e2]; exact this
      · exact ih h.2 (fun c hc => hx c (List.mem_cons_of_mem _ hc)) c hc
def mS (nt : sp_NT) (N M : Nat) (w : Bool) (ba pf rf lf c f : Nat) (n : Int32) : Prop := ∀ (d hp : Nat) (H V : List wSl) (K : Nat) (lm : Nat → Nat) (lv : Nat → Bool) (x : mj_X) (g : wG), 6 * f + 260 ≤ d → f ≤ 200 → Q2 nt N M w ba pf rf lf c hp H K (200 - f) none V lm lv x g → (∀ c, c ∈ g_cx g → w_cok nt N c) → g_ok (wS nt f n g) →
  J2 nt N M w ba pf rf lf c hp H K (200 - f) (g_nl g) (z_skl V) (kX1 d 38 [.ref 0, .int n] x) x lm lv (wS nt f n g)
section
variable {nt : sp_NT} {N M : Nat} {w : Bool} {ba pf rf lf c hp : Nat} {H V : List wSl} {K u : Nat} {o : Option Int32} {lm lm' : Nat → Nat} {lv lv' : Nat → Bool} {x y : mj_X} {g G : wG} {res par : Nat → Int32} {f : Nat} {n : Int32}
theorem J2.skM {k : Nat} (h : Q2 nt N M w ba pf rf lf c hp H K u none V lm lv x g) (h0 : ¬ x.1 0 34 = 0) (hm : wM g G) (hk : k ≤ g_nl g) : J2 nt N M w ba pf rf lf c hp H K u k (z_skl V) (some (none, x)) x lm lv G := by
  obtain ⟨V', lm', q, v, l⟩ := h.skip h0 hm
  exact ⟨V', lm', lv, x, rfl, q, v, fun k hk' => ⟨l k (by omega), rfl⟩, zfr.rf _ x, fun q => q⟩
theorem J2.block {d : Nat} (R : mS nt N M w ba pf rf lf c f n) (hd : 6 * f + 261 ≤ d) (hf : f ≤ 200) (h : Q2 nt N M w ba pf rf lf c hp H K (200 - f) none V lm lv x g) (hc : ∀ c, c ∈ g_cx g → w_cok nt N c) (hok : g_ok (w_aln (wS nt f) n g)) :
    J2 nt N M w ba pf rf lf c hp H K (200 - f) (g_nl g) (z_skl V) (kX1 d 37 [.ref 0, .int n] x) x lm lv (w_aln (wS nt f) n g) := by
  obtain ⟨d, rfl⟩ : ∃ c, d = c + 1 := ⟨d - 1, by omega⟩
  rw [eX1_block]
  have hok1 : g_ok (wS nt f n g) := hok
  refine J2.b (Nat.le_refl _) (R d hp H V K lm lv x g (by omega) hf h hc hok1) (fun V1 lm1 lv1 x1 q1 v1 l1 f1 m1 => ?_)
  rw [← v1]
  have q2 : Q2 nt N M w ba pf rf lf c hp H K (200 - f) none V1 lm1 lv1 x1 (s_L ((g_L (wS nt f n g)).take (g_nx g)) (wS nt f n g)) := q1
  refine J2.ret (q2.nx (fun h1 => ?_)) ((zfr.rf _ x1).w _ rfl) (fun q => q)
  have h0 : x.1 0 34 = 0 := Decidable.byContradiction fun q => m1 q h1
  exact ⟨(h.ex h0).2.1.1, (h.ex h0).2.1.2.1⟩
/-- a place is kept for a variable -/
theorem Q2.plw {v : Int32} {p : Int32} {q : Nat} (hv : v.toNatClampNeg < 4000) (h : Q2 nt N M w ba pf rf lf c hp H K u o V lm lv x g) (hpq : x.1 0 34 = 0 → p = nI q ∧ q < 256) : Q2 nt N M w ba pf rf lf c hp H K u o V lm lv (mj_wI x 48 v.toNatClampNeg p) (s_pl v.toNatClampNeg q g) := by
  obtain ⟨hlm, he, hS, hX⟩ := h
  have f2 : zfr (zw2 ba pf rf lf) x (mj_wI x 48 v.toNatClampNeg p) := (zfr.rf _ x).w _ (by unfold zw2; exact Bool.or_true _)
  refine ⟨hlm, he.fr2 f2, hS, ?_⟩
  rcases hX with ⟨h0, ⟨q1, q2, q3⟩, a1, a2, a3, a4, a5⟩ | ⟨h0, hm, ho⟩
  · refine Or.inl ⟨h0, ⟨?_, q2, q3⟩, a1, a2, fun k l hk => ?_, a4, a5⟩
    · obtain ⟨e1, e2, e3, e4, e5, e6, e7, e8, e9⟩ := q1
      refine ⟨e1, e2, e3, e4, e5, e6, e7, e8, fun k r hk hr => ?_⟩
      have hr : (if k = v.toNatClampNeg then some q else g_pl g k) = some r := hr
      show upd (x.1 48) v.toNatClampNeg p k = nI r ∧ r < 256
      by_cases e : k = v.toNatClampNeg
      · rw [if_pos e] at hr
        injection hr with hr
        rw [e, pk_us, ← hr]; exact hpq h0
      · rw [if_neg e] at hr
        rw [pk_un e]; exact e9 k r hk hr
    · have hk : (if 4000 + k = v.toNatClampNeg then some q else g_pl g (4000 + k)) = some l := hk
      rw [if_neg (by omega)] at hk
      exact a3 k l hk
  · exact Or.inr ⟨h0, hm, ho⟩
theorem Q2.pn {v p : Int32} (h : Q2 nt N M w ba pf rf lf c hp H K u o V lm lv x g) (hv : x.1 0 34 = 0 → v = p ∧ (p = -1 ∨ 0 ≤ p)) : Q2 nt N M w ba pf rf lf c hp H K u o V lm lv (mj_wI x 0 46 v) (s_pn p g) := by
  have f : zfr (zw ba pf lf) x (mj_wI x 0 46 v) := (zfr.rf _ x).w _ rfl
  obtain ⟨hlm, he, hS, hX⟩ := h
  refine ⟨hlm, he.fr f, hS.eq (eS.of_zw f), ?_⟩
  rcases hX with ⟨h0, ⟨q1, q2, q3⟩, hx⟩ | ⟨h0, hm, ho⟩
  · refine Or.inl ⟨h0, ⟨q1.fr f, q2, ?_⟩, hx.eq (g := g) (eS.of_zw (M := M) f).2.2 (eX.of_zw f) (fun _ _ => ⟨rfl, rfl⟩) ⟨[], rfl⟩ (Nat.le_refl _) rfl rfl (fun _ => rfl) (hx.1.ofzw (g := g) f ⟨rfl, rfl, rfl, rfl, rfl, rfl⟩)⟩
    obtain ⟨p1, p2, p3, p4, p5, p6, ⟨n1, n2, n3, n4⟩, p8⟩ := q3.resolve_right (fun p => absurd h0 (by rw [p.1.1]; decide))
    exact Or.inl ⟨p1, p2, p3, p4, p5, p6, ⟨n1, (hv h0).1, (hv h0).2, n4⟩, p8⟩
  · exact Or.inr ⟨h0, hm, ho⟩
theorem J2.t404 {d k : Nat} {a1 a2 a3 : Int32} {o4 : Option Value} (h : Q2 nt N M w ba pf rf lf c hp H K (200 - f) none V lm lv x g) (hK : K ≤ 200 - (f + 1)) (hf : f + 1 ≤ 200) : J2 nt N M w ba pf rf lf c hp H K (200 - (f + 1)) k (z_skl V) (rX1_statement d (404, [some (.ref 0), some (.int a1), some (.int a2), some (.int a3), o4], [], x)) x lm lv g := by
  rw [bX1_statement_404]
  refine J2.ret (h.num ((zfr.rf _ x).w _ rfl) ?_ hK (by omega) ⟨rfl, rfl, rfl, rfl, rfl, rfl, rfl, rfl, rfl, rfl⟩ rfl rfl (fun h0 => (h.ex h0).2.1)) ((zfr.rf _ x).w _ rfl) (fun q => q)
  show x.1 0 41 - 1 = nI (200 - (f + 1))
  rw [h.2.2.1.2.2.2.2.1, show (1 : Int32) = nI 1 from rfl, nI_sub (by omega)]
  rfl
/-- a statement begins -/
theorem m_entry {d B : Nat} (hf : f + 1 ≤ 200) (hn : sp_nd N n = true)
    (heq : kX1 (d + 1) 38 [.ref 0, .int n] x = (if (x.1 0 35) = 0 then some (none, x) else if (x.1 0 34) = 0 then (if (60000 : Int32) < ((x.1 0 40) + (1 : Int32)) then some (none, (mj_wI (mj_wI x 0 40 ((x.1 0 40) + (1 : Int32))) 0 34 (1 : Int32))) else if (x.1 0 41) = (200 : Int32) then some (none, (mj_wI (mj_wI x 0 40 ((x.1 0 40) + (1 : Int32))) 0 34 (1 : Int32)))
      else mj_g n 4000 (mj_g n 4000 (mj_g n 4000 (rX1_statement d (B, [some (.ref 0), some (.int n), some (.int (x.1 3 n.toNatClampNeg)), some (.int (x.1 4 n.toNatClampNeg)), none], [], (mj_wI (mj_wI x 0 40 ((x.1 0 40) + (1 : Int32))) 0 41 ((x.1 0 41) + (1 : Int32)))))))) else some (none, x)))
    (h : Q2 nt N M w ba pf rf lf c hp H K (200 - (f + 1)) none V lm lv x g) (hok : g_ok (wS nt (f + 1) n g))
    (body : ∀ x', x'.1 0 34 = 0 → w_q (s_ac g) = false → K ≤ 200 - (f + 1) → Q2 nt N M w ba pf rf lf c hp H K (200 - f) none V lm lv x' (s_ac g) → g_ok (w_bd nt (wV nt 40) (wS nt f) n (s_ac g)) →
      J2 nt N M w ba pf rf lf c hp H K (200 - (f + 1)) (g_nl g) (z_skl V) (rX1_statement d (B, [some (.ref 0), some (.int n), some (.int (nA nt n)), some (.int (nB nt n)), none], [], x')) x' lm lv (w_bd nt (wV nt 40) (wS nt f) n (s_ac g))) :
    J2 nt N M w ba pf rf lf c hp H K (200 - (f + 1)) (g_nl g) (z_skl V) (kX1 (d + 1) 38 [.ref 0, .int n] x) x lm lv (wS nt (f + 1) n g) := by
  have hm := wS_mono nt (f + 1) n g
  rw [heq]
  by_cases h1 : ¬ x.1 0 34 = 0
  · have : (if (x.1 0 35) = 0 then (some (none, x) : mj_R) else if (x.1 0 34) = 0 then (if (60000 : Int32) < ((x.1 0 40) + (1 : Int32)) then some (none, (mj_wI (mj_wI x 0 40 ((x.1 0 40) + (1 : Int32))) 0 34 (1 : Int32))) else if (x.1 0 41) = (200 : Int32) then some (none, (mj_wI (mj_wI x 0 40 ((x.1 0 40) + (1 : Int32))) 0 34 (1 : Int32)))
      else mj_g n 4000 (mj_g n 4000 (mj_g n 4000 (rX1_statement d (B, [some (.ref 0), some (.int n), some (.int (x.1 3 n.toNatClampNeg)), some (.int (x.1 4 n.toNatClampNeg)), none], [], (mj_wI (mj_wI x 0 40 ((x.1 0 40) + (1 : Int32))) 0 41 ((x.1 0 41) + (1 : Int32)))))))) else some (none, x)) = some (none, x) := by
      rw [if_neg h1]; split <;> rfl
    rw [this]; exact J2.skM h h1 hm (Nat.le_refl _)
  have h0 : x.1 0 34 = 0 := Decidable.not_not.mp h1
  obtain ⟨q, hx⟩ := h.ex h0
  by_cases h35 : x.1 0 35 = 0
  · rw [if_pos h35]
    have hq := q.dead h35 h0
    have e : wS nt (f + 1) n g = g := by show (bif w_q g then g else _) = g; rw [hq]; rfl
    rw [e]; exact J2.id_ h
  rw [if_neg h35, if_pos h0]
  have hq := q.live h35 h0
  obtain ⟨a1, a2, a3, a4, a5, a6⟩ := hx.1
  have e : wS nt (f + 1) n g = bif Nat.blt 60000 (g_ac g + 1) then s_ov (s_ac g) else w_bd nt (wV nt 40) (wS nt f) n (s_ac g) := by show (bif w_q g then g else _) = _; rw [hq]; rfl
  rw [e] at hok hm ⊢
  have hac : x.1 0 40 + (1 : Int32) = nI (g_ac g + 1) := by rw [a5]; exact nI_add _ 1
  rw [hac]
  have q1 := q.2.2.resolve_right (fun p => absurd h0 (by rw [p.1.1]; decide))
  have hu : x.1 0 41 = nI (200 - (f + 1)) := h.2.2.1.2.2.2.2.1
  by_cases ha : 60000 < g_ac g + 1
  · rw [if_pos (show (60000 : Int32) < nI (g_ac g + 1) from nI_lt (a := 60000) ha (by omega))]
    have hb : Nat.blt 60000 (g_ac g + 1) = true := Nat.ble_eq_true_of_le (by omega)
    rw [hb] at hok hm ⊢
    refine J2.ret (V := V) ⟨h.1, h.2.1, h.2.2.1, Or.inr ⟨by show ¬ (1 : Int32) = 0; decide, q1.2.much, Or.inl rfl⟩⟩ (((zfr.rf _ x).w _ rfl).w _ rfl) (fun _ => by show ¬ (1 : Int32) = 0; decide)
  · rw [if_neg (show ¬ (60000 : Int32) < nI (g_ac g + 1) from nI_nlt (a := 60000) (by omega) (by omega)), hu, if_neg (show ¬ nI (200 - (f + 1)) = (200 : Int32) from fun e => by have := (nI_eq (b := 200) (by omega) (by omega)).mp e; omega), h.nd hn, h.nd hn, h.nd hn, h.T.2.1, h.T.2.2.1]
    have hb : Nat.blt 60000 (g_ac g + 1) = false := by rw [← Bool.not_eq_true, Nat.blt_eq]; exact ha
    rw [hb] at hok hm ⊢
    have hK := h.2.2.1.2.2.1
    have f' : zfr zo4 x (mj_wI (mj_wI x 0 40 (nI (g_ac g + 1))) 0 41 (nI (200 - (f + 1)) + 1)) := ((zfr.rf _ x).w _ rfl).w _ rfl
    have q2 : Q2 nt N M w ba pf rf lf c hp H K (200 - f) none V lm lv (mj_wI (mj_wI x 0 40 (nI (g_ac g + 1))) 0 41 (nI (200 - (f + 1)) + 1)) (s_ac g) := by
      refine h.num f' ?_ (by omega) (by omega) ⟨rfl, rfl, rfl, rfl, rfl, rfl, rfl, rfl, rfl, rfl⟩ rfl rfl (fun _ => ⟨a1, a2, a3, a4, rfl, by show g_ac g + 1 ≤ 60000; omega⟩)
      show nI (200 - (f + 1)) + 1 = nI (200 - f)
      rw [show (1 : Int32) = nI 1 from rfl, nI_add, show 200 - (f + 1) + 1 = 200 - f by omega]
    exact (body (mj_wI (mj_wI x 0 40 (nI (g_ac g + 1))) 0 41 (nI (200 - (f + 1)) + 1)) h0 hq hK q2 hok).pre (((zfr.rf _ x).w _ rfl).w _ rfl) (fun q => q)
/-- the simple ones -/
theorem w_es_pl {i : wI} {F : wF} {v q : Nat} : w_es i F (s_pl v q g) = s_pl v q (w_es i F g) := by
  unfold w_es
  have : w_q (s_pl v q g) = w_q g := rfl
  rw [this]
  cases w_q g <;> rfl
theorem m_s60 {d : Nat} (hd : 211 ≤ d) (hc1 : 83 ≤ c) (hc2 : c ≤ 3990) (hT : wTb nt N M res par) (hA : wA nt N 40 n) (hk : nK nt n = 60) (hf : f + 1 ≤ 200) (x0 : x.1 0 34 = 0) (hq : w_q g = false) (hK : K ≤ 200 - (f + 1)) (h : Q2 nt N M w ba pf rf lf c hp H K (200 - f) none V lm lv x g) (hok : g_ok (w_bd nt (wV nt 40) (wS nt f) n g)) :
    J2 nt N M w ba pf rf lf c hp H K (200 - (f + 1)) (g_nl g) (z_skl V) (rX1_statement d (184, [some (.ref 0), some (.int n), some (.int (nA nt n)), some (.int (nB nt n)), none], [], x)) x lm lv (w_bd nt (wV nt 40) (wS nt f) n g) := by
  have e : w_bd nt (wV nt 40) (wS nt f) n g = wV nt 40 (nA nt n) 1 0 g := by unfold w_bd; simp only [hk]; rfl
  rw [e] at hok ⊢
  have ea := (wE_expr hT hA.1 hA.2.2 hk).mono (show 39 ≤ 40 by omega)
  rw [bX1_statement_184]
  refine J2.b (Nat.le_refl _) (J2.an (by omega) hc1 hc2 hT ea x0 hq h hok) (fun V1 lm1 lv1 x1 q1 v1 l1 f1 m1 => ?_)
  rw [← v1]; exact J2.t404 q1 hK hf
theorem m_s61 {d : Nat} (hd : 211 ≤ d) (hc1 : 83 ≤ c) (hc2 : c ≤ 3990) (hT : wTb nt N M res par) (hA : wA nt N 40 n) (hk : nK nt n = 61) (hf : f + 1 ≤ 200) (hq : w_q g = false) (hK : K ≤ 200 - (f + 1)) (h : Q2 nt N M w ba pf rf lf c hp H K (200 - f) none V lm lv x g) (hok : g_ok (w_bd nt (wV nt 40) (wS nt f) n g)) :
    J2 nt N M w ba pf rf lf c hp H K (200 - (f + 1)) (g_nl g) (z_skl V) (rX1_statement d (192, [some (.ref 0), some (.int n), some (.int (nA nt n)), some (.int (nB nt n)), none], [], x)) x lm lv (w_bd nt (wV nt 40) (wS nt f) n g) := by
  have e : w_bd nt (wV nt 40) (wS nt f) n g = s_pl (nA nt n).toNatClampNeg (g_nx (wV nt 40 (nB nt n) 0 0 g)) (w_ts (nT nt (nA nt n)) (w_tl (nT nt (nA nt n))).reverse (wV nt 40 (nB nt n) 0 0 g)) := by unfold w_bd; simp only [hk]; rfl
  rw [e] at hok ⊢
  obtain ⟨v1, v2, eb, tb, t1⟩ := wE_decl hT hA.1 hA.2.2 hk
  have eb := eb.mono (show 39 ≤ 40 by omega)
  have t8 := (hT.t v1).1
  have mb := wV_mono nt 40 (nB nt n) 0 0 g
  have sh := ((wV_sh hT 40 _ eb).2 g 0 hq (Nat.zero_le _)).1
  generalize hG : wV nt 40 (nB nt n) 0 0 g = g1 at *
  have mt : wM g1 (w_ts (nT nt (nA nt n)) (w_tl (nT nt (nA nt n))).reverse g1) := (wM.rf g1).ts _ _
  have hok1 : g_ok (w_es (3, nT nt (nA nt n), g_nx g1, 0, []) (g_L g1 ++ (w_tl (nT nt (nA nt n))).reverse, (g_st g1).drop (w_tl (nT nt (nA nt n))).length) (s_tk (w_tl (nT nt (nA nt n))).length g1)) := hok.1
  obtain ⟨p1, p2⟩ := hok.2 sh.2.1
  rw [bX1_statement_192]
  have jv := J2.val (d := d) (by omega) hc1 hc2 hT eb h (by rw [hG]; exact mt.1 hok)
  rw [hG] at jv
  refine J2.b (Nat.le_refl _) jv (fun V1 lm1 lv1 x1 q1 v1' l1 f1 m1 => ?_)
  rw [e_take (by omega) q1.T.2.2.2.2 v1, mj_rV_k, q1.T.2.2.2.1, hT.ty v1]
  have hx38 : x1.1 0 34 = 0 → x1.1 0 38 = nI (g_nx g1) := fun q => (q1.ex q).2.1.1
  have q2 := (q1.tk (t := nT nt (nA nt n)) t8 (fun _ => p2)).plw (v := nA nt n) (p := x1.1 0 38) (q := g_nx g1) (Nat.lt_of_lt_of_le (sp_nd_lt q1.T.2.2.2.2 v1) q1.T.2.2.2.2) (fun q => ⟨hx38 q, by omega⟩)
  rw [q2.nd v1, q2.nd v1, q2.T.2.2.2.1, hT.ty v1]
  have hpl : (mj_wI (mj_wI (mj_wI x1 0 38 (x1.1 0 38 + sp_pl (nI (nT nt (nA nt n))))) 0 39 (mj_max (x1.1 0 39) (x1.1 0 38 + sp_pl (nI (nT nt (nA nt n)))))) 48 (nA nt n).toNatClampNeg (x1.1 0 38)).1 48 (nA nt n).toNatClampNeg = x1.1 0 38 := by
    show upd (x1.1 48) (nA nt n).toNatClampNeg (x1.1 0 38) (nA nt n).toNatClampNeg = _; rw [pk_us]
  rw [hpl]
  have js := J2.stn (d := d) (t := nT nt (nA nt n)) (p := x1.1 0 38) (q := g_nx g1) (F := (g_L g1 ++ (w_tl (nT nt (nA nt n))).reverse, (g_st g1).drop (w_tl (nT nt (nA nt n))).length)) (by omega) t1 t8 q2 (fun q => ⟨hx38 q, by omega⟩) (fun _ => ⟨p1, rfl⟩) (by rw [w_es_pl]; exact hok1)
  rw [w_es_pl] at js
  rw [← v1']
  refine J2.le (J2.pre (J2.b (Nat.le_refl _) js (fun V3 lm3 lv3 x3 q3 v3 l3 f3 m3 => ?_)) ((((zfr.rf _ x1).w _ rfl).w _ rfl).w _ (by unfold zw2; exact Bool.or_true _)) (fun q => q)) (by have := mb.2.2.2.2.2.2.1; exact this)
  rw [← v3]; exact J2.t404 q3 hK hf
theorem m_s62 {d : Nat} (hd : 6 * f + 260 ≤ d) (hT : wTb nt N M res par) (hA : wA nt N 40 n) (hk : nK nt n = 62) (hf : f + 1 ≤ 200) (R : ∀ m, wA nt N 40 m → mS nt N M w ba pf rf lf c f m) (hC : ∀ c, c ∈ g_cx g → w_cok nt N c) (hK : K ≤ 200 - (f + 1)) (h : Q2 nt N M w ba pf rf lf c hp H K (200 - f) none V lm lv x g) (hok : g_ok (w_bd nt (wV nt 40) (wS nt f) n g)) :
    J2 nt N M w ba pf rf lf c hp H K (200 - (f + 1)) (g_nl g) (z_skl V) (rX1_statement d (221, [some (.ref 0), some (.int n), some (.int (nA nt n)), some (.int (nB nt n)), none], [], x)) x lm lv (w_bd nt (wV nt 40) (wS nt f) n g) := by
  have e : w_bd nt (wV nt 40) (wS nt f) n g = wS nt f (nB nt n) (wS nt f (nA nt n) g) := by unfold w_bd; simp only [hk]; rfl
  rw [e] at hok ⊢
  obtain ⟨sa, sb⟩ := wE_seq hT hA.1 hA.2.2 hk
  have m1 := wS_mono nt f (nA nt n) g
  have m2 := wS_mono nt f (nB nt n) (wS nt f (nA nt n) g)
  rw [bX1_statement_221]
  refine J2.b (Nat.le_refl _) (R _ ⟨sa.1, sa.2.1, by have := sa.2.2; omega⟩ d hp H V K lm lv x g hd (by omega) h hC (m2.1 hok)) (fun V1 lm1 lv1 x1 q1 v1 l1 f1 mm1 => ?_)
  refine J2.b m1.2.2.2.2.2.2.1 (R _ ⟨sb.1, sb.2.1, by have := sb.2.2; omega⟩ d hp H V1 K lm1 lv1 x1 _ hd (by omega) q1 (w_cok.wK m1.2.2.2.2.2.1 hC) hok) (fun V2 lm2 lv2 x2 q2 v2 l2 f2 mm2 => ?_)
  rw [← v1, ← v2]; exact J2.t404 q2 hK hf
theorem m_s63 {d : Nat} (hd : 6 * f + 261 ≤ d) (hT : wTb nt N M res par) (hA : wA nt N 40 n) (hk : nK nt n = 63) (hf : f + 1 ≤ 200) (R : ∀ m, wA nt N 40 m → mS nt N M w ba pf rf lf c f m) (hC : ∀ c, c ∈ g_cx g → w_cok nt N c) (hK : K ≤ 200 - (f + 1)) (h : Q2 nt N M w ba pf rf lf c hp H K (200 - f) none V lm lv x g) (hok : g_ok (w_bd nt (wV nt 40) (wS nt f) n g)) :
    J2 nt N M w ba pf rf lf c hp H K (200 - (f + 1)) (g_nl g) (z_skl V) (rX1_statement d (234, [some (.ref 0), some (.int n), some (.int (nA nt n)), some (.int (nB nt n)), none], [], x)) x lm lv (w_bd nt (wV nt 40) (wS nt f) n g) := by
  have e : w_bd nt (wV nt 40) (wS nt f) n g = w_aln (wS nt f) (nA nt n) g := by unfold w_bd; simp only [hk]; rfl
  rw [e] at hok ⊢
  have sa := wE_block hT hA.1 hA.2.2 hk
  rw [bX1_statement_234]
  refine J2.b (Nat.le_refl _) (J2.block (R _ ⟨sa.1, sa.2.1, by have := sa.2.2; omega⟩) (d := d) (by omega) (by omega) h hC hok) (fun V1 lm1 lv1 x1 q1 v1 l1 f1 mm1 => ?_)
  rw [← v1]; exact J2.t404 q1 hK hf
theorem m_s74 {d : Nat} (hd : 211 ≤ d) (hc1 : 83 ≤ c) (hc2 : c ≤ 3990) (hT : wTb nt N M res par) (hA : wA nt N 40 n) (hk : nK nt n = 74) (hf : f + 1 ≤ 200) (hK : K ≤ 200 - (f + 1)) (h : Q2 nt N M w ba pf rf lf c hp H K (200 - f) none V lm lv x g) (hok : g_ok (w_bd nt (wV nt 40) (wS nt f) n g)) :
    J2 nt N M w ba pf rf lf c hp H K (200 - (f + 1)) (g_nl g) (z_skl V) (rX1_statement d (330, [some (.ref 0), some (.int n), some (.int (nA nt n)), some (.int (nB nt n)), none], [], x)) x lm lv (w_bd nt (wV nt 40) (wS nt f) n g) := by
  have e : w_bd nt (wV nt 40) (wS nt f) n g = s_al false (w_em (16, 191, 0, 0, []) 1 [] (w_pe 15 71 0 1 [10] (wV nt 40 (nA nt n) 0 0 g))) := by unfold w_bd; simp only [hk]; rfl
  rw [e] at hok ⊢
  obtain ⟨ea, ta⟩ := wE_throw hT hA.1 hA.2.2 hk
  have ea := ea.mono (show 39 ≤ 40 by omega)
  have m1 := wV_mono nt 40 (nA nt n) 0 0 g
  have m2 : wM (wV nt 40 (nA nt n) 0 0 g) (w_pe 15 71 0 1 [10] (wV nt 40 (nA nt n) 0 0 g)) := (wM.rf _).pe _ _ _ _ _
  have m3 : wM (w_pe 15 71 0 1 [10] (wV nt 40 (nA nt n) 0 0 g)) (w_em (16, 191, 0, 0, []) 1 [] (w_pe 15 71 0 1 [10] (wV nt 40 (nA nt n) 0 0 g))) := (wM.rf _).em _ _ _
  have hok : g_ok (w_em (16, 191, 0, 0, []) 1 [] (w_pe 15 71 0 1 [10] (wV nt 40 (nA nt n) 0 0 g))) := hok
  rw [bX1_statement_330]
  refine J2.b (Nat.le_refl _) (J2.val (d := d) (by omega) hc1 hc2 hT ea h (m2.1 (m3.1 hok))) (fun V1 lm1 lv1 x1 q1 v1 l1 f1 mm1 => ?_)
  refine J2.b m1.2.2.2.2.2.2.1 (J2.inv (d := d) (s := 71) (off := 1) (v := 0) (on := [10]) (by omega) (Or.inr (Or.inl rfl)) q1 (m3.1 hok) rfl) (fun V2 lm2 lv2 x2 q2 v2 l2 f2 mm2 => ?_)
  refine J2.b (Nat.le_trans m1.2.2.2.2.2.2.1 m2.2.2.2.2.2.2.1) (J2.e1 (d := d) (i := (16, 191, 0, 0, [])) (off := 1) (on := []) (cc := 191) (by omega) q2 hok rfl rfl ⟨fun _ => rfl, fun _ _ => rfl⟩) (fun V3 lm3 lv3 x3 q3 v3 l3 f3 mm3 => ?_)
  have q4 := q3.al0
  rw [← v1, ← v2, ← v3]
  exact (J2.t404 q4 hK hf).pre ((zfr.rf _ x3).w _ rfl) (fun q => q)
end
