/-! statements of CodeWriterModel: breaks, continues, returns -/
theorem w_ends_le {rec : wT} {ab : Nat} : ∀ (k : Nat) (g : wG), (w_ends rec ab k g).2 ≤ k := by
  intro k
  induction k with
  | zero => intro g; exact Nat.le_refl _
  | succ k ih =>
    intro g
    cases hq : w_q g
    · cases hc : g_cx g with
      | nil =>
        have : w_ends rec ab (k + 1) g = (g, 0) := by show (bif w_q g then (g, 0) else match g_cx g with | [] => (g, 0) | c :: r => _) = _; rw [hq, hc]; rfl
        rw [this]; exact Nat.zero_le _
      | cons c r => rw [w_ends_s hq hc]; exact Nat.succ_le_succ (ih _)
    · rw [w_ends_q hq]; exact Nat.zero_le _
theorem w_tg_hit {lp : Bool} : ∀ (cx : List wC) (e : Nat), w_tg lp e cx < cx.length → ∃ c, cx[w_tg lp e cx]? = some c ∧ (c.1 = 0 ∨ (c.1 = 1 ∧ lp = false)) := by
  intro cx
  induction cx with
  | nil => intro e h; simp at h
  | cons c r ih =>
    intro e h
    by_cases q : c.1 = 0 ∨ (c.1 = 1 ∧ lp = false)
    · cases e with
      | zero =>
        have e1 : w_tg lp 0 (c :: r) = 0 := by unfold w_tg; rw [if_pos q]
        rw [e1]; exact ⟨c, rfl, q⟩
      | succ e =>
        have e1 : w_tg lp (e + 1) (c :: r) = w_tg lp e r + 1 := by
          rw [w_tg_c, if_pos q]; show 1 + w_tg lp e r = w_tg lp e r + 1; omega
        rw [e1] at h ⊢
        exact ih e (by simpa using h)
    · have e1 : w_tg lp e (c :: r) = w_tg lp e r + 1 := by
        rw [w_tg_c, if_neg q]; omega
      rw [e1] at h ⊢
      exact ih e (by simpa using h)
theorem w_tg_le {lp : Bool} : ∀ (cx : List wC) (e : Nat), w_tg lp e cx ≤ cx.length := by
  intro cx
  induction cx with
  | nil => intro e; cases e <;> exact Nat.le_refl _
  | cons c r ih =>
    intro e
    by_cases q : c.1 = 0 ∨ (c.1 = 1 ∧ lp = false)
    · cases e with
      | zero => unfold w_tg; rw [if_pos q]; exact Nat.zero_le _
      | succ e => unfold w_tg; rw [if_pos q]; have := ih e; simp only [List.length_cons]; show 1 + w_tg lp e r ≤ _; omega
    · have := ih e
      cases e <;> (unfold w_tg; rw [if_neg q]; simp only [List.length_cons]; omega)
theorem wK.get : ∀ {a b : List wC}, wK a b → ∀ (k : Nat) {c d : wC}, a[k]? = some c → b[k]? = some d → wCs d = wCs c := by
  intro a
  induction a with
  | nil => intro b h k c d hc; simp at hc
  | cons x a ih => intro b h k c d hc hd; cases b with
    | nil => exact h.elim
    | cons y b => cases k with
      | zero => simp at hc hd; rw [← hc, ← hd]; exact h.1.1
      | succ k => simp at hc hd; exact ih h.2 k hc hd
section
variable {nt : sp_NT} {N M : Nat} {w : Bool} {ba pf rf lf c hp : Nat} {H V : List wSl} {K u : Nat} {o : Option Int32} {lm lm' : Nat → Nat} {lv lv' : Nat → Bool} {x y : mj_X} {g G : wG} {res par : Nat → Int32} {f : Nat} {n : Int32}
theorem Q2.z67M (h : Q2 nt N M w ba pf rf lf c hp H K u o V lm lv x g) (h0 : ¬ x.1 0 34 = 0) (f : zfr z67 x y) : Q2 nt N M w ba pf rf lf c hp H K u o V lm lv y g := by
  have e := f.2
  have E : ∀ a, (∀ j, z67 a j = false) → y.1 a = x.1 a := fun a ha => funext fun j => e a j (ha j)
  have fz : zfr zo x y := f.mono (fun k j hz => by
    unfold z67
    split
    · simp [zo] at hz
    · rfl)
  obtain ⟨hm, ho⟩ := h.mc h0
  refine ⟨h.1, h.2.1.ofzo fz, h.2.2.1.eq ⟨⟨e 0 41 rfl, e 0 58 rfl, e 0 59 rfl, e 17 M rfl⟩, ⟨E 61 (fun _ => rfl), E 62 (fun _ => rfl)⟩, ⟨e 0 44 rfl, e 0 72 rfl⟩, E 68 (fun _ => rfl), E 69 (fun _ => rfl), E 74 (fun _ => rfl)⟩, Or.inr ⟨by rw [e 0 34 rfl]; exact h0, hm.ofzo fz, ho⟩⟩
theorem J2.gon {d k : Nat} {v : Int32} (hd : 1 ≤ d) (h : Q2 nt N M w ba pf rf lf c hp H K u none V lm lv x g) (hk : k ≤ V.length) (hv : x.1 0 34 = 0 → v = z_at V k) (hj : ∃ j, j ≤ V.length ∧ v = z_at V j) :
    J2 nt N M w ba pf rf lf c hp H K u (g_nl g) (z_skl V) (kX1 d 88 [.ref 0, .int v] x) x lm lv (w_gon k g) := by
  by_cases h0 : x.1 0 34 = 0
  · rw [hv h0]
    obtain ⟨x1, e1, q1, f1⟩ := m_goOn hd h hk
    exact ⟨_, lm, lv, x1, e1, q1, (zon_c _ _ _).2, fun _ _ => ⟨rfl, rfl⟩, z67_zw2 f1, fun q => absurd h0 q⟩
  · obtain ⟨j, j1, j2⟩ := hj
    rw [j2]
    obtain ⟨x1, e1, q1, f1⟩ := m_goOn hd h j1
    have q2 := h.z67M h0 f1
    have h1 : ¬ x1.1 0 34 = 0 := by rw [f1.2 0 34 rfl]; exact h0
    obtain ⟨V', lm', q3, v3, l3⟩ := q2.skip h1 ((wM.rf g).gon k)
    exact ⟨V', lm', lv, x1, e1, q3, v3, fun l hl => ⟨l3 l hl, rfl⟩, z67_zw2 f1, fun _ => h1⟩
/-- the ends of all that is left, and what is there again behind them -/
theorem m_ends {d k ab : Nat} {above : Int32} (hd : 6 * f + 263 ≤ d) (hf : f ≤ 200) (hT : wTb nt N M res par) (R : ∀ m, wA nt N 40 m → mS nt N M w ba pf rf lf c f m) (hab : ab ≤ 8000) (hab' : x.1 0 34 = 0 → above = nI ab) (hk : k ≤ V.length) (hC : ∀ c, c ∈ g_cx g → w_cok nt N c) (h : Q2 nt N M w ba pf rf lf c hp H K (200 - f) none V lm lv x g) (hok : g_ok (w_ends (wS nt f) ab k g).1) :
    ∃ V' lm' lv' x' v, kX1 d 85 [.ref 0, .int (z_at V k), .int above] x = some (some (.int v), x') ∧ Q2 nt N M w ba pf rf lf c hp H K (200 - f) none V' lm' lv' x' (s_nx (g_nx g) (w_ends (wS nt f) ab k g).1) ∧ z_skl V' = z_skl V ∧ (∀ l, l < g_nl g → lm' l = lm l ∧ lv' l = lv l) ∧ zfr (zw2 ba pf rf lf) x x' ∧ (¬ x.1 0 34 = 0 → ¬ x'.1 0 34 = 0)
      ∧ (x'.1 0 34 = 0 → v = z_at V (w_ends (wS nt f) ab k g).2) ∧ ∃ j, j ≤ V.length ∧ v = z_at V j := by
  obtain ⟨d, rfl⟩ : ∃ c, d = c + 1 := ⟨d - 1, by omega⟩
  have hch := h.2.2.1.2.2.2.2.2.1
  have hch : z_ch (x.1 0 59) K V := hch
  obtain ⟨V1, lm1, lv1, x1, v, e1, q1, v1, l1, f1, m1, r1, r2⟩ := m_ends_loop (d := d) (was := x.1 0 59) (had := x.1 0 38) (by omega) hf hT R hab (above := above) k hp H V lm lv x g (x.1 0 59) hk rfl hab' hch hC h.o1 hok
  rw [eX1_ends]
  refine ⟨V1, lm1, lv1, _, v, e1, ?_, v1, l1, (f1.w _ rfl).w _ rfl, m1, r1, r2⟩
  refine q1.o2.nx (fun z => ?_)
  have z : x1.1 0 34 = 0 := z
  have h0 : x.1 0 34 = 0 := Decidable.byContradiction fun q => m1 q z
  exact ⟨(h.ex h0).2.1.1, (h.ex h0).2.1.2.1⟩
theorem m_leaves {d e : Nat} (hd : 6 * f + 264 ≤ d) (hf : f ≤ 200) (brk : Bool) (hT : wTb nt N M res par) (R : ∀ m, wA nt N 40 m → mS nt N M w ba pf rf lf c f m) (hC : ∀ c, c ∈ g_cx g → w_cok nt N c) (h : Q2 nt N M w ba pf rf lf c hp H K (200 - f) none V lm lv x g) (hok : g_ok (w_lvs (wS nt f) e brk g)) :
    J2 nt N M w ba pf rf lf c hp H K (200 - f) (g_nl g) (z_skl V) (kX1 d 84 [.ref 0, .int (z_at V (w_tg (!brk) e (g_cx g))), .int (sp_b brk)] x) x lm lv (w_lvs (wS nt f) e brk g) := by
  obtain ⟨d, rfl⟩ : ∃ c, d = c + 1 := ⟨d - 1, by omega⟩
  have hcx : V.map (fun s => s.2.2) = g_cx g := h.2.2.1.1
  have hlen : (g_cx g).length = V.length := by rw [← hcx, List.length_map]
  have mE := wM_ends (wS_mono nt f) 0 (w_tg (!brk) e (g_cx g)) g
  have hle := w_ends_le (rec := wS nt f) (ab := 0) (w_tg (!brk) e (g_cx g)) g
  have ktl := w_tg_le (lp := !brk) (g_cx g) e
  have hit := w_tg_hit (lp := !brk) (g_cx g) e
  have E : w_lvs (wS nt f) e brk g = w_gon (w_ends (wS nt f) 0 (w_tg (!brk) e (g_cx g)) g).2 (s_al false (w_go (match (g_cx (s_nx (g_nx g) (w_ends (wS nt f) 0 (w_tg (!brk) e (g_cx g)) g).1))[w_tg (!brk) e (g_cx g)]? with | some c => (bif brk then c.2.2.1 else c.2.2.2.1) | none => 0) (s_ok (w_tg (!brk) e (g_cx g) < (g_cx g).length) (s_nx (g_nx g) (w_ends (wS nt f) 0 (w_tg (!brk) e (g_cx g)) g).1)))) := rfl
  rw [E] at hok ⊢
  clear E
  have mI : w_tg (!brk) e (g_cx g) ≤ V.length := by rw [← hlen]; exact ktl
  generalize hk : w_tg (!brk) e (g_cx g) = k at *
  have mG : ∀ l, wM (s_ok (k < (g_cx g).length) (s_nx (g_nx g) (w_ends (wS nt f) 0 k g).1)) (w_go l (s_ok (k < (g_cx g).length) (s_nx (g_nx g) (w_ends (wS nt f) 0 k g).1))) := fun l => (wM.rf _).go l
  have okX := (mG _).1 hok
  have hkl : k < (g_cx g).length := okX.2
  have okE : g_ok (w_ends (wS nt f) 0 k g).1 := okX.1
  obtain ⟨V1, lm1, lv1, x1, v, e1, q1, v1, l1, f1, m1, r1, r2⟩ := m_ends (d := d) (k := k) (ab := 0) (above := 0) (by omega) hf hT R (by omega) (fun _ => rfl) mI hC h okE
  rw [eX1_leaves, e1, mj_rI_k]
  have hlen1 : V1.length = V.length := by have := congrArg List.length v1; simpa [z_skl] using this
  obtain ⟨t, ht⟩ : ∃ t, V1[k]? = some t := ⟨V1[k]'(by omega), List.getElem?_eq_getElem _⟩
  have htm : t ∈ V1 := List.mem_of_getElem? ht
  have hcx1 : V1.map (fun s => s.2.2) = g_cx (w_ends (wS nt f) 0 k g).1 := q1.2.2.1.1
  have hct : (g_cx (s_nx (g_nx g) (w_ends (wS nt f) 0 k g).1))[k]? = some t.2.2 := by
    show (g_cx (w_ends (wS nt f) 0 k g).1)[k]? = _
    rw [← hcx1, List.getElem?_map, ht]; rfl
  have hat : z_at V k = nI t.1 := by
    rw [← z_at_skl v1 k]
    unfold z_at
    rw [List.drop_eq_getElem_cons (show k < V1.length by omega)]
    have : V1[k]'(by omega) = t := by have := List.getElem?_eq_getElem (show k < V1.length by omega); rw [ht] at this; injection this with this; exact this.symm
    rw [this]
  obtain ⟨c0, hc0, hkind⟩ := hit hkl
  have hws := mE.2.2.2.2.2.1.get k hc0 (by rw [← hcx1, List.getElem?_map, ht]; rfl : (g_cx (w_ends (wS nt f) 0 k g).1)[k]? = some t.2.2)
  have hk1 : t.2.2.1 = c0.1 := by have := congrArg Prod.fst hws; exact this
  have hlt := q1.lt (s := t) (by simp [htm])
  simp only [hct] at hok ⊢
  rw [hat]
  -- the jump
  have tail : ∀ (lab : Int32) (l : Nat), l = (bif brk then t.2.2.2.2.1 else t.2.2.2.2.2.1) → (x1.1 0 34 = 0 → lab = nI (lm1 l) ∧ l < g_nl (w_ends (wS nt f) 0 k g).1 ∧ lv1 l = true) →
      J2 nt N M w ba pf rf lf c hp H K (200 - f) (g_nl g) (z_skl V) (mj_rV (kX1 d 47 [.ref 0, .int lab] x1) fun x3 => mj_rV (kX1 d 88 [.ref 0, .int v] (mj_wI x3 0 35 (0 : Int32))) fun x4 => some (none, x4)) x lm lv (w_gon (w_ends (wS nt f) 0 k g).2 (s_al false (w_go l (s_ok (k < (g_cx g).length) (s_nx (g_nx g) (w_ends (wS nt f) 0 k g).1))))) := by
    intro lab l hl hlab
    have q1' : Q2 nt N M w ba pf rf lf c hp H K (200 - f) none V1 lm1 lv1 x1 (s_ok (k < (g_cx g).length) (s_nx (g_nx g) (w_ends (wS nt f) 0 k g).1)) := q1
    rw [← hl] at hok
    have jg : J2 nt N M w ba pf rf lf c hp H K (200 - f) (g_nl (w_ends (wS nt f) 0 k g).1) (z_skl V1) (kX1 d 47 [.ref 0, .int lab] x1) x1 lm1 lv1 (w_go l (s_ok (k < (g_cx g).length) (s_nx (g_nx g) (w_ends (wS nt f) 0 k g).1))) := by
      refine J2.of3 (g := s_ok (k < (g_cx g).length) (s_nx (g_nx g) (w_ends (wS nt f) 0 k g).1)) (mG l) q1' (fun h0 p => ?_) (fun h0 hm => ⟨x1, m_goM (by omega) h0 lab, zfr.rf _ x1, hm⟩) (wX_go (n := 0) (l := l) (tg := []) (Or.inl (Nat.zero_le _))).1.2
      obtain ⟨b1, b2, b3⟩ := hlab h0
      rw [b1]
      exact m_go (by omega) p hok b2 b3
    have jall : J2 nt N M w ba pf rf lf c hp H K (200 - f) (g_nl g) (z_skl V) (mj_rV (kX1 d 47 [.ref 0, .int lab] x1) fun x3 => mj_rV (kX1 d 88 [.ref 0, .int v] (mj_wI x3 0 35 (0 : Int32))) fun x4 => some (none, x4)) x1 lm1 lv1 (w_gon (w_ends (wS nt f) 0 k g).2 (s_al false (w_go l (s_ok (k < (g_cx g).length) (s_nx (g_nx g) (w_ends (wS nt f) 0 k g).1))))) := by
      refine J2.b mE.2.2.2.2.2.2.1 jg (fun V3 lm3 lv3 x3 q3 v3 l3 f3 mm3 => ?_)
      have q4 := q3.al0
      have sk3 : z_skl V3 = z_skl V := v3.trans v1
      have len3 : V3.length = V.length := by have := congrArg List.length sk3; simpa [z_skl] using this
      rw [← sk3]
      refine J2.pre (J2.end_ ((J2.gon (d := d) (k := (w_ends (wS nt f) 0 k g).2) (v := v) (by omega) q4 (by omega) (fun z => ?_) ?_).le ?_)) ((zfr.rf _ x3).w _ rfl) (fun q => q)
      · have z : x3.1 0 34 = 0 := z
        rw [r1 (Decidable.byContradiction fun q => mm3 q z)]
        exact (z_at_skl sk3 _).symm
      · obtain ⟨j, j1, j2⟩ := r2
        exact ⟨j, by rw [len3]; exact j1, by rw [j2]; exact (z_at_skl sk3 j).symm⟩
      · exact Nat.le_trans mE.2.2.2.2.2.2.1 (mG l).2.2.2.2.2.2.1
    obtain ⟨Vf, lmf, lvf, xf, ef, qf, vf, lf_, ff, mf⟩ := jall
    exact ⟨Vf, lmf, lvf, xf, ef, qf, vf, fun l hl => ⟨(lf_ l hl).1.trans (l1 l hl).1, (lf_ l hl).2.trans (l1 l hl).2⟩, f1.tr ff, fun z => mf (m1 z)⟩
  have sb : x1.1 0 34 = 0 → z_sb (g_nl (w_ends (wS nt f) 0 k g).1) lm1 lv1 x1 t := fun z => (q1.ex z).2.2.2.2.1 t (by simp [htm])
  cases brk
  · rw [if_pos (by rfl), nI_nd (by omega), nI_cl (by omega)]
    refine tail _ _ rfl (fun z => ?_)
    obtain ⟨b1, b2, b3⟩ := (sb z).2.1 (by
      rw [hk1]
      rcases hkind with q | q
      · exact q
      · simp at q)
    exact ⟨b3, b1, b2⟩
  · rw [if_neg (by decide), nI_nd (by omega), nI_cl (by omega)]
    refine tail _ _ rfl (fun z => ?_)
    obtain ⟨b1, b2, b3⟩ := (sb z).1 (by
      rw [hk1]
      rcases hkind with q | q
      · omega
      · omega)
    exact ⟨b3, b1, b2⟩
theorem m_s71 {d : Nat} (hd : 6 * f + 264 ≤ d) (hT : wTb nt N M res par) (ha : 0 ≤ nA nt n) (hk : nK nt n = 71) (hf : f + 1 ≤ 200) (R : ∀ m, wA nt N 40 m → mS nt N M w ba pf rf lf c f m) (hC : ∀ c, c ∈ g_cx g → w_cok nt N c) (hK : K ≤ 200 - (f + 1)) (h : Q2 nt N M w ba pf rf lf c hp H K (200 - f) none V lm lv x g) (hok : g_ok (w_bd nt (wV nt 40) (wS nt f) n g)) :
    J2 nt N M w ba pf rf lf c hp H K (200 - (f + 1)) (g_nl g) (z_skl V) (rX1_statement d (294, [some (.ref 0), some (.int n), some (.int (nA nt n)), some (.int (nB nt n)), none], [], x)) x lm lv (w_bd nt (wV nt 40) (wS nt f) n g) := by
  have e : w_bd nt (wV nt 40) (wS nt f) n g = w_lvs (wS nt f) (nA nt n).toNatClampNeg true g := by unfold w_bd; simp only [hk]; rfl
  rw [e] at hok ⊢
  have hlt : (nA nt n).toNatClampNeg < 2147483648 := by show (nA nt n).toInt.toNat < _; have := (nA nt n).toInt_lt; omega
  rw [bX1_statement_294]
  have ht := m_target (d := d) (by omega) hlt false h
  rw [nI_nn ha] at ht
  rw [show (0 : Int32) = sp_b false from rfl, ht, mj_rI_k]
  refine J2.b (Nat.le_refl _) (m_leaves (d := d) (by omega) (by omega) true hT R hC h hok) (fun V1 lm1 lv1 x1 q1 v1 l1 f1 m1 => ?_)
  rw [← v1]; exact J2.t404 q1 hK hf
theorem m_s72 {d : Nat} (hd : 6 * f + 264 ≤ d) (hT : wTb nt N M res par) (ha : 0 ≤ nA nt n) (hk : nK nt n = 72) (hf : f + 1 ≤ 200) (R : ∀ m, wA nt N 40 m → mS nt N M w ba pf rf lf c f m) (hC : ∀ c, c ∈ g_cx g → w_cok nt N c) (hK : K ≤ 200 - (f + 1)) (h : Q2 nt N M w ba pf rf lf c hp H K (200 - f) none V lm lv x g) (hok : g_ok (w_bd nt (wV nt 40) (wS nt f) n g)) :
    J2 nt N M w ba pf rf lf c hp H K (200 - (f + 1)) (g_nl g) (z_skl V) (rX1_statement d (308, [some (.ref 0), some (.int n), some (.int (nA nt n)), some (.int (nB nt n)), none], [], x)) x lm lv (w_bd nt (wV nt 40) (wS nt f) n g) := by
  have e : w_bd nt (wV nt 40) (wS nt f) n g = w_lvs (wS nt f) (nA nt n).toNatClampNeg false g := by unfold w_bd; simp only [hk]; rfl
  rw [e] at hok ⊢
  have hlt : (nA nt n).toNatClampNeg < 2147483648 := by show (nA nt n).toInt.toNat < _; have := (nA nt n).toInt_lt; omega
  rw [bX1_statement_308]
  have ht := m_target (d := d) (by omega) hlt true h
  rw [nI_nn ha] at ht
  rw [show (1 : Int32) = sp_b true from rfl, ht, mj_rI_k, show (0 : Int32) = sp_b false from rfl]
  refine J2.b (Nat.le_refl _) (m_leaves (d := d) (by omega) (by omega) false hT R hC h hok) (fun V1 lm1 lv1 x1 q1 v1 l1 f1 m1 => ?_)
  rw [← v1]; exact J2.t404 q1 hK hf
end
