/-! more codes of CodeWriterModel: branches, stack codes, elements, operators -/
theorem nI_sub {a b : Nat} (h : b ≤ a) : nI a - nI b = nI (a - b) := by
  obtain ⟨k, rfl⟩ : ∃ k, a = b + k := ⟨a - b, by omega⟩
  rw [← nI_add, show b + k - b = k by omega, Int32.add_comm, Int32.add_sub_cancel]
theorem w_ctr_n {op : Nat} (h1 : 153 ≤ op) (h2 : op ≤ 164) : ((nI op + (1 : Int32)) ^^^ (1 : Int32)) - (1 : Int32) = nI (w_ctr op) := by
  have : op = 153 ∨ op = 154 ∨ op = 155 ∨ op = 156 ∨ op = 157 ∨ op = 158 ∨ op = 159 ∨ op = 160 ∨ op = 161 ∨ op = 162 ∨ op = 163 ∨ op = 164 := by omega
  rcases this with rfl | rfl | rfl | rfl | rfl | rfl | rfl | rfl | rfl | rfl | rfl | rfl <;> rfl
section
variable {nt : sp_NT} {N M : Nat} {w : Bool} {ba pf rf lf c : Nat} {lm : Nat → Nat} {lv : Nat → Bool} {x : mj_X} {g : wG}
theorem w_br_q {op off l : Nat} (hq : w_q g = true) : w_br op off l g = g := by unfold w_br; rw [hq]; rfl
theorem w_br_n {op off l : Nat} : g_nl (w_br op off l g) = g_nl g ∧ g_pl (w_br op off l g) = g_pl g := by unfold w_br w_em w_es; cases w_q g <;> exact ⟨rfl, rfl⟩
theorem m_br {d : Nat} (hd : 4 ≤ d) {op off l : Nat} (h : Q1 nt N M w ba pf rf lf c lm lv x g) (hok : g_ok (w_br op off l g)) (ho1 : 153 ≤ op) (ho2 : op ≤ 164) (hl : l < g_nl g) (hv : lv l = true) : J1 nt N M w ba pf rf lf c (kX1 d 54 [.ref 0, .int (nI op), .int (nI off), .int (nI (lm l))] x) x lm lv g (w_br op off l g) := by
  have hm : wM g (w_br op off l g) := (wM.rf g).br op off l
  have hE : w_q g = false → w_br op off l g = w_come l (s_ok (off ≤ (g_st g).length) (w_es (21, op, 0, 0, [(0, l)]) (g_L g, [] ++ (g_st g).drop off) g)) := by intro hq; unfold w_br w_em; rw [hq]; rfl
  obtain ⟨hnl, hpl⟩ : g_nl (w_br op off l g) = g_nl g ∧ g_pl (w_br op off l g) = g_pl g := w_br_n
  obtain ⟨d, rfl⟩ : ∃ c, d = c + 1 := ⟨d - 1, by omega⟩
  rw [eX1_branch]
  by_cases h0 : x.1 0 35 = 0
  · rw [if_pos h0]; exact J1.skip h (fun q => w_br_q q) hm hpl hnl (Or.inl h0)
  rw [if_neg h0]
  by_cases h1' : ¬ x.1 0 34 = 0
  · rw [if_neg h1']; exact J1.skip h (fun q => w_br_q q) hm hpl hnl (Or.inr h1')
  have h1 : x.1 0 34 = 0 := Decidable.not_not.mp h1'
  rw [if_pos h1]
  have hh := h
  obtain ⟨he, hlm, h2⟩ := h
  obtain ⟨ho, h2⟩ := h2.resolve_right (fun q => absurd h1 (by rw [q.1.1]; decide))
  have ha : g_al g = true := by
    have s := h2.2.2.2.2.2.2.1
    cases ha : g_al g
    · rw [ha] at s; exact absurd s h0
    · rfl
  have hq : w_q g = false := (w_q_iff g).mpr ⟨ha, ho⟩
  rw [hE hq] at hok ⊢
  have hok1 : g_ok (w_es (21, op, 0, 0, [(0, l)]) (g_L g, [] ++ (g_st g).drop off) g) := hok.1.1
  have hoff : off ≤ (g_st g).length := hok.1.2
  obtain ⟨k1, k2, k3, k4, k5, k6, k7, k8, k9, k10, k11, k12, k13⟩ := w_es_f (i := (21, op, 0, 0, [(0, l)])) (F := (g_L g, [] ++ (g_st g).drop off)) hq
  have knl : g_nl (w_es (21, op, 0, 0, [(0, l)]) (g_L g, [] ++ (g_st g).drop off) g) = g_nl g := congrArg Prod.fst k11
  have h33 : x.1 0 33 = sp_b w := h2.2.1.2.1
  have h32 : x.1 0 32 = nI (w_by_ w w_z (g_it g)).length := h2.2.1.2.2.1
  have hF := w_fxs_len w w_z (g_it g)
  have hB := h2.2.1.2.2.2.1
  have hs : nI (g_st g).length + ((0 : Int32) - nI off) = nI ([] ++ (g_st g).drop off).length := by
    rw [show (0 : Int32) = nI 0 from rfl, nI_st hoff, List.nil_append, List.length_drop, Nat.zero_add]
  -- behind the jump
  have fin : ∀ x2, zfr (zw ba pf lf) x x2 → Q1 nt N M w ba pf rf lf c lm lv x2 (w_es (21, op, 0, 0, [(0, l)]) (g_L g, [] ++ (g_st g).drop off) g) → J1 nt N M w ba pf rf lf c (mj_rV (kX1 d 50 [.ref 0, .int (nI (lm l))] x2) fun x3 => some (none, x3)) x lm lv g (w_come l (s_ok (off ≤ (g_st g).length) (w_es (21, op, 0, 0, [(0, l)]) (g_L g, [] ++ (g_st g).drop off) g))) := by
    intro x2 f2 q2
    obtain ⟨lm3, lv3, x3, e3, q3, l3, f3⟩ := m_come (d := d) (by omega) (g := s_ok (off ≤ (g_st g).length) (w_es (21, op, 0, 0, [(0, l)]) (g_L g, [] ++ (g_st g).drop off) g)) q2 (Or.inl (by show g_al (w_es _ _ g) = true; rw [k2]; exact ha)) hok (by show l < g_nl (w_es _ _ g); rw [knl]; exact hl) hv
    exact ⟨lm3, lv3, x3, by rw [e3, mj_rV_k], q3, fun k hk => l3 k (by show k < g_nl (w_es _ _ g); rw [knl]; exact hk), f2.tr f3⟩
  rw [h33]
  cases w
  · rw [if_pos (by decide)]
    obtain ⟨x1, e1, f1, r1⟩ := m_code (d := d) (cc := nI op) (a2 := nI off) (a3 := 0) (by omega) hh hok1 (fun _ => hs) (w_enc_pos _ _ _ _)
    have hby : w_by_ false w_z (((21, op, 0, 0, [(0, l)]), (g_L g, g_st g)) :: g_it g) = (w_by_ false w_z (g_it g) ++ [o8 (nI op)]) ++ o16 0 := by
      show w_by_ false w_z (g_it g) ++ ([o8 (nI op)] ++ o16 0) = _
      rw [List.append_assoc]
    obtain ⟨x2, e2, f2, r2⟩ := m_fix (d := d) (p := (w_by_ false w_z (g_it g)).length) (l := l) (from_ := x.1 0 32) (by omega) false r1 hq (by rw [knl]; exact hl) (by omega) (fun _ => h32) (by rw [k1, hby]; simp [o16])
    rw [e1, mj_rV_k, show (0 : Int32) = sp_b false from rfl, e2, mj_rV_k]
    refine fin x2 (f1.tr f2) (Z1.fin ?_)
    rw [hby]
    have hf : w_fxs false w_z (((21, op, 0, 0, [(0, l)]), (g_L g, g_st g)) :: g_it g) = ((w_by_ false w_z (g_it g) ++ [o8 (nI op)]).length, (w_by_ false w_z (g_it g)).length, l, false) :: w_fxs false w_z (g_it g) := by
      show ((w_by_ false w_z (g_it g)).length + 1, (w_by_ false w_z (g_it g)).length, l, false) :: w_fxs false w_z (g_it g) = _
      rw [List.length_append]; rfl
    rw [hf]; exact r2
  · rw [if_neg (by decide)]
    obtain ⟨d', rfl⟩ : ∃ d', d = d' + 1 := ⟨d - 1, by omega⟩
    rw [eX1_contrary, mj_rI_k, w_ctr_n ho1 ho2]
    obtain ⟨x1, e1, f1, r1⟩ := m_code (d := d' + 1) (cc := nI (w_ctr op)) (a2 := nI off) (a3 := 0) (by omega) hh hok1 (fun _ => hs) (w_enc_pos _ _ _ _)
    have hby : w_by_ true w_z (((21, op, 0, 0, [(0, l)]), (g_L g, g_st g)) :: g_it g) = (((w_by_ true w_z (g_it g) ++ [o8 (nI (w_ctr op))]) ++ o16 8) ++ [o8 200]) ++ o32 0 := by
      show w_by_ true w_z (g_it g) ++ ([o8 (nI (w_ctr op))] ++ (o16 8 ++ ([o8 200] ++ o32 0))) = _
      simp only [List.append_assoc]
    obtain ⟨x2, e2, f2, r2⟩ := m_op2 (d := d' + 1) (by omega) 8 r1 (fun _ => by rw [k1, hby]; simp [o16, o32])
    have h27 : ∃ x3, kX1 (d' + 1) 44 [.ref 0, .int 200] x2 = some (none, x3) ∧ zfr (zw ba pf lf) x2 x3 ∧ Z1 nt N M true ba pf rf lf c lm lv (((w_by_ true w_z (g_it g) ++ [o8 (nI (w_ctr op))]) ++ o16 8) ++ [o8 200]) (w_fxs true w_z (g_it g)) x3 g (w_es (21, op, 0, 0, [(0, l)]) (g_L g, [] ++ (g_st g).drop off) g) ∧ (x3.1 0 34 = 0 → x2.1 0 32 = nI ((w_by_ true w_z (g_it g)).length + 3)) := by
      obtain ⟨⟨p1, p2⟩, p3⟩ := Z1.pk (B' := []) (F' := []) r2 hq
      rcases p3 with ⟨p3, p4, p5⟩ | ⟨p3, p4⟩
      · obtain ⟨x3, e3, f3, -, r3⟩ := m_byte (d := d' + 1) (by omega) 200 r2 (Or.inr hq) (fun _ => by rw [k1, hby]; simp [o16, o32])
        refine ⟨x3, e3, f3, r3, fun _ => ?_⟩
        rw [p5.2.1.2.2.1]
        simp only [List.length_append, List.length_cons, List.length_nil, o16]
      · obtain ⟨x3, e3, f3, r3⟩ := m_octM (pf := pf) (d := d' + 1) (by omega) 200 p1.2.2.2.2.2.2.2.1 p3
        exact ⟨x3, e3, f3, ⟨p1.fr f3, p2, Or.inr (Or.inl ⟨r3, p4⟩)⟩, fun q => absurd q (by rw [r3.1]; decide)⟩
    obtain ⟨x3, e3, f3, r3, h3⟩ := h27
    obtain ⟨x4, e4, f4, r4⟩ := m_fix (d := d' + 1) (p := (w_by_ true w_z (g_it g)).length + 3) (l := l) (from_ := x2.1 0 32) (by omega) true r3 hq (by rw [knl]; exact hl) (by omega) h3 (by rw [k1, hby]; simp [o16, o32])
    rw [e1, mj_rV_k, e2, mj_rV_k, e3, mj_rV_k, show (1 : Int32) = sp_b true from rfl, e4, mj_rV_k]
    refine fin x4 (((f1.tr f2).tr f3).tr f4) (Z1.fin ?_)
    rw [hby]
    have hf : w_fxs true w_z (((21, op, 0, 0, [(0, l)]), (g_L g, g_st g)) :: g_it g) = ((((w_by_ true w_z (g_it g) ++ [o8 (nI (w_ctr op))]) ++ o16 8) ++ [o8 200]).length, (w_by_ true w_z (g_it g)).length + 3, l, true) :: w_fxs true w_z (g_it g) := by
      show ((w_by_ true w_z (g_it g)).length + 7 - 3, (w_by_ true w_z (g_it g)).length + 3, l, true) :: w_fxs true w_z (g_it g) = _
      simp only [List.length_append, List.length_cons, List.length_nil, o16]
      congr 2
    rw [hf]; exact r4
/-! stack codes -/
theorem w_ty7 {op : Nat} {F G : wF} (h : w_ty (7, op, 0, 0, []) F G) : (op = 89 → 1 ≤ F.2.length) ∧ (op = 92 → 2 ≤ F.2.length) ∧ (op = 91 → 3 ≤ F.2.length) ∧ (op = 94 → 4 ≤ F.2.length) := by
  obtain ⟨-, h⟩ := h
  rcases h with ⟨h1, a, -, h⟩ | ⟨h1, a, h⟩ | ⟨h1, a, r, h, -⟩ | ⟨h1, a, b, r, h, -⟩ | ⟨h1, a, b, e, r, h, -⟩ | ⟨h1, a, b, e, k, r, h, -⟩ <;> (have h1 : op = _ := h1; subst h1; rw [h]; simp)
theorem m_dup {d : Nat} (hd : 4 ≤ d) {t : Nat} (h8 : t ≤ 8) (h : Q1 nt N M w ba pf rf lf c lm lv x g) (hok : g_ok (w_dup t g)) : J1 nt N M w ba pf rf lf c (kX1 d 70 [.ref 0, .int (nI t)] x) x lm lv g (w_dup t g) := by
  obtain ⟨d, rfl⟩ : ∃ c, d = c + 1 := ⟨d - 1, by omega⟩
  rw [eX1_dup, sX1_placesOf (by omega), mj_rI_k, sp_pl_n h8]
  unfold w_dup at hok ⊢
  by_cases q : (w_tl t).length = 2
  · rw [q] at hok ⊢
    rw [if_pos (by rfl)]
    refine J1.end_ (m_i1 (by omega) h hok (fun q => ?_) ⟨fun _ => rfl, fun _ _ => rfl⟩)
    have this : 2 ≤ (g_st g).length := (w_ty7 (w_es_ok q hok).1).2.1 rfl
    rw [show (4 : Int32) - 2 = nI 4 - nI 2 from rfl, nI_st this]
    show nI _ = nI ((g_st g).take 2 ++ g_st g).length
    rw [List.length_append, List.length_take, Nat.min_eq_left this]; congr 1; omega
  · have e : Nat.beq (w_tl t).length 2 = false := by apply Bool.eq_false_iff.mpr; intro r; exact q (Nat.eq_of_beq_eq_true r)
    rw [e] at hok ⊢
    have hl : (w_tl t).length ≤ 2 := by rcases w_tl_d t with r | r | r <;> rw [r] <;> simp
    rw [if_neg (show ¬ nI (w_tl t).length = (2 : Int32) from fun r => q ((nI_eq (b := 2) (by omega) (by omega)).mp r))]
    refine J1.end_ (m_i1 (by omega) h hok (fun q => ?_) ⟨fun _ => rfl, fun _ _ => rfl⟩)
    have this : 1 ≤ (g_st g).length := (w_ty7 (w_es_ok q hok).1).1 rfl
    rw [show (2 : Int32) - 1 = nI 2 - nI 1 from rfl, nI_st this]
    show nI _ = nI ((g_st g).take 1 ++ g_st g).length
    rw [List.length_append, List.length_take, Nat.min_eq_left this]; congr 1; omega
theorem m_du {d : Nat} (hd : 4 ≤ d) {t : Nat} (h8 : t ≤ 8) (h : Q1 nt N M w ba pf rf lf c lm lv x g) (hok : g_ok (w_du t g)) : J1 nt N M w ba pf rf lf c (kX1 d 73 [.ref 0, .int (nI t)] x) x lm lv g (w_du t g) := by
  obtain ⟨d, rfl⟩ : ∃ c, d = c + 1 := ⟨d - 1, by omega⟩
  rw [eX1_dupBelow, sX1_placesOf (by omega), mj_rI_k, sp_pl_n h8]
  unfold w_du at hok ⊢
  by_cases q : (w_tl t).length = 2
  · rw [q] at hok ⊢
    rw [if_pos (by rfl)]
    refine J1.end_ (m_i1 (by omega) h hok (fun q => ?_) ⟨fun _ => rfl, fun _ _ => rfl⟩)
    have this : 4 ≤ (g_st g).length := (w_ty7 (w_es_ok q hok).1).2.2.2 rfl
    rw [show (6 : Int32) - 4 = nI 6 - nI 4 from rfl, nI_st this]
    show nI _ = nI ((g_st g).take 4 ++ (g_st g).take 2 ++ (g_st g).drop 4).length
    rw [List.length_append, List.length_append, List.length_take, List.length_take, List.length_drop, Nat.min_eq_left this, Nat.min_eq_left (by omega)]
  · have e : Nat.beq (w_tl t).length 2 = false := by apply Bool.eq_false_iff.mpr; intro r; exact q (Nat.eq_of_beq_eq_true r)
    rw [e] at hok ⊢
    have hl : (w_tl t).length ≤ 2 := by rcases w_tl_d t with r | r | r <;> rw [r] <;> simp
    rw [if_neg (show ¬ nI (w_tl t).length = (2 : Int32) from fun r => q ((nI_eq (b := 2) (by omega) (by omega)).mp r))]
    refine J1.end_ (m_i1 (by omega) h hok (fun q => ?_) ⟨fun _ => rfl, fun _ _ => rfl⟩)
    have this : 3 ≤ (g_st g).length := (w_ty7 (w_es_ok q hok).1).2.2.1 rfl
    rw [show (4 : Int32) - 3 = nI 4 - nI 3 from rfl, nI_st this]
    show nI _ = nI ((g_st g).take 3 ++ (g_st g).take 1 ++ (g_st g).drop 3).length
    rw [List.length_append, List.length_append, List.length_take, List.length_take, List.length_drop, Nat.min_eq_left this, Nat.min_eq_left (by omega)]
theorem m_d2 {d : Nat} (hd : 3 ≤ d) (h : Q1 nt N M w ba pf rf lf c lm lv x g) (hok : g_ok (w_d2 g)) : J1 nt N M w ba pf rf lf c (kX1 d 42 [.ref 0, .int 92, .int 2, .int 4] x) x lm lv g (w_d2 g) := by
  refine m_i1 (by omega) h hok (fun q => ?_) ⟨fun _ => rfl, fun _ _ => rfl⟩
  have this : 2 ≤ (g_st g).length := (w_ty7 (w_es_ok q hok).1).2.1 rfl
  rw [show (4 : Int32) - 2 = nI 4 - nI 2 from rfl, nI_st this]
  show nI _ = nI ((g_st g).take 2 ++ g_st g).length
  rw [List.length_append, List.length_take, Nat.min_eq_left this]; congr 1; omega
/-! elements, operators, casts -/
theorem sp_el_n {a : Nat} (h1 : 5 ≤ a) (h2 : a ≤ 8) : sp_el (nI a) = nI (w_el a) := by
  have : a = 5 ∨ a = 6 ∨ a = 7 ∨ a = 8 := by omega
  rcases this with rfl | rfl | rfl | rfl <;> rfl
theorem m_el {d : Nat} (hd : 4 ≤ d) {a : Nat} (h1 : 5 ≤ a) (h2 : a ≤ 8) (h : Q1 nt N M w ba pf rf lf c lm lv x g) (b : Bool) (hok : g_ok (bif b then w_est a g else w_eld a g)) : J1 nt N M w ba pf rf lf c (kX1 d 72 [.ref 0, .int (nI a), .int (sp_b b)] x) x lm lv g (bif b then w_est a g else w_eld a g) := by
  obtain ⟨d, rfl⟩ : ∃ c, d = c + 1 := ⟨d - 1, by omega⟩
  have hr := w_el_r a
  rw [eX1_element, sX1_elementOf (by omega), mj_rI_k, sp_el_n h1 h2, sX1_placesOf (by omega), mj_rI_k, sp_pl_n (by omega)]
  have key : ∀ s0 : Int32, s0 = nI (46 + w_arl a) → J1 nt N M w ba pf rf lf c (rX1_element d (45, [some (.ref 0), some (.int (nI a)), some (.int (sp_b b)), some (.int (nI (w_el a))), some (.int (nI (w_tl (w_el a)).length)), none], [.int s0], x)) x lm lv g (bif b then w_est a g else w_eld a g) := by
    intro s0 hs0
    rw [bX1_element_45]
    cases b
    · rw [if_pos (by decide)]
      exact J1.end_ (m_e1 (by omega) h hok rfl rfl ⟨fun _ => by rw [hs0]; rfl, fun _ _ => rfl⟩)
    · rw [if_neg (by decide)]
      exact J1.end_ (m_e1 (by omega) h hok (by rw [show (2 : Int32) = nI 2 from rfl, nI_add]) rfl ⟨fun _ => by rw [hs0, show (33 : Int32) = nI 33 from rfl, nI_add]; show [o8 (nI (79 + w_arl a))] = [o8 (nI (46 + w_arl a + 33))]; rw [show 79 + w_arl a = 46 + w_arl a + 33 by omega], fun _ _ => rfl⟩)
  have : a = 5 ∨ a = 6 ∨ a = 7 ∨ a = 8 := by omega
  rcases this with rfl | rfl | rfl | rfl
  · rw [if_pos (by rfl)]; exact key 51 rfl
  · rw [if_neg (by decide), if_pos (by rfl)]; exact key 46 rfl
  · rw [if_neg (by decide), if_neg (by decide), if_pos (by rfl)]; exact key 47 rfl
  · rw [if_neg (by decide), if_neg (by decide), if_neg (by decide)]; exact key 49 rfl
theorem m_bin {d : Nat} (hd : 4 ≤ d) {k t : Nat} (hk1 : 10 ≤ k) (hk2 : k ≤ 20) (ht1 : 1 ≤ t) (ht2 : t ≤ 4) (h : Q1 nt N M w ba pf rf lf c lm lv x g) (hok : g_ok (w_bin k t g)) : J1 nt N M w ba pf rf lf c (kX1 d 41 [.ref 0, .int (nI k), .int (nI t)] x) x lm lv g (w_bin k t g) := by
  obtain ⟨d, rfl⟩ : ∃ c, d = c + 1 := ⟨d - 1, by omega⟩
  rw [eX1_operate, sX1_placesOf (by omega), mj_rI_k, sp_pl_n (by omega)]
  unfold w_bin at hok ⊢
  have two : (2 : Int32) * nI (w_tl t).length = nI (2 * (w_tl t).length) := nI_mul 2 _
  by_cases q1 : k ≤ 14
  · rw [if_neg (show ¬ (14 : Int32) < nI k from nI_nlt (a := 14) (by omega) (by omega))]
    have hb : Nat.ble 18 k = false := by rw [← Bool.not_eq_true, Nat.ble_eq]; omega
    rw [hb] at hok ⊢
    refine J1.end_ (m_e1 (by omega) h hok two rfl ⟨fun _ => ?_, fun _ _ => rfl⟩)
    show [o8 (nI (w_bop k t))] = _
    rw [show nI k - 10 = nI (k - 10) from nI_sub (b := 10) hk1, show (4 : Int32) * nI (k - 10) = nI (4 * (k - 10)) from nI_mul 4 _, show (96 : Int32) + nI (4 * (k - 10)) = nI (96 + 4 * (k - 10)) from nI_add 96 _, nI_add, show nI (96 + 4 * (k - 10) + t) - 1 = nI (96 + 4 * (k - 10) + t - 1) from nI_sub (b := 1) (by omega)]
    unfold w_bop; rw [if_neg (by omega), if_neg (by omega), show 96 + 4 * (k - 10) + t - 1 = 96 + 4 * (k - 10) + (t - 1) by omega]
  · rw [if_pos (show (14 : Int32) < nI k from nI_lt (a := 14) (by omega) (by omega))]
    by_cases q2 : k ≤ 17
    · rw [if_neg (show ¬ (17 : Int32) < nI k from nI_nlt (a := 17) (by omega) (by omega))]
      have hb : Nat.ble 18 k = false := by rw [← Bool.not_eq_true, Nat.ble_eq]; omega
      rw [hb] at hok ⊢
      refine J1.end_ (m_e1 (by omega) h hok two rfl ⟨fun _ => ?_, fun _ _ => rfl⟩)
      show [o8 (nI (w_bop k t))] = _
      rw [show nI k - 15 = nI (k - 15) from nI_sub (b := 15) (by omega), show (2 : Int32) * nI (k - 15) = nI (2 * (k - 15)) from nI_mul 2 _, show (126 : Int32) + nI (2 * (k - 15)) = nI (126 + 2 * (k - 15)) from nI_add 126 _, nI_add, show nI (126 + 2 * (k - 15) + t) - 1 = nI (126 + 2 * (k - 15) + t - 1) from nI_sub (b := 1) (by omega)]
      unfold w_bop; rw [if_neg (by omega), if_pos (by omega), show 126 + 2 * (k - 15) + t - 1 = 126 + 2 * (k - 15) + (t - 1) by omega]
    · rw [if_pos (show (17 : Int32) < nI k from nI_lt (a := 17) (by omega) (by omega))]
      have hb : Nat.ble 18 k = true := Nat.ble_eq_true_of_le (by omega)
      rw [hb] at hok ⊢
      refine J1.end_ (m_e1 (by omega) h hok (nI_1 _) rfl ⟨fun _ => ?_, fun _ _ => rfl⟩)
      show [o8 (nI (w_bop k t))] = _
      rw [show nI k - 18 = nI (k - 18) from nI_sub (b := 18) (by omega), show (2 : Int32) * nI (k - 18) = nI (2 * (k - 18)) from nI_mul 2 _, show (120 : Int32) + nI (2 * (k - 18)) = nI (120 + 2 * (k - 18)) from nI_add 120 _, nI_add, show nI (120 + 2 * (k - 18) + t) - 1 = nI (120 + 2 * (k - 18) + t - 1) from nI_sub (b := 1) (by omega)]
      unfold w_bop; rw [if_pos (by omega), show 120 + 2 * (k - 18) + t - 1 = 120 + 2 * (k - 18) + (t - 1) by omega]
end
