/-! CodeWriter: jumps that have a condition -/
section
variable {nt : sp_NT} {N : Nat} {P : yP} {X : List (Nat × Bool)} {b : Nat} {lm lm' : Nat → Nat} {lv lv' : Nat → Bool} {x y : mj_X} {g h G H : wG}
theorem w_br_f {op off l : Nat} (hq : w_q g = true) : w_br op off l g = g := by unfold w_br; rw [hq]; rfl
theorem ctr_e {op : Nat} (h1 : 153 ≤ op) (h2 : op ≤ 164) : ((nI op - (1 : Int32)) ^^^ (1 : Int32)) + (1 : Int32) = nI (w_ctr op) := by
  have : op = 153 ∨ op = 154 ∨ op = 155 ∨ op = 156 ∨ op = 157 ∨ op = 158 ∨ op = 159 ∨ op = 160 ∨ op = 161 ∨ op = 162 ∨ op = 163 ∨ op = 164 := by omega
  rcases this with rfl | rfl | rfl | rfl | rfl | rfl | rfl | rfl | rfl | rfl | rfl | rfl <;> decide
theorem c_br {d l op off : Nat} (hd : 7 ≤ d) (h1 : 153 ≤ op) (h2 : op ≤ 164) (a : Y1 nt N P X b lm lv x g) (hl : l < g_nl g) (hv : lv l = true) : ∃ x', kX0 d 74 [.ref 0, .int (nI op), .int (nI (lm l))] x = some (none, x') ∧ Y1 nt N P X b lm lv x' (w_br op off l g) ∧ yfr (yw (p_pf P) (p_lf P)) (p_pf P) x x' ∧ (x'.1 0 29 = 0 → x.1 0 29 = 0 ∧ yT x g x' (w_br op off l g)) := by
  obtain ⟨d, rfl⟩ : ∃ c, d = c + 1 := ⟨d - 1, by omega⟩
  rw [eX0_jumpIf]
  have hctr : ∀ y : mj_X, kX0 d 73 [.int (nI op)] y = some (some (.int (nI (w_ctr op))), y) := by
    intro y
    obtain ⟨d', rfl⟩ : ∃ e, d = e + 1 := ⟨d - 1, by omega⟩
    rw [eX0_contrary, ctr_e h1 h2]
  by_cases hl0 : yq x
  · have e : ∀ r : mj_R, r = some (none, x) → (if x.1 0 31 = 0 then mj_rV (kX0 d 37 [.ref 0, .int (nI op)] x) fun x1 => mj_rV (kX0 d 68 [.ref 0, .int (x.1 0 28), .int (nI (lm l)), .int (0 : Int32)] x1) fun x2 => some (none, x2)
      else mj_rI (kX0 d 73 [.int (nI op)] x) fun v4 x3 => mj_rV (kX0 d 37 [.ref 0, .int v4] x3) fun x5 => mj_rV (kX0 d 42 [.ref 0, .int (8 : Int32)] x5) fun x6 => mj_rV (kX0 d 37 [.ref 0, .int (200 : Int32)] x6) fun x7 => mj_rV (kX0 d 68 [.ref 0, .int (x6.1 0 28), .int (nI (lm l)), .int (1 : Int32)] x7) fun x8 => some (none, x8)) = r := by
      intro r hr
      rw [hr, hctr, mj_rI_k, c_codeq (by omega) hl0, c_codeq (by omega) hl0, mj_rV_k, mj_rV_k, c_offq (by omega) hl0, mj_rV_k, e42 (d := d) (by omega) 8 x hl0, mj_rV_k, c_codeq (by omega) hl0, mj_rV_k, c_offq (by omega) hl0, mj_rV_k]
      split <;> rfl
    rw [e _ rfl]
    by_cases h0 : x.1 0 29 = 0
    · obtain ⟨h30, hal, hq⟩ := a.dead hl0 h0
      rw [w_br_f hq]
      exact ⟨x, rfl, a, yfr.rf _ _ _, fun z => ⟨z, yT.rf rfl rfl rfl⟩⟩
    · obtain ⟨m1, m2, m3⟩ := a.mc h0
      exact ⟨x, rfl, ⟨by rw [w_br_n.2]; exact a.1, a.2.1, a.2.2.1, Or.inr ⟨m1, by rw [w_br_n.1]; exact m2, m3.mono ((wM.rf g).br op off l)⟩⟩, yfr.rf _ _ _, fun z => absurd z h0⟩
  · obtain ⟨h29, h30, hq⟩ := a.live hl0
    obtain ⟨hL, o1, o2, o3, o4, ⟨b1, b2, b3, b4⟩, o6, o7, o8_, o9⟩ := a.ex h29
    obtain ⟨d', rfl⟩ : ∃ e, d = e + 1 := ⟨d - 1, by omega⟩
    have eg : w_br op off l g = w_come l (s_ok (off ≤ (g_st g).length) (w_es (21, op, 0, 0, [(0, l)]) (g_L g, [] ++ (g_st g).drop off) g)) := by unfold w_br w_em; rw [hq]; rfl
    have k1 := (w_es_f (i := (21, op, 0, 0, [(0, l)])) (F := (g_L g, [] ++ (g_st g).drop off)) hq).1
    have lnl : (g_it g).length < (g_it (w_br op off l g)).length := by rw [eg]; show _ < (g_it (w_es _ _ g)).length; rw [k1]; simp
    have fin : ∀ z : mj_X, Y1 nt N P X b lm lv z (w_come l (w_es (21, op, 0, 0, [(0, l)]) (g_L g, [] ++ (g_st g).drop off) g)) → yfr (yw (p_pf P) (p_lf P)) (p_pf P) x z → x.1 0 48 ≤ z.1 0 48 → (z.1 0 29 = 0 → ¬ x.1 0 47 = -1 → x.1 0 48 < z.1 0 48) → Y1 nt N P X b lm lv z (w_br op off l g) ∧ yfr (yw (p_pf P) (p_lf P)) (p_pf P) x z ∧ (z.1 0 29 = 0 → x.1 0 29 = 0 ∧ yT x g z (w_br op off l g)) := by
      intro z hz fz t1 t2
      exact ⟨by rw [eg]; exact hz, fz, fun q => ⟨h29, Or.inr ⟨lnl, t1, t2 q⟩⟩⟩
    -- bytes w are more than those of the item
    have overB : ∀ (n : Nat), n ≤ (w_by_ (p_w P) w_z (((21, op, 0, 0, [(0, l)]), (g_L g, g_st g)) :: g_it g)).length → (65535 < n ∨ 90000 < p_cf P + n) → c_over P (w_es (21, op, 0, 0, [(0, l)]) (g_L g, [] ++ (g_st g).drop off) g) := by
      intro n hn h
      rcases h with h | h
      · left; right; left; rw [k1]; omega
      · right; rw [k1]; omega
    have h3 := w_fxs_len (p_w P) w_z (g_it g)
    rw [o4]
    cases hw : p_w P
    · -- two bytes
      rw [if_pos (show sp_b false = 0 from rfl)]
      have hby : w_by_ (p_w P) w_z (((21, op, 0, 0, [(0, l)]), (g_L g, g_st g)) :: g_it g) = w_by_ (p_w P) w_z (g_it g) ++ [o8 (nI op)] ++ o16 0 := by
        show w_by_ (p_w P) w_z (g_it g) ++ w_enc (p_w P) w_z _ _ = _
        rw [hw, List.append_assoc]; rfl
      have hfx : w_fxs (p_w P) w_z (((21, op, 0, 0, [(0, l)]), (g_L g, g_st g)) :: g_it g) = ((w_by_ (p_w P) w_z (g_it g) ++ [o8 (nI op)]).length, (w_by_ (p_w P) w_z (g_it g)).length, l, false) :: w_fxs (p_w P) w_z (g_it g) := by
        show w_fx (p_w P) _ _ _ = _
        rw [hw, List.length_append]; rfl
      obtain ⟨y, hy, fy, ⟨y30, y31, y28, y43, y37, y38, yy36, yy37⟩, t1, t2, t, t3, t4⟩ := c_line (d := d') (cc := nI op) a hl0
      have hLy : yL X (g_nl g) lm lv y (g_us g + X.length) := hL.fr y37 y38 yy36 yy37
      rcases hy with ⟨r1, r2, r3⟩ | ⟨r1, r2⟩
      · have yqy : yq y := Or.inr (by rw [r2]; decide)
        rw [r1, mj_rV_k, c_offq (by omega) yqy, mj_rV_k]
        refine ⟨_, rfl, fin y (c_jfin a hq h29 fy hLy (y30.trans h30) y31 y43 ⟨t, t3, t4⟩ (Or.inr ⟨r2, ?_, ⟨_, b2, y28.trans b1⟩⟩)) fy t1 (fun q => absurd q (by rw [r2]; decide))⟩
        left; right; right; right
        rw [(w_es_f hq).2.2.2.2.2.2.1]; exact r3
      · rw [r1, bX0_code_141]
        have EKc := ((EK.emit (w := p_w P) (M := p_M P) (cf := p_cf P) (d := d') (by omega) (nI op)).seq (EK.id_ _ _ _))
        have hE : eE (p_M P) (p_cf P) y := (a.1.fr fy).2.1
        obtain ⟨z, z1, zm⟩ := EKc.2 y _ hE r2.2.2.2.1
        rw [show mj_rV (kX0 d' 38 [.ref 0, .int (nI op)] y) (fun x1 => some (none, x1)) = some (none, z) from z1, mj_rV_k]
        have fz := fy.tr (yb_yw (pf := p_pf P) (lf := p_lf P) zm.1 zm.2.1)
        have ez := zm.1.1
        have hLz : yL X (g_nl g) lm lv z (g_us g + X.length) := hLy.fr (ez 0 37 rfl) (ez 0 38 rfl) (funext fun j => ez 36 j rfl) (funext fun j => ez 37 j rfl)
        rcases r2.em zm with m | ⟨m1, m2, m3⟩
        · rw [List.append_nil] at m
          have hLF : 3 * (w_fxs (p_w P) w_z (g_it g)).length + 1 ≤ (w_by_ (p_w P) w_z (g_it g) ++ [o8 (nI op)]).length := by rw [List.length_append]; simp only [List.length_cons, List.length_nil]; omega
          obtain ⟨z', e', f', ⟨g30, g31, g43, g48, g47⟩, gL, gz⟩ := c_off (d := d' + 1) (l := l) (from_ := (w_by_ (p_w P) w_z (g_it g)).length) (nl := 0) (by omega) false (hE.yb zm.1) m hLz hl hv hLF
          rw [b1, show (0 : Int32) = sp_b false from rfl, e', mj_rV_k]
          have z48 : z'.1 0 48 = y.1 0 48 := g48.trans (ez 0 48 rfl)
          refine ⟨_, rfl, fin z' ?_ (fz.tr f') (by rw [z48]; exact t1) (fun q q2 => by rw [z48]; exact t2 q2 r2.2.2.2.1.1)⟩
          refine c_jfin a hq h29 (fz.tr f') gL (g30.trans m.2.2.2.1.2.1) (g31.trans ((ez 0 31 rfl).trans y31)) (g43.trans ((ez 0 43 rfl).trans y43)) ⟨t, z48.trans t3, t4⟩ ?_
          rcases gz with gz | ⟨gz1, gz2, gz3⟩
          · left; rw [hby, hfx]; exact gz
          · right
            refine ⟨gz1, overB _ (Nat.le_refl _) ?_, gz3⟩
            rw [hby]; exact gz2
        · have yqz : yq z := Or.inr (by rw [m1]; decide)
          rw [c_offq (by omega) yqz, mj_rV_k]
          refine ⟨_, rfl, fin z (c_jfin a hq h29 fz hLz ((ez 0 30 rfl).trans (y30.trans h30)) ((ez 0 31 rfl).trans y31) ((ez 0 43 rfl).trans y43) ⟨t, (ez 0 48 rfl).trans t3, t4⟩ (Or.inr ⟨m1, overB _ ?_ m2, m3⟩)) fz (by rw [ez 0 48 rfl]; exact t1) (fun q => absurd q (by rw [m1]; decide))⟩
          rw [hby]; simp only [List.length_append, List.length_cons, List.length_nil]; omega
    · -- four bytes
      rw [if_neg (show ¬ sp_b true = 0 by decide), hctr, mj_rI_k]
      have hby : w_by_ (p_w P) w_z (((21, op, 0, 0, [(0, l)]), (g_L g, g_st g)) :: g_it g) = w_by_ (p_w P) w_z (g_it g) ++ [o8 (nI (w_ctr op))] ++ o16 8 ++ [o8 200] ++ o32 0 := by
        show w_by_ (p_w P) w_z (g_it g) ++ w_enc (p_w P) w_z _ _ = _
        rw [hw, List.append_assoc, List.append_assoc, List.append_assoc]; rfl
      have hfx : w_fxs (p_w P) w_z (((21, op, 0, 0, [(0, l)]), (g_L g, g_st g)) :: g_it g) = ((w_by_ (p_w P) w_z (g_it g) ++ [o8 (nI (w_ctr op))] ++ o16 8 ++ [o8 200]).length, (w_by_ (p_w P) w_z (g_it g)).length + 3, l, true) :: w_fxs (p_w P) w_z (g_it g) := by
        show w_fx (p_w P) _ _ _ = _
        rw [hw]
        show ((w_by_ true w_z (g_it g)).length + 7 - 3, (w_by_ true w_z (g_it g)).length + 3, l, true) :: _ = _
        simp only [List.length_append, List.length_cons, List.length_nil, o16]
        rfl
      have lby : (w_by_ (p_w P) w_z (((21, op, 0, 0, [(0, l)]), (g_L g, g_st g)) :: g_it g)).length = (w_by_ (p_w P) w_z (g_it g)).length + 8 := by
        rw [hby]; simp only [List.length_append, List.length_cons, List.length_nil, o16, o32]
      obtain ⟨y, hy, fy, ⟨y30, y31, y28, y43, y37, y38, yy36, yy37⟩, t1, t2, t, t3, t4⟩ := c_line (d := d') (cc := nI (w_ctr op)) a hl0
      have hLy : yL X (g_nl g) lm lv y (g_us g + X.length) := hL.fr y37 y38 yy36 yy37
      -- much before the jump: nothing more is written
      have mq : ∀ z : mj_X, z.1 0 29 = 1 → ∀ v : Int32, mj_rV (kX0 (d' + 1) 68 [.ref 0, .int v, .int (nI (lm l)), .int (1 : Int32)] z) (fun x8 => some (none, x8)) = some (none, z) := by
        intro z hz v
        rw [c_offq (by omega) (Or.inr (by rw [hz]; decide)), mj_rV_k]
      rcases hy with ⟨r1, r2, r3⟩ | ⟨r1, r2⟩
      · have yqy : yq y := Or.inr (by rw [r2]; decide)
        rw [r1, mj_rV_k, e42 (d := d' + 1) (by omega) 8 y yqy, mj_rV_k, c_codeq (by omega) yqy, mj_rV_k, mq y r2]
        refine ⟨_, rfl, fin y (c_jfin a hq h29 fy hLy (y30.trans h30) y31 y43 ⟨t, t3, t4⟩ (Or.inr ⟨r2, ?_, ⟨_, b2, y28.trans b1⟩⟩)) fy t1 (fun q => absurd q (by rw [r2]; decide))⟩
        left; right; right; right
        rw [(w_es_f hq).2.2.2.2.2.2.1]; exact r3
      · rw [r1, bX0_code_141]
        have hE : eE (p_M P) (p_cf P) y := (a.1.fr fy).2.1
        have EKc := ((EK.emit (w := p_w P) (M := p_M P) (cf := p_cf P) (d := d') (by omega) (nI (w_ctr op))).seq (EK.id_ _ _ _))
        obtain ⟨z, z1, zm⟩ := EKc.2 y _ hE r2.2.2.2.1
        rw [show mj_rV (kX0 d' 38 [.ref 0, .int (nI (w_ctr op))] y) (fun x1 => some (none, x1)) = some (none, z) from z1, mj_rV_k]
        have fz := fy.tr (yb_yw (pf := p_pf P) (lf := p_lf P) zm.1 zm.2.1)
        have ez := zm.1.1
        have hLz : yL X (g_nl g) lm lv z (g_us g + X.length) := hLy.fr (ez 0 37 rfl) (ez 0 38 rfl) (funext fun j => ez 36 j rfl) (funext fun j => ez 37 j rfl)
        have out : ∀ (z0 : mj_X) (n : Nat), yfr (yw (p_pf P) (p_lf P)) (p_pf P) x z0 → (∀ k j, yb k j = false → z0.1 k j = y.1 k j) → z0.1 0 29 = 1 → n ≤ (w_by_ (p_w P) w_z (g_it g)).length + 8 → (65535 < n ∨ 90000 < p_cf P + n) → (∃ n, n ≤ 65535 ∧ z0.1 0 28 = nI n) → Y1 nt N P X b lm lv z0 (w_br op off l g) ∧ yfr (yw (p_pf P) (p_lf P)) (p_pf P) x z0 ∧ (z0.1 0 29 = 0 → x.1 0 29 = 0 ∧ yT x g z0 (w_br op off l g)) := by
          intro z0 n f0 e0 m0 hn ho h28
          refine fin z0 (c_jfin a hq h29 f0 (hLy.fr (e0 0 37 rfl) (e0 0 38 rfl) (funext fun j => e0 36 j rfl) (funext fun j => e0 37 j rfl)) ((e0 0 30 rfl).trans (y30.trans h30)) ((e0 0 31 rfl).trans y31) ((e0 0 43 rfl).trans y43) ⟨t, (e0 0 48 rfl).trans t3, t4⟩ (Or.inr ⟨m0, overB n (by rw [lby]; exact hn) ho, h28⟩)) f0 (by rw [e0 0 48 rfl]; exact t1) (fun q => absurd q (by rw [m0]; decide))
        rcases r2.em zm with m | ⟨m1, m2, m3⟩
        · rw [List.append_nil] at m
          have hEz := hE.yb zm.1
          obtain ⟨v, v1, vm⟩ := (EK.two (w := p_w P) (M := p_M P) (cf := p_cf P) (d := d' + 1) (by omega) 8).2 z _ hEz m.2.2.2.1
          rw [show kX0 (d' + 1) 42 [.ref 0, .int (8 : Int32)] z = some (none, v) from v1, mj_rV_k]
          have fv := fz.tr (yb_yw (pf := p_pf P) (lf := p_lf P) vm.1 vm.2.1)
          have ev : ∀ k j, yb k j = false → v.1 k j = y.1 k j := fun k j h => (vm.1.1 k j h).trans (ez k j h)
          rcases m.em vm with n | ⟨n1, n2, n3⟩
          · obtain ⟨q, q1, qm⟩ := c_code2 (d := d' + 1) (by omega) 200 (hEz.yb vm.1) n.2.2.2.1 n.2.2.2.2.2.2.2.2.1
            rw [q1, mj_rV_k]
            have fq := fv.tr (yb_yw (pf := p_pf P) (lf := p_lf P) qm.1 qm.2.1)
            have eq : ∀ k j, yb k j = false → q.1 k j = y.1 k j := fun k j h => (qm.1.1 k j h).trans (ev k j h)
            have hv28 : v.1 0 28 = nI ((w_by_ (p_w P) w_z (g_it g)).length + 3) := by
              rw [n.2.2.2.1.2.2.2.1]; congr 1; simp only [List.length_append, List.length_cons, List.length_nil, o16]
            rcases n.em qm with k | ⟨k1', k2', k3'⟩
            · have hLq : yL X (g_nl g) lm lv q (g_us g + X.length) := hLy.fr (eq 0 37 rfl) (eq 0 38 rfl) (funext fun j => eq 36 j rfl) (funext fun j => eq 37 j rfl)
              have hLF : 3 * (w_fxs (p_w P) w_z (g_it g)).length + 1 ≤ (w_by_ (p_w P) w_z (g_it g) ++ [o8 (nI (w_ctr op))] ++ o16 8 ++ [o8 200]).length := by simp only [List.length_append, List.length_cons, List.length_nil, o16]; omega
              obtain ⟨z', e', f', ⟨g30, g31, g43, g48, g47⟩, gL, gz⟩ := c_off (d := d' + 1) (l := l) (from_ := (w_by_ (p_w P) w_z (g_it g)).length + 3) (nl := 0) (by omega) true ((hEz.yb vm.1).yb qm.1) k hLq hl hv hLF
              rw [hv28, show (1 : Int32) = sp_b true from rfl, e', mj_rV_k]
              have z48 : z'.1 0 48 = y.1 0 48 := g48.trans (eq 0 48 rfl)
              refine ⟨_, rfl, fin z' ?_ (fq.tr f') (by rw [z48]; exact t1) (fun q q2 => by rw [z48]; exact t2 q2 r2.2.2.2.1.1)⟩
              refine c_jfin a hq h29 (fq.tr f') gL (g30.trans k.2.2.2.1.2.1) (g31.trans ((eq 0 31 rfl).trans y31)) (g43.trans ((eq 0 43 rfl).trans y43)) ⟨t, z48.trans t3, t4⟩ ?_
              rcases gz with gz | ⟨gz1, gz2, gz3⟩
              · left; rw [hby, hfx]; exact gz
              · right
                refine ⟨gz1, overB _ (Nat.le_refl _) ?_, gz3⟩
                rw [hby]; exact gz2
            · rw [mq q k1']
              exact ⟨_, rfl, out q _ fq eq k1' (by simp only [List.length_append, List.length_cons, List.length_nil, o16]; omega) k2' k3'⟩
          · have yqv : yq v := Or.inr (by rw [n1]; decide)
            rw [c_codeq (by omega) yqv, mj_rV_k, mq v n1]
            exact ⟨_, rfl, out v _ fv ev n1 (by simp only [List.length_append, List.length_cons, List.length_nil, o16]; omega) n2 n3⟩
        · have yqz : yq z := Or.inr (by rw [m1]; decide)
          rw [e42 (d := d' + 1) (by omega) 8 z yqz, mj_rV_k, c_codeq (by omega) yqz, mj_rV_k, mq z m1]
          exact ⟨_, rfl, out z _ fz ez m1 (by simp only [List.length_append, List.length_cons, List.length_nil]; omega) m2 m3⟩
end
