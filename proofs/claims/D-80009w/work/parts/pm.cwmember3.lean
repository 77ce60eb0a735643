theorem bd_1 {t c b : Nat} (h : t ≤ 140000 * c + b + 65536) : t ≤ 140000 * c + (b + 66000) := Nat.le_trans h (by rw [Nat.add_assoc]; exact Nat.add_le_add_left (Nat.add_le_add_left (by decide) b) _)
theorem bd_2 {t c b : Nat} (h : t ≤ 140000 * c + b + 60002) : t ≤ 140000 * c + (b + 66000) := Nat.le_trans h (by rw [Nat.add_assoc]; exact Nat.add_le_add_left (Nat.add_le_add_left (by decide) b) _)
theorem w_fes_true (p : Nat) : ∀ (l : List (Int32 × Nat)) (a s : Nat) (r : List (Nat × Nat × Nat × Bool)), (∀ q, q ∈ r → q.2.2.2 = true) → ∀ q, q ∈ w_fes p a s l r → q.2.2.2 = true := by
  intro l
  induction l with
  | nil => intro a s r h q hq; exact h q hq
  | cons e l ih => intro a s r h q hq; exact ih _ _ _ (fun q hq => (List.mem_cons.mp hq).elim (fun e => by rw [e]) (h q)) q hq
theorem w_fxs_true (o : Nat → Nat → Int32) : ∀ (l : List (wI × wF)) (q : Nat × Nat × Nat × Bool), q ∈ w_fxs true o l → q.2.2.2 = true := by
  intro l
  induction l with
  | nil => intro q h; cases h
  | cons i r ih =>
    intro q h
    unfold w_fxs w_fx at h
    have one : ∀ e : Nat × Nat × Nat × Bool, e.2.2.2 = true → q ∈ e :: w_fxs true o r → q.2.2.2 = true := fun e he hq => (List.mem_cons.mp hq).elim (fun x => by rw [x]; exact he) (ih q)
    split at h
    · exact one _ rfl h
    · exact one _ rfl h
    · split at h
      · exact ih q h
      · exact w_fes_true _ _ _ _ _ (fun q hq => (List.mem_cons.mp hq).elim (fun x => by rw [x]) (ih q)) q h
    · split at h
      · exact ih q h
      · exact w_fes_true _ _ _ _ _ (fun q hq => (List.mem_cons.mp hq).elim (fun x => by rw [x]) (ih q)) q h
    · exact ih q h
theorem set6_w {u : mj_X} {i : Nat} : mj_wI u 6 i 1 = ((fun k => if k = 6 then (fun j => if j = i then 1 else u.1 6 j) else u.1 k, u.2) : mj_X) := by
  apply Prod.ext
  · funext k
    show _ = if k = 6 then _ else u.1 k
    by_cases q : k = 6
    · subst q; rw [mj_wI_y, if_pos rfl]; rfl
    · rw [mj_wI_n q, if_neg q]
  · rfl
theorem set6_w2 {u : mj_X} {i j : Nat} : mj_wI (mj_wI u 6 i 1) 6 j 1 = ((fun k => if k = 6 then (fun l => if l = j then 1 else if l = i then 1 else u.1 6 l) else u.1 k, u.2) : mj_X) := by
  apply Prod.ext
  · funext k
    show _ = if k = 6 then _ else u.1 k
    by_cases q : k = 6
    · subst q; rw [mj_wI_y, mj_wI_y, if_pos rfl]; rfl
    · rw [mj_wI_n q, mj_wI_n q, if_neg q]
  · rfl
section
variable {nt : sp_NT} {N M c : Nat} {res par bod D : Nat → Int32} {G : uG} {x y z : mj_X} {T : Nat → List Nat}
theorem cw_sc_K {cf pf rf lf : Nat} (b : mj_X) (s : sp_SS) : yfr (cK cf pf rf lf) pf b (cw_sc b s) := ⟨fun k j h => by
  show (if k = 0 ∧ j = 26 then nI s.1 else if k = 25 then sp_b (s.2.1 j) else if k = 26 then s.2.2 j else b.1 k j) = b.1 k j
  rw [if_neg (fun q => by rw [q.1, q.2] at h; cases h), if_neg (fun q => by rw [q] at h; cases h), if_neg (fun q => by rw [q] at h; cases h)], fun _ _ _ => rfl⟩
theorem cw_sc_C (b : mj_X) (s : sp_SS) : yfr zC 0 b (cw_sc b s) := ⟨fun k j h => by
  show (if k = 0 ∧ j = 26 then nI s.1 else if k = 25 then sp_b (s.2.1 j) else if k = 26 then s.2.2 j else b.1 k j) = b.1 k j
  rw [if_neg (fun q => by rw [q.1, q.2] at h; cases h), if_neg (fun q => by rw [q] at h; cases h), if_neg (fun q => by rw [q] at h; cases h)], fun _ _ _ => rfl⟩
/-- member() of CodeWriter -/
theorem k_member {d : Nat} (hd : 1480 ≤ d) (hT : wTb nt N M res par) (hN : N ≤ 64) (t : oTs nt N T) (hU : cwU nt N M res par bod D G c x) (hB : uBd M G) (hc : c ≤ 63) (a1 a2 a3 : Int32) {o : Option Bool} (ho : u_way (uCf G M) (uRf G M) (uLf G M) (wW nt a1 a2 a3) o) (hms : ∀ w, (u_ans nt N M D a1 a2 a3 o).2 = some w → g_ms (wW nt a1 a2 a3) < 10000) :
    ∃ z, kX0 (d + 1) 24 [.ref 0, .int a1, .int a2, .int a3] x = some (some (.int (u_ans nt N M D a1 a2 a3 o).1), z) ∧ yfr zC 0 x z
      ∧ ((u_ans nt N M D a1 a2 a3 o).2 = none → cwU nt N M res par bod (u_D nt N D a1 a2 a3) G (c + 1) z)
      ∧ ∀ w, (u_ans nt N M D a1 a2 a3 o).2 = some w → cwU (sp_mk nt a2 a3) N (M + 1) (upd res M a1) (upd par M a2) (upd bod M a3) (u_D nt N D a1 a2 a3) (uAdd G M (wW nt a1 a2 a3, w)) (c + 1) z := by
  have hx : cw_T x nt N := hU.1
  obtain ⟨t48, x48, b48⟩ := hU.2.2.2.2.2.1
  obtain ⟨t66, x66, b66⟩ := hU.2.2.2.2.2.2.1
  have bad : ∀ (v : Int32) (r : mj_R) (z : mj_X), r = some (some (.int v), z) → u_ans nt N M D a1 a2 a3 o = (v, none) → yfr zC 0 x z → cwU nt N M res par bod (u_D nt N D a1 a2 a3) G (c + 1) z →
      ∃ z, r = some (some (.int (u_ans nt N M D a1 a2 a3 o).1), z) ∧ yfr zC 0 x z
      ∧ ((u_ans nt N M D a1 a2 a3 o).2 = none → cwU nt N M res par bod (u_D nt N D a1 a2 a3) G (c + 1) z)
      ∧ ∀ w, (u_ans nt N M D a1 a2 a3 o).2 = some w → cwU (sp_mk nt a2 a3) N (M + 1) (upd res M a1) (upd par M a2) (upd bod M a3) (u_D nt N D a1 a2 a3) (uAdd G M (wW nt a1 a2 a3, w)) (c + 1) z := by
    intro v r z h1 h3 h4 h5
    exact ⟨z, by rw [h3]; exact h1, h4, fun _ => h5, fun w hw => by rw [h3] at hw; cases hw⟩
  have keep0 : u_good nt N a1 a2 a3 = false → cwU nt N M res par bod (u_D nt N D a1 a2 a3) G (c + 1) x := fun hg => by
    have e : u_D nt N D a1 a2 a3 = D := by unfold u_D; rw [hg]; rfl
    rw [e]
    exact hU.keep (Nat.le_succ c) (yfr.rf _ _ _) hU.2.2.2.1 hU.2.2.2.2.1 ⟨t48, x48, by omega⟩ ⟨t66, x66, by omega⟩
  have notgood : u_good nt N a1 a2 a3 = false → ∀ r : mj_R, r = some (some (Value.int (-1 : Int32)), x) → _ := fun hg r hr => bad (-1) r x hr (by unfold u_ans; rw [hg]; rfl) (yfr.rf _ _ _) (keep0 hg)
  -- where it is not good
  have no40 : u_good nt N a1 a2 a3 = false → ∃ z, rX0_member d (40, [some (.ref 0), some (.int a1), some (.int a2), some (.int a3), none, none, none], [.int (0 : Int32)], x) = some (some (.int (u_ans nt N M D a1 a2 a3 o).1), z) ∧ yfr zC 0 x z
      ∧ ((u_ans nt N M D a1 a2 a3 o).2 = none → cwU nt N M res par bod (u_D nt N D a1 a2 a3) G (c + 1) z)
      ∧ ∀ w, (u_ans nt N M D a1 a2 a3 o).2 = some w → cwU (sp_mk nt a2 a3) N (M + 1) (upd res M a1) (upd par M a2) (upd bod M a3) (u_D nt N D a1 a2 a3) (uAdd G M (wW nt a1 a2 a3, w)) (c + 1) z := fun hg =>
    notgood hg _ (by rw [bX0_member_40, if_pos rfl])
  have s0 : sp_in a1.toInt64 0 8 = sp_i a1 0 8 := sp_in_i a1 0 8
  rw [eX0_member, sX0_isIn (by omega), mj_rI_k, s0]
  cases k1 : sp_i a1 0 8
  · rw [if_pos (by rfl)]
    exact no40 (by
      unfold sp_i at k1
      unfold u_good
      rw [← Bool.and_assoc, k1, Bool.false_and])
  rw [if_neg (by decide)]
  -- from 27 on
  have at27 : (decide (a2 = -1) || sp_fk nt (sp_fr nt N) a2 86) = true → ∃ z, rX0_member d (27, [some (.ref 0), some (.int a1), some (.int a2), some (.int a3), none, none, none], [], x) = some (some (.int (u_ans nt N M D a1 a2 a3 o).1), z) ∧ yfr zC 0 x z
      ∧ ((u_ans nt N M D a1 a2 a3 o).2 = none → cwU nt N M res par bod (u_D nt N D a1 a2 a3) G (c + 1) z)
      ∧ ∀ w, (u_ans nt N M D a1 a2 a3 o).2 = some w → cwU (sp_mk nt a2 a3) N (M + 1) (upd res M a1) (upd par M a2) (upd bod M a3) (u_D nt N D a1 a2 a3) (uAdd G M (wW nt a1 a2 a3, w)) (c + 1) z := by
    intro k3
    rw [bX0_member_27, sX0_isAct (by omega) hx, mj_rI_k]
    cases k4 : sp_act nt (sp_fr nt N) a3
    · rw [if_pos (by rfl)]
      exact no40 (by unfold u_good; rw [k4]; simp)
    rw [if_neg (by decide)]
    have hg : u_good nt N a1 a2 a3 = true := by
      unfold sp_i at k1
      unfold u_good
      rw [k3, k4, ← Bool.and_assoc, k1]; rfl
    obtain ⟨l, l1, l2, l3, l4⟩ := u_par hT hN hg
    obtain ⟨hA, h5⟩ := u_body hT hg
    have e0 : mj_fI (mj_wI x 0 26 (0 : Int32)) 25 0 N 0 = cw_sc x (u_s0 D) := by
      apply Prod.ext
      · funext k j
        show (if k = 25 then mj_fil ((mj_wI x 0 26 (0 : Int32)).1 k) 0 N 0 else (mj_wI x 0 26 (0 : Int32)).1 k) j = (if k = 0 ∧ j = 26 then nI 0 else if k = 25 then sp_b false else if k = 26 then D j else x.1 k j)
        by_cases e2 : k = 25
        · subst e2
          rw [if_pos rfl, if_neg (by omega), if_pos rfl]
          unfold mj_fil
          by_cases q : j < N
          · rw [if_pos ⟨Nat.zero_le _, q⟩]; rfl
          · rw [if_neg (fun w => q w.2), mj_wI_n (by decide)]; exact hU.2.2.2.1 j (by omega)
        · rw [if_neg e2, if_neg e2]
          by_cases e1 : k = 0
          · subst e1
            rw [mj_wI_y]
            by_cases e3 : j = 26
            · rw [e3, pk_us, if_pos ⟨rfl, rfl⟩]; rfl
            · rw [pk_un e3, if_neg (fun q => e3 q.2), if_neg (by decide)]
          · rw [mj_wI_n e1, if_neg (fun q => e1 q.1)]
            by_cases e3 : k = 26
            · rw [if_pos e3, e3]; exact congrFun hU.2.2.2.2.1 j
            · rw [if_neg e3]
      · rfl
    have N0 : x.1 0 6 = nI N := hx.1
    rw [bX0_member_40, if_neg (by decide), N0, k_fill25 hT.2.2, mj_rV_k, e0]
    have p73 := k_mem73 (d := d) (by omega) hT hx (a1 := a1) (a2 := a2) (a3 := a3) (a4 := 1) l a2 (u_s0 D) 0 l1 (by show 0 + _ ≤ _; omega) (by omega)
    rw [Nat.zero_add] at p73
    rw [show (0 : Int32) = nI 0 from rfl, p73, bX0_member_73, if_pos rfl]
    have s1I := uFo_I nt l (u_s0 D) (u_s0_I D)
    have s1S := uFo_S hN l a2 (u_s0 D) l1 (u_s0_S D) (by show 0 + _ ≤ _; omega)
    have s1n : (uFo nt l (u_s0 D)).1 = l.length := by rw [uFo_1]; exact Nat.zero_add _
    have wl : (oT T a3).length ≤ N := t.1.len hT.2.2 hA.1
    have dep : (nt 4 a3.toNatClampNeg).toInt ≤ 40 := by have := hA.2.2; have q : nD nt a3 = (nt 4 a3.toNatClampNeg).toInt.toNat := rfl; omega
    have kd : ¬ nt 0 a3.toNatClampNeg = 5 ∧ ¬ nt 0 a3.toNatClampNeg = 86 := by
      have := k4
      unfold sp_act at this
      simp only [Bool.and_eq_true] at this
      exact ⟨fun q => by rw [q] at this; exact absurd this.2 (by decide), fun q => by rw [q] at this; exact absurd this.2 (by decide)⟩
    have SC := sX0_isScoped hx hT.1 hT.2.1 (oTs.wt t) 40 a3 hA.1 kd.1 kd.2 dep
    have hsc : u_sc nt D a2 a3 = sp_sc nt 40 a3 (uFo nt l (u_s0 D)) := by unfold u_sc; rw [l2]
    have I2 : u_I (u_sc nt D a2 a3).2 := by rw [hsc]; exact s1I.sc 40 a3
    generalize uFo nt l (u_s0 D) = s1 at *
    obtain ⟨r1, r2⟩ := SC d (by omega) s1 s1S (by rw [s1n]; show l.length + (T a3.toNatClampNeg).length ≤ 4000; have : (T a3.toNatClampNeg).length ≤ N := wl; omega)
    rw [r1]
    unfold sp_o
    rw [mj_rI_k, ← hsc]
    have S2 : sp_SI N (u_sc nt D a2 a3).2 := by rw [hsc]; exact r2.2.2
    have uD : (u_sc nt D a2 a3).2.2.2 = u_D nt N D a1 a2 a3 := by unfold u_D; rw [hg]; rfl
    obtain ⟨x3, hx3⟩ : ∃ x3, x3 = cw_sc x (u_sc nt D a2 a3).2 := ⟨_, rfl⟩
    rw [← hx3]
    have x3K := cw_sc_K (cf := uCf G M) (pf := uPf G M) (rf := uRf G M) (lf := uLf G M) x (u_sc nt D a2 a3).2
    have x3C := cw_sc_C x (u_sc nt D a2 a3).2
    rw [← hx3] at x3K x3C
    have x3_25 : ∀ j, N ≤ j → x3.1 25 j = 0 := fun j hj => by
      rw [hx3, cw_sc_I]
      cases q : (u_sc nt D a2 a3).2.2.1 j
      · rfl
      · obtain ⟨i, i1, i2⟩ := I2 j q
        have := sp_nd_lt hT.2.2 (S2.2 i i1)
        rw [i2] at this; omega
    have x3_26 : x3.1 26 = u_D nt N D a1 a2 a3 := by rw [hx3, ← uD]; funext j; exact cw_sc_F _ _ _
    have x3_48 : x3.1 0 48 = nI t48 := by rw [hx3]; simp only [cw_sc]; simpa using x48
    have x3_66 : x3.1 0 66 = nI t66 := by rw [hx3]; simp only [cw_sc]; simpa using x66
    have U3 : cwU nt N M res par bod (u_D nt N D a1 a2 a3) G (c + 1) x3 := hU.keep (Nat.le_succ c) x3K x3_25 x3_26 ⟨t48, x3_48, by omega⟩ ⟨t66, x3_66, by omega⟩
    have U3c : cwU nt N M res par bod (u_D nt N D a1 a2 a3) G c x3 := hU.keep (Nat.le_refl c) x3K x3_25 x3_26 ⟨t48, x3_48, by omega⟩ ⟨t66, x3_66, by omega⟩
    cases sc : (u_sc nt D a2 a3).1
    · rw [if_pos (by rfl)]
      exact bad (-2) _ x3 rfl (by unfold u_ans; rw [hg, sc]; rfl) x3C U3
    rw [if_neg (by decide)]
    have x3T : cw_T x3 nt N := U3.1
    have LF : kX0 d 31 [.ref 0, .int a3, .int (0 : Int32), .int (0 : Int32), .int a1] x3 = some (some (.int (sp_b (sp_lf nt a1 40 a3 0 0))), x3) := sX0_isLeft x3T hT.1 hT.2.1 40 d (by omega) a3 0 0 hA.1 dep (by decide) (by decide)
    rw [LF, mj_rI_k]
    cases lf : sp_lf nt a1 40 a3 0 0
    · rw [if_pos (by rfl)]
      exact bad (-3) _ x3 rfl (by unfold u_ans; rw [hg, sc, lf]; rfl) x3C U3
    rw [if_neg (by decide)]
    have m7 : x3.1 0 7 = nI M := U3.2.1.1
    have hM40 : M ≤ 40 := U3.2.1.2.1
    have pls : uPls nt l ≤ 2 * l.length := by
      clear p73 l1 l2 l3 l4 s1n
      induction l with
      | nil => exact Nat.le_refl _
      | cons p r ih =>
        have := w_tl_2 (nT nt (nA nt p))
        show (w_tl (nT nt (nA nt p))).length + uPls nt r ≤ 2 * (r.length + 1)
        omega
    by_cases c40 : M = 40
    · rw [if_pos (by rw [m7, c40]; rfl)]
      exact bad (-4) _ x3 rfl (by unfold u_ans; rw [hg, sc, lf, l2]; show (if M = 40 ∨ _ then _ else _) = _; rw [if_pos (Or.inl c40)]) x3C U3
    rw [if_neg (fun q => by rw [m7] at q; have := congrArg Int32.toInt q; rw [nI_toInt (by omega)] at this; have e40 : (40 : Int32).toInt = 40 := rfl; omega), if_pos (show nI (uPls nt l) ≤ (255 : Int32) by rw [Int32.le_iff_toInt_le, nI_toInt (by omega)]; have e255 : (255 : Int32).toInt = 255 := rfl; omega)]
    have ansW : ∀ o : Option Bool, u_ans nt N M D a1 a2 a3 o = match o with | none => (-4, none) | some w => bif g_al (wW nt a1 a2 a3) then (-5, none) else (nI M, some w) := fun o => by
      unfold u_ans; rw [hg, sc, lf, l2]
      show (if M = 40 ∨ _ then _ else _) = _
      rw [if_neg (by omega)]; rfl
    obtain ⟨L, -, -, OI⟩ := u_okG hT hN t hg sc lf
    have gok := OI.1
    have hcx := wW_cx nt a1 a2 a3
    -- a member is written
    have wr : ∀ (w : Bool) (b : Nat) (u : mj_X), b ≤ 66000 → cwU nt N M res par bod (u_D nt N D a1 a2 a3) G c u ∨ True → yfr (cK (uCf G M) (uPf G M) (uRf G M) (uLf G M)) (uPf G M) x u → yfr zC 0 x u → (∀ j, N ≤ j → u.1 25 j = 0) → u.1 26 = u_D nt N D a1 a2 a3 → (∃ t, u.1 0 48 = nI t ∧ t ≤ 140000 * c + b) → (∃ t, u.1 0 66 = nI t ∧ t ≤ 140000 * c + b) → u.1 0 31 = sp_b w →
        ∃ u', kX0 d 32 [.ref 0, .int a2, .int a3, .int a1] u = some (none, u') ∧ yfr (cK (uCf G M) (uPf G M) (uRf G M) (uLf G M)) (uPf G M) x u' ∧ yfr zC 0 x u' ∧ (∀ j, N ≤ j → u'.1 25 j = 0) ∧ u'.1 26 = u_D nt N D a1 a2 a3 ∧ (∃ t, u'.1 0 48 = nI t ∧ t ≤ 140000 * c + (b + 66000)) ∧ (∃ t, u'.1 0 66 = nI t ∧ t ≤ 140000 * c + (b + 66000)) ∧ u'.1 0 31 = sp_b w
          ∧ ((u'.1 0 29 = 0 ∧ ∃ lm lv, yR (M, w, uCf G M, uPf G M, uRf G M, uLf G M, 140000 * c + b) lm lv u' (wW nt a1 a2 a3)) ∨ (u'.1 0 29 = 1 ∧ u_over w (uCf G M) (uRf G M) (uLf G M) (wW nt a1 a2 a3))) := by
      intro w b u hb _ uK uC u25 u26 u48 u66 u31
      obtain ⟨d, rfl⟩ : ∃ e, d = e + 1 := ⟨d - 1, by omega⟩
      have Uu : cwU nt N M res par bod (u_D nt N D a1 a2 a3) G (c + 1) u := hU.keep (Nat.le_succ c) uK u25 u26 (by obtain ⟨t, e1, e2⟩ := u48; exact ⟨t, e1, by omega⟩) (by obtain ⟨t, e1, e2⟩ := u66; exact ⟨t, e1, by omega⟩)
      have yb : yB nt N (M, w, uCf G M, uPf G M, uRf G M, uLf G M, 140000 * c + b) (140000 * c + b) u := by
        obtain ⟨v1, v2, v3, v4, v5, v6, v7, v8, v9⟩ := Uu
        obtain ⟨f12, f17, f21, f23⟩ := v8 M (Nat.le_refl _)
        obtain ⟨d1, d2, d3, d4⟩ := hB
        exact ⟨⟨v1, ⟨v2.1, v2.2.1, f12, d1⟩, f17, ⟨_, f21, Nat.le_refl _⟩, f23, by show uPf G M ≤ 7000; omega, by show uPf G M ≤ 8000; omega, d4, by show 140000 * c + b ≤ 1000000000; omega, fun v p hv hp => by cases hp⟩, by show M ≤ 39; omega, f21, d3, u31, u48, u66, by omega⟩
      obtain ⟨u', w1, w2, w3, w4, w5, w6, w7⟩ := k_write (d := d) (by omega) hT yb l1 l2 l4 (by omega) hA gok
      have wK := uK.tr (yw2_K w2)
      have n25 : ∀ j, u'.1 25 j = u.1 25 j := fun j => w2.1 25 j rfl
      have n26 : ∀ j, u'.1 26 j = u.1 26 j := fun j => w2.1 26 j rfl
      refine ⟨u', w1, wK, uC.tr (yw2_C w2), fun j hj => by rw [n25]; exact u25 j hj, by rw [← u26]; exact funext n26, ?_, ?_, w4, w7⟩
      · obtain ⟨t, e1, e2⟩ := w5
        simp only [p_tb] at e2
        exact ⟨t, e1, bd_1 e2⟩
      · obtain ⟨t, e1, e2⟩ := w6
        exact ⟨t, e1, bd_2 e2⟩
    -- it ends
    have fin : ∀ (w : Bool) (b : Nat) (u : mj_X) (v5 : Int32), b ≤ 140000 → yfr (cK (uCf G M) (uPf G M) (uRf G M) (uLf G M)) (uPf G M) x u → yfr zC 0 x u → (∀ j, N ≤ j → u.1 25 j = 0) → u.1 26 = u_D nt N D a1 a2 a3 → (∃ t, u.1 0 48 = nI t ∧ t ≤ 140000 * c + b) → (∃ t, u.1 0 66 = nI t ∧ t ≤ 140000 * c + b) →
        ((u.1 0 29 = 0 ∧ o = some w ∧ ∃ lm lv tb, yR (M, w, uCf G M, uPf G M, uRf G M, uLf G M, tb) lm lv u (wW nt a1 a2 a3)) ∨ (u.1 0 29 = 1 ∧ o = none)) →
        ∃ z, rX0_member d (205, [some (.ref 0), some (.int a1), some (.int a2), some (.int a3), some (.int 1), some (.int v5), some (.int (-1 : Int32))], [], u) = some (some (.int (u_ans nt N M D a1 a2 a3 o).1), z) ∧ yfr zC 0 x z
      ∧ ((u_ans nt N M D a1 a2 a3 o).2 = none → cwU nt N M res par bod (u_D nt N D a1 a2 a3) G (c + 1) z)
      ∧ ∀ w, (u_ans nt N M D a1 a2 a3 o).2 = some w → cwU (sp_mk nt a2 a3) N (M + 1) (upd res M a1) (upd par M a2) (upd bod M a3) (u_D nt N D a1 a2 a3) (uAdd G M (wW nt a1 a2 a3, w)) (c + 1) z := by
      intro w b u v5 hb uK uC u25 u26 u48 u66 h
      have Uu : cwU nt N M res par bod (u_D nt N D a1 a2 a3) G (c + 1) u := hU.keep (Nat.le_succ c) uK u25 u26 (by obtain ⟨t, e1, e2⟩ := u48; exact ⟨t, e1, by omega⟩) (by obtain ⟨t, e1, e2⟩ := u66; exact ⟨t, e1, by omega⟩)
      rw [bX0_member_205]
      rcases h with ⟨h29, how, lm, lv, tb, hR⟩ | ⟨h29, how⟩
      · rw [if_pos h29]
        subst how
        have ov : g_ov (wW nt a1 a2 a3) = false := hR.2.1.1
        have al : u.1 0 30 = sp_b (g_al (wW nt a1 a2 a3)) := hR.2.1.2.2.1
        rw [al]
        cases ha : g_al (wW nt a1 a2 a3)
        · rw [if_pos (by rfl)]
          have ans : u_ans nt N M D a1 a2 a3 (some w) = (nI M, some w) := by rw [ansW, ha]; rfl
          have hms := hms w (by rw [ans])
          have u7 : u.1 0 7 = nI M := Uu.2.1.1
          have hT' := hT.mem hN (show M + 1 ≤ 40 by omega) hg
          obtain ⟨CD, CE⟩ := cD.of OI ov ha (wW_put nt a1 a2 a3 gok)
          have CD' : cD (sp_mk nt a2 a3) (M + 1) (upd res M a1) (upd par M a2) a1.toNatClampNeg (wW nt a1 a2 a3) := CD.ag (Nat.le_succ M) (fun m hm => ⟨pk_un (by omega), by rw [pk_un (show m ≠ M by omega)]; exact oAr_par hT (sp_mk_ag nt a2 a3 N) hm⟩)
          have far : w_far w (wW nt a1 a2 a3) = false := by
            cases w
            · exact ho.2
            · unfold w_far
              rw [List.any_eq_false]
              intro q hq
              unfold w_fq
              rw [w_fxs_true _ _ q hq]; simp
          have gM : ∀ r : mj_R, mj_g (nI M) 40 r = r := fun r => mj_g_k (mj_in_nI (by omega) (by decide)) r
          have n2 : ¬ a2 = -1 → sp_nd N a2 = true := fun c3 => by
            rcases (u_good_un hg).2.2.1 with q | q
            · exact absurd q c3
            · exact sp_fk_nd q
          have x6 : ∀ y6 : Nat → Int32, y6 = (fun i => if i = a3.toNatClampNeg ∨ (¬ a2 = -1 ∧ i = a2.toNatClampNeg) then 1 else u.1 6 i) → y6 = sp_mk nt a2 a3 5 := fun y6 h => by
            rw [h, Uu.1.2.2.2.2.2.2.2]; funext i
            show _ = (if (5 : Nat) = 5 ∧ _ then (1 : Int32) else nt 5 i)
            by_cases q : i = a3.toNatClampNeg ∨ (¬ a2 = -1 ∧ i = a2.toNatClampNeg)
            · rw [if_pos q, if_pos ⟨rfl, q⟩]
            · rw [if_neg q, if_neg (fun r => q r.2)]
          have go : ∀ (y6 : Nat → Int32) (v : mj_X), y6 = (fun i => if i = a3.toNatClampNeg ∨ (¬ a2 = -1 ∧ i = a2.toNatClampNeg) then 1 else u.1 6 i) → v = ((fun k => if k = 6 then y6 else u.1 k, u.2) : mj_X) → ∃ z, rX0_member d (244, [some (.ref 0), some (.int a1), some (.int a2), some (.int a3), some (.int 1), some (.int v5), some (.int (-1 : Int32))], [], v) = some (some (.int (u_ans nt N M D a1 a2 a3 (some w)).1), z) ∧ yfr zC 0 x z
              ∧ ((u_ans nt N M D a1 a2 a3 (some w)).2 = none → cwU nt N M res par bod (u_D nt N D a1 a2 a3) G (c + 1) z)
              ∧ ∀ w', (u_ans nt N M D a1 a2 a3 (some w)).2 = some w' → cwU (sp_mk nt a2 a3) N (M + 1) (upd res M a1) (upd par M a2) (upd bod M a3) (u_D nt N D a1 a2 a3) (uAdd G M (wW nt a1 a2 a3, w')) (c + 1) z := by
            intro y6 v hy6 hv
            have v7 : v.1 0 7 = nI M := by rw [hv]; exact u7
            obtain ⟨z, z1, z2, z3, z4⟩ := cwU.add (d := d) (a1 := a1) (a2 := a2) (a3 := a3) (y := mj_wI (mj_wI (mj_wI (mj_wI v 0 7 (nI (M + 1))) 9 M a1) 10 M a2) 11 M a3) (by omega) hT' Uu (by omega) hB hR (fun q hq => oI_go OI ov w q hq) CD' CE rfl far hms hA.1 n2 (x6 y6 hy6) (by rw [hv])
            refine ⟨z, ?_, uC.tr z2, fun h => (by rw [ans] at h; cases h), fun w' h => by rw [ans] at h; cases h; exact z4⟩
            rw [bX0_member_244, v7, gM, gM, gM, nI_clamp (by omega), show nI M + (1 : Int32) = nI (M + 1) from nI_add M 1, z1, mj_rV_k, ans]
          have g3 : ∀ r : mj_R, mj_g a3 4000 r = r := fun r => mj_g_k (sp_nd_in hT.2.2 hA.1 (Nat.le_refl _)) r
          rw [g3]
          by_cases c3 : a2 = -1
          · rw [if_pos c3]
            refine go _ _ (funext fun i => ?_) set6_w
            show (if i = a3.toNatClampNeg then (1 : Int32) else u.1 6 i) = _
            by_cases q2 : i = a3.toNatClampNeg
            · rw [if_pos q2, if_pos (Or.inl q2)]
            · rw [if_neg q2, if_neg (fun h => h.elim q2 (fun h => h.1 c3))]
          · rw [if_neg c3, mj_g_k (sp_nd_in hT.2.2 (n2 c3) (Nat.le_refl _))]
            refine go _ _ (funext fun i => ?_) set6_w2
            show (if i = a2.toNatClampNeg then (1 : Int32) else if i = a3.toNatClampNeg then 1 else u.1 6 i) = _
            by_cases q1 : i = a2.toNatClampNeg
            · rw [if_pos q1, if_pos (Or.inr ⟨c3, q1⟩)]
            · rw [if_neg q1]
              by_cases q2 : i = a3.toNatClampNeg
              · rw [if_pos q2, if_pos (Or.inl q2)]
              · rw [if_neg q2, if_neg (fun h => h.elim q2 (fun h => q1 h.2))]
        · rw [if_neg (by decide)]
          exact bad (-5) _ u rfl (by rw [ansW, ha]; rfl) uC Uu
      · subst how
        rw [if_neg (by rw [h29]; decide)]
        exact bad (-4) _ u rfl (by rw [ansW]) uC Uu
    have st0 : ∀ (w : Bool) (u : mj_X), u = mj_wI x3 0 31 (sp_b w) → yfr (cK (uCf G M) (uPf G M) (uRf G M) (uLf G M)) (uPf G M) x u ∧ yfr zC 0 x u ∧ (∀ j, N ≤ j → u.1 25 j = 0) ∧ u.1 26 = u_D nt N D a1 a2 a3 ∧ (∃ t, u.1 0 48 = nI t ∧ t ≤ 140000 * c + 0) ∧ (∃ t, u.1 0 66 = nI t ∧ t ≤ 140000 * c + 0) ∧ u.1 0 31 = sp_b w := fun w u h => by
      rw [h]
      exact ⟨x3K.w _ rfl, x3C.w _ rfl, fun j hj => by rw [mj_wI_n (by decide)]; exact x3_25 j hj, by rw [mj_wI_n (by decide)]; exact x3_26, ⟨t48, by rw [mj_wI_y, pk_un (by decide)]; exact x3_48, b48⟩, ⟨t66, by rw [mj_wI_y, pk_un (by decide)]; exact x3_66, b66⟩, by rw [mj_wI_y, pk_us]⟩
    obtain ⟨i1, i2, i3, i4, i5, i6, i7⟩ := st0 false _ rfl
    obtain ⟨u, w1, w2, w3, w4, w5, w6, w7, w8, w9⟩ := wr false 0 (mj_wI x3 0 31 (sp_b false)) (by omega) (Or.inr trivial) i1 i2 i3 i4 i5 i6 i7
    rw [show (0 : Int32) = sp_b false from rfl] at *
    rw [w1, mj_rV_k]
    rcases w9 with ⟨h29, lm, lv, hR⟩ | ⟨h29, hov⟩
    · rw [if_pos h29]
      have ov : g_ov (wW nt a1 a2 a3) = false := hR.2.1.1
      have nov : ¬ u_over false (uCf G M) (uRf G M) (uLf G M) (wW nt a1 a2 a3) := hR.nov hcx
      obtain ⟨d', rfl⟩ : ∃ e, d = e + 1 := ⟨d - 1, by omega⟩
      rw [k_tooFar (d := d') (by omega) hR (fun q hq => oI_go OI ov _ q hq), mj_rI_k]
      have ef : w_far (p_w (M, false, uCf G M, uPf G M, uRf G M, uLf G M, 140000 * c + 0)) (wW nt a1 a2 a3) = w_far false (wW nt a1 a2 a3) := rfl
      rw [ef]
      cases hf : w_far false (wW nt a1 a2 a3)
      · rw [if_pos (by rfl)]
        have e : o = some false := ho.uq (o' := some false) ⟨nov, hf⟩
        exact fin false 66000 u _ (by omega) w2 w3 w4 w5 (by simpa using w6) (by simpa using w7) (Or.inl ⟨h29, e, lm, lv, _, hR⟩)
      · rw [if_neg (by decide)]
        obtain ⟨t1, e1, e2⟩ := w6
        obtain ⟨t2, e3, e4⟩ := w7
        obtain ⟨v, y1, y2, y3, y4, y5, y6, y7, y8, y9⟩ := wr true 66000 (mj_wI u 0 31 (sp_b true)) (by omega) (Or.inr trivial) (w2.w _ rfl) (w3.w _ rfl) (fun j hj => by rw [mj_wI_n (by decide)]; exact w4 j hj) (by rw [mj_wI_n (by decide)]; exact w5) ⟨t1, by rw [mj_wI_y, pk_un (by decide)]; exact e1, by omega⟩ ⟨t2, by rw [mj_wI_y, pk_un (by decide)]; exact e3, by omega⟩ (by rw [mj_wI_y, pk_us])
        rw [show (1 : Int32) = sp_b true from rfl, y1, mj_rV_k]
        refine fin true 132000 v _ (by omega) y2 y3 y4 y5 y6 y7 ?_
        rcases y9 with ⟨g29, lm', lv', hR'⟩ | ⟨g29, hov'⟩
        · exact Or.inl ⟨g29, ho.uq (o' := some true) ⟨hR'.nov hcx, hf⟩, lm', lv', _, hR'⟩
        · exact Or.inr ⟨g29, ho.uq (o' := none) (Or.inr ⟨hf, hov'⟩)⟩
    · rw [if_neg (by rw [h29]; decide)]
      exact fin false 66000 u _ (by omega) w2 w3 w4 w5 (by simpa using w6) (by simpa using w7) (Or.inr ⟨h29, ho.uq (o' := none) (Or.inl hov)⟩)
  by_cases c3 : a2 = -1
  · rw [if_pos c3]
    exact at27 (by rw [decide_eq_true c3]; rfl)
  · rw [if_neg c3, sX0_isFree (by omega) hx, mj_rI_k]
    cases k3 : sp_fk nt (sp_fr nt N) a2 86
    · rw [if_pos (by rfl)]
      exact no40 (by unfold u_good; rw [k3, decide_eq_false c3]; simp)
    · rw [if_neg (by decide)]
      exact at27 (by rw [k3, Bool.or_true])
end
