/-! CodeWriter: the greatest stack of a member's code -/
section
variable {nt : sp_NT} {N M ret m cf pf : Nat} {res par : Nat → Int32} {G : wG} {w : Bool} {k : Nat} {i : wI} {F : wF} {x : mj_X} {s : bS}
theorem nb_cases {i : wI} (hs : i.1 ≤ 16 ∧ i.1 ≠ 15 ∨ i.1 = 15 ∨ i.1 = 20 ∨ i.1 = 21 ∨ 22 ≤ i.1 ∨ 17 ≤ i.1 ∧ i.1 < 20) {P : Prop} (a : i.1 ≤ 16 → i.1 ≠ 15 → P) (b : i.1 = 15 → P) (c : i.1 = 20 → P) (d : i.1 = 21 → P) (e : 22 ≤ i.1 → P) (f : 17 ≤ i.1 ∧ i.1 < 20 → P) : P := by
  rcases hs with ⟨h, h'⟩ | h | h | h | h | h
  · exact a h h'
  · exact b h
  · exact c h
  · exact d h
  · exact e h
  · exact f h
theorem dec_ctr : ∀ j, j < 12 → w_ctr (153 + j) < 165 ∧ 153 ≤ w_ctr (153 + j) ∧ (w_ctr (153 + j) ≤ 158 ↔ j < 6) := by decide
theorem dec_chB : ∀ j, j < 12 → chF (nI (153 + j)) = nI 0 - nI (if j < 6 then 1 else 2) := by decide
theorem ty21 {x1 x2 : Nat} {v : Int64} {lb : List (Int32 × Nat)} {K : wF} (h : w_ty (21, x1, x2, v, lb) F K) : 153 ≤ x1 ∧ x1 ≤ 164 ∧ K.1 = F.1 ∧ F.2.length = K.2.length + (if x1 ≤ 158 then 1 else 2) := by
  obtain ⟨e, ⟨a, b, c⟩ | ⟨a, b, c⟩⟩ := h
  · have a : 153 ≤ x1 := a
    have b : x1 ≤ 158 := b
    exact ⟨a, by omega, e, by rw [c, if_pos b]; rfl⟩
  · have a : 159 ≤ x1 := a
    have b : x1 ≤ 164 := b
    exact ⟨by omega, b, e, by rw [c, if_neg (by omega)]; rfl⟩
theorem c_bF {d : Nat} (hd : 2 ≤ d) (hT : wTb nt N M res par) (hx : cwK nt N M res par G w m cf pf x) (hD : cD nt M res par ret G) (hf : w_far w G = false) (hl : uLen (G, w) ≤ 65535) (hM : g_ms G < 10000) : b_F (d + 4) m cf x (cPL w G) (cSU w G) (uLen (G, w)) (g_ms G) := by
  have hP : ∀ p e, cPL w G p e → p < uLen (G, w) ∧ e ≤ g_ms G := fun p e h => h.bd hD
  have hfn : ∀ p e e', cPL w G p e → cPL w G p e' → e = e' := fun p e e' a b => a.fn b
  intro p e s hpl hI hs
  have hn := hI.n hP
  have h4 := hI.2.2.2
  have hB := (hx.1).bx s
  obtain ⟨p1, p2⟩ := hP p e hpl
  obtain ⟨k, i, F, hk, hpl'⟩ := hpl
  obtain ⟨K, ht, nx, lbs, b1, b2⟩ := c_next (w := w) hD hk
  obtain ⟨S, An⟩ := c_seg w hk
  have cl := c_len w hk
  have shp := ht.2.2.2.2.2
  -- a far jump
  have far : ∀ (p l : Nat) (e : Nat), s.1 p = nI e → (∃ j, g_lat G l = some j ∧ cPL w G (cA w G j) e) → p < 65536 → (∀ j v, ([o8 200] ++ o32 (cO w G p l))[j]? = some v → (uBy (G, w))[p + j]? = some v) →
      ∃ t, cPL w G t e ∧ (∃ j, g_lat G l = some j ∧ t = cA w G j) ∧ kX0 (d + 4) 100 [.ref 0, .int (nI m), .int (nI cf), .int (nI p)] (b_x x s) = some (none, b_x x (b_rc s (t, e))) := fun p l e he ⟨j, j1, j2⟩ hp S' => by
    obtain ⟨q1, q2⟩ := hP _ _ j2
    refine ⟨_, j2, ⟨j, j1, rfl⟩, ?_⟩
    exact k_folW hB (S' 0 _ rfl) (S' 1 _ rfl) (S' 2 _ rfl) (S' 3 _ rfl) (S' 4 _ rfl) (c_offp j1) he (by omega) (by omega) (by omega) (by omega) (by omega)
  rcases hpl' with ⟨rfl, rfl⟩ | ⟨hw, rfl, he⟩
  · by_cases hw : cWb w i
    · -- a far jump with a condition
      obtain ⟨rfl, h21⟩ := hw
      obtain ⟨i1, x1, x2, v, lb⟩ := i
      have h21 : i1 = 21 := h21
      subst h21
      obtain ⟨y1, y2, y3, y4⟩ := ty21 ht.1
      obtain ⟨j, rfl, hj⟩ : ∃ j, x1 = 153 + j ∧ j < 12 := ⟨x1 - 153, by omega, by omega⟩
      obtain ⟨z1, z2, z3⟩ := dec_ctr j hj
      have hc : chF (nI (w_ctr (153 + j))) = nI 0 - nI (if 153 + j ≤ 158 then 1 else 2) := by
        obtain ⟨j', e'⟩ : ∃ j', w_ctr (153 + j) = 153 + j' := ⟨w_ctr (153 + j) - 153, by omega⟩
        rw [e'] at z1 z3 ⊢
        rw [dec_chB j' (by omega)]
        by_cases q : j < 6
        · rw [if_pos (by omega), if_pos (by omega)]
        · rw [if_neg (by omega), if_neg (by omega)]
      have len8 : (w_enc true (cO true G) (cA true G k) (21, 153 + j, x2, v, lb)).length = 8 := rfl
      rw [len8] at An
      have nx := nx rfl
      have mid : cPL true G (cA true G k + 3) K.2.length := ⟨k, _, F, hk, Or.inr ⟨⟨rfl, rfl⟩, rfl, by
        show K.2.length + (if 153 + j ≤ 158 then 1 else 2) = F.2.length
        omega⟩⟩
      obtain ⟨q1, q2⟩ := hP _ _ nx
      refine ⟨[(cA true G (k + 1), K.2.length), (cA true G k + 3, K.2.length)], fun q hq => ?_, fun t ht => ?_, ?_⟩
      · rcases List.mem_cons.mp hq with rfl | hq
        · exact nx
        · rw [List.mem_singleton.mp hq]; exact mid
      · rcases c_suB hk ⟨rfl, rfl⟩ ht with e | e
        · exact ⟨_, List.mem_cons_self .., e.symm⟩
        · exact ⟨_, List.mem_cons_of_mem _ (List.mem_cons_self ..), e.symm⟩
      · have a1 : -32768 ≤ (nI 8).toInt := by decide
        have a2 : (nI 8).toInt ≤ 32767 := by decide
        exact k_folB (u := nI 8) z2 (by omega) hB (S 0 _ rfl) (S 1 _ rfl) (S 2 _ rfl) a1 a2 (by rw [nI_add, An]) hs (by
          rw [hc, y4, Nat.add_comm, nI_dl, Nat.zero_add]) (by omega) (by omega) (by omega) (by omega) (by omega)
    · have su := fun {t} (h : cSU w G (cA w G k) t) => c_suA hk hw h
      have cs : i.1 ≤ 16 ∧ i.1 ≠ 15 ∨ i.1 = 15 ∨ i.1 = 20 ∨ i.1 = 21 ∨ 22 ≤ i.1 ∨ 17 ≤ i.1 ∧ i.1 < 20 := by omega
      refine nb_cases cs (fun h16 h15 => ?_) (fun h15 => ?_) (fun h20 => ?_) (fun h21 => ?_) (fun h22 => ?_) (fun h17 => ?_)
      · -- simple ones
        have nolb := shp.lb h16
        rcases dec_item (w := w) (o := cO w G) (p := cA w G k) ht.1 h15 h16 with ⟨tm, c, c1, c2⟩ | ⟨tm, a, b, r, dc, e1, e2⟩
        · refine ⟨[], fun q hq => (by cases hq), fun t ht => ?_, ?_⟩
          · rcases su ht with ⟨q, -⟩ | ⟨q, j, q1, -⟩
            · rw [tm] at q; cases q
            · rw [nolb] at q1; cases q1
          · exact k_fol0 hB (S 0 _ c1) c2 (by omega)
        · have nx := nx tm
          obtain ⟨q1, q2⟩ := hP _ _ nx
          refine ⟨[(cA w G (k + 1), K.2.length)], fun q hq => by rw [List.mem_singleton.mp hq]; exact nx, fun t ht => ?_, ?_⟩
          · rcases su ht with ⟨-, q⟩ | ⟨q, j, q1, -⟩
            · exact ⟨_, List.mem_cons_self .., q.symm⟩
            · rw [nolb] at q1; cases q1
          · have ed : nI F.2.length + (nI a - nI b) = nI K.2.length := by rw [e1, e2]; exact nI_dl a b r
            rw [An] at q1 ⊢
            rcases dc with ⟨c, c1, c2, c3⟩ | ⟨c, c0, c1, c2, -, c3⟩
            · exact k_fol1 hB (S 0 _ c1) c2 c3 hs ed (by omega) (by omega) (by omega) (by omega)
            · exact k_fol4 hB (S 0 _ c0) (S 1 _ c1) c2 c3 hs ed (by omega) (by omega) (by omega) (by omega)
      · -- a call
        have nolb := shp.lb (by omega)
        have tm : oTerm i = false := by unfold oTerm; rw [h15]; rfl
        have nx := nx tm
        obtain ⟨q1, q2⟩ := hP _ _ nx
        have enc : w_enc w (cO w G) (cA w G k) i = [o8 184] ++ o16 (nI i.2.2.1) := by unfold w_enc; rw [h15]; rfl
        have hpf := ht.2.1 (Or.inr h15)
        have ib := w_pf_bd hpf hx.2.2.2.2.2.2.1
        obtain ⟨c, c1, c2⟩ := c_call hd hT (hx.bx s) ht h15
        rw [enc] at S An
        refine ⟨[(cA w G (k + 1), K.2.length)], fun q hq => by rw [List.mem_singleton.mp hq]; exact nx, fun t ht => ?_, ?_⟩
        · rcases su ht with ⟨-, q⟩ | ⟨q, j, q1, -⟩
          · exact ⟨_, List.mem_cons_self .., q.symm⟩
          · rw [nolb] at q1; cases q1
        · rw [An] at q1 ⊢
          exact k_fol15 hB (S 0 _ rfl) (S 1 _ rfl) (S 2 _ rfl) ib c1 hs c2 (by show cA w G k + 3 < 65551; simp only [List.length_append, o16_len, List.length_cons, List.length_nil] at q1; omega) (by omega) (by omega) (by omega)
      · -- a jump
        obtain ⟨l, hlb⟩ := shp.2.1 (Or.inl h20)
        have tm : oTerm i = true := by unfold oTerm; rw [h20]; rfl
        have l0 : w_l0 i = l := by unfold w_l0; rw [hlb]
        have kf : K.2 = F.2 := by
          have := ht.1
          unfold w_ty at this; rw [h20] at this
          have this : K = F := this
          rw [this]
        obtain ⟨j, j1, j2, j3⟩ := lbs (0, l) (by rw [hlb]; exact List.mem_cons_self ..)
        have suL : ∀ t, cSU w G (cA w G k) t → t = cA w G j := fun t ht => by
          rcases su ht with ⟨q, -⟩ | ⟨q, j', q1, q2, q3⟩
          · rw [tm] at q; cases q
          · rw [hlb] at q1
            rw [List.mem_singleton.mp q1, j1] at q2
            cases q2; exact q3
        rw [kf] at j2
        cases w
        · have enc : w_enc false (cO false G) (cA false G k) i = [o8 167] ++ o16 (cO false G (cA false G k) l) := by unfold w_enc; rw [h20, l0]; rfl
          have fx : w_fx false (cA false G k) i [] = [(cA false G k + 1, cA false G k, l, false)] := by unfold w_fx; rw [h20, l0]; rfl
          obtain ⟨r1, r2⟩ := c_near (p := cA false G k) (l := l) hf (by rw [fx]; exact List.mem_cons_self ..) (by rw [fx]; intro q hq; rw [List.mem_singleton.mp hq]) hk
          rw [enc] at S
          obtain ⟨q1, q2⟩ := hP _ _ j2
          exact ⟨[(cA false G j, F.2.length)], fun q hq => by rw [List.mem_singleton.mp hq]; exact j2, fun t ht => ⟨_, List.mem_cons_self .., (suL t ht).symm⟩,
            k_folG hB (S 0 _ rfl) (S 1 _ rfl) (S 2 _ rfl) r1 r2 (c_offp j1) hs (by omega) (by omega) (by omega) (by omega) (by omega)⟩
        · have enc : w_enc true (cO true G) (cA true G k) i = [o8 200] ++ o32 (cO true G (cA true G k) l) := by unfold w_enc; rw [h20, l0]; rfl
          rw [enc] at S
          obtain ⟨t, t1, ⟨j', t2, t3⟩, t4⟩ := far (cA true G k) l F.2.length hs ⟨j, j1, j2⟩ (by omega) S
          rw [j1] at t2; cases t2
          exact ⟨[(t, F.2.length)], fun q hq => by rw [List.mem_singleton.mp hq]; exact t1, fun t' ht' => ⟨_, List.mem_cons_self .., by rw [suL t' ht', t3]⟩, t4⟩
      · -- a near jump with a condition
        cases w
        · obtain ⟨l, hlb⟩ := shp.2.1 (Or.inr h21)
          have tm : oTerm i = false := by unfold oTerm; rw [h21]; rfl
          have nx := nx tm
          have l0 : w_l0 i = l := by unfold w_l0; rw [hlb]
          obtain ⟨j, j1, j2, j3⟩ := lbs (0, l) (by rw [hlb]; exact List.mem_cons_self ..)
          have enc : w_enc false (cO false G) (cA false G k) i = [o8 (nI i.2.1)] ++ o16 (cO false G (cA false G k) l) := by unfold w_enc; rw [h21, l0]; rfl
          have fx : w_fx false (cA false G k) i [] = [(cA false G k + 1, cA false G k, l, false)] := by unfold w_fx; rw [h21, l0]; rfl
          obtain ⟨r1, r2⟩ := c_near (p := cA false G k) (l := l) hf (by rw [fx]; exact List.mem_cons_self ..) (by rw [fx]; intro q hq; rw [List.mem_singleton.mp hq]) hk
          rw [enc] at S An
          obtain ⟨q1, q2⟩ := hP _ _ nx
          obtain ⟨i1, x1, x2, v, lb⟩ := i
          have h21 : i1 = 21 := h21
          subst h21
          obtain ⟨y1, y2, y3, y4⟩ := ty21 ht.1
          obtain ⟨c, rfl, hc⟩ : ∃ c, x1 = 153 + c ∧ c < 12 := ⟨x1 - 153, by omega, by omega⟩
          refine ⟨[(cA false G j, K.2.length), (cA false G (k + 1), K.2.length)], fun q hq => ?_, fun t ht => ?_, ?_⟩
          · rcases List.mem_cons.mp hq with rfl | hq
            · exact j2
            · rw [List.mem_singleton.mp hq]; exact nx rfl
          · rcases su ht with ⟨-, q⟩ | ⟨q, j', q1, q2, q3⟩
            · exact ⟨_, List.mem_cons_of_mem _ (List.mem_cons_self ..), q.symm⟩
            · have hlb : lb = [(0, l)] := hlb
              have q1 : q ∈ lb := q1
              rw [hlb] at q1
              rw [List.mem_singleton.mp q1, j1] at q2
              cases q2; exact ⟨_, List.mem_cons_self .., q3.symm⟩
          · have e3 : cA false G (k + 1) = cA false G k + 3 := An
            rw [e3] at q1 ⊢
            refine k_folB (c := 153 + c) y1 (by omega) hB (S 0 _ rfl) (S 1 _ rfl) (S 2 _ rfl) r1 r2 (c_offp j1) hs ?_ (by omega) (by omega) (by omega) (by omega) (by omega)
            rw [dec_chB c hc, y4]
            by_cases q : c < 6
            · rw [if_pos q, if_pos (by omega), Nat.add_comm, nI_dl, Nat.zero_add]
            · rw [if_neg q, if_neg (by omega), Nat.add_comm, nI_dl, Nat.zero_add]
        · exact absurd ⟨rfl, h21⟩ hw
      · -- a switch
        obtain ⟨o, ks, kp, rfl⟩ := shp.2.2 h22
        have d1 : F.2.length = K.2.length + 1 := by
          have t := ht.1
          unfold w_swi at t
          cases hd : w_dense ks <;> rw [hd] at t <;> exact congrArg List.length t.2
        rw [d1] at hs
        have ho : ∀ q, q ∈ (w_swi o ks).2.2.2.2 → ∃ j, g_lat G q.2 = some j := fun q hq => by obtain ⟨j, j1, -⟩ := lbs q hq; exact ⟨j, j1⟩
        obtain ⟨tt, htt⟩ : ∃ tt : Nat → Nat, ∀ l j, g_lat G l = some j → tt l = cA w G j := ⟨fun l => match g_lat G l with | some j => cA w G j | none => 0, fun l j h => by simp only [h]⟩
        have ptt : ∀ q, q ∈ (w_swi o ks).2.2.2.2 → cPL w G (tt q.2) K.2.length := fun q hq => by obtain ⟨j, j1, j2, -⟩ := lbs q hq; rw [htt _ _ j1]; exact j2
        have ett : ∀ q, q ∈ (w_swi o ks).2.2.2.2 → nI (cA w G k) + cO w G (cA w G k) q.2 = nI (tt q.2) := fun q hq => by obtain ⟨j, j1, -⟩ := lbs q hq; rw [htt _ _ j1]; exact c_offp j1
        have suS : ∀ t, cSU w G (cA w G k) t → ∃ q, q ∈ (w_swi o ks).2.2.2.2 ∧ t = tt q.2 := fun t ht => by
          rcases su ht with ⟨q, -⟩ | ⟨q, j', q1, q2, q3⟩
          · unfold w_swi at q
            cases hd : w_dense ks <;> rw [hd] at q <;> cases q
          · exact ⟨q, q1, by rw [htt _ _ q2]; exact q3⟩
        have fin : ∀ (t0 : Nat) (r : List (Int32 × Nat)), (w_swi o ks).2.2.2.2 = (0, t0) :: r → kX0 (d + 4) 100 [.ref 0, .int (nI m), .int (nI cf), .int (nI (cA w G k))] (b_x x s) = some (none, b_x x (((tt t0, K.2.length) :: r.map (fun q => (tt q.2, K.2.length))).foldl b_rc s)) →
            ∃ L : List (Nat × Nat), (∀ q, q ∈ L → cPL w G q.1 q.2) ∧ (∀ t, cSU w G (cA w G k) t → ∃ q, q ∈ L ∧ q.1 = t) ∧ kX0 (d + 4) 100 [.ref 0, .int (nI m), .int (nI cf), .int (nI (cA w G k))] (b_x x s) = some (none, b_x x (L.foldl b_rc s)) := fun t0 r er h => by
          rw [er] at ptt suS
          refine ⟨_, fun q hq => ?_, fun t ht => ?_, h⟩
          · rcases List.mem_cons.mp hq with rfl | hq
            · exact ptt (0, t0) (List.mem_cons_self ..)
            · obtain ⟨q', q1, q2⟩ := List.mem_map.mp hq
              rw [← q2]; exact ptt q' (List.mem_cons_of_mem _ q1)
          · obtain ⟨q, q1, q2⟩ := suS t ht
            rcases List.mem_cons.mp q1 with rfl | q1
            · exact ⟨_, List.mem_cons_self .., q2.symm⟩
            · exact ⟨_, List.mem_cons_of_mem _ (List.mem_map.mpr ⟨q, q1, rfl⟩), q2.symm⟩
        cases hd : w_dense ks
        · have e : w_swi o ks = (23, 0, 0, 0, (0, o) :: ks) := by unfold w_swi; rw [hd]; rfl
          rw [e] at S An ptt ett fin
          have enc : w_enc w (cO w G) (cA w G k) (23, 0, 0, 0, (0, o) :: ks) = [o8 171] ++ (w_pad (cA w G k) ++ (o32 (cO w G (cA w G k) o) ++ (o32 (nI ks.length) ++ w_lke (cO w G (cA w G k)) ks))) := rfl
          have ln : ks.length ≤ 65535 := by
            rw [enc] at An
            simp only [List.length_append, w_lke_len, o32_len] at An
            omega
          exact fin o ks rfl (k_fol23 (tt := tt) hP hfn hl hM hx.1 S enc ln (by omega) (ett (0, o) (List.mem_cons_self ..)) (fun q hq => ett q (List.mem_cons_of_mem _ hq)) (ptt (0, o) (List.mem_cons_self ..)) (fun q hq => ptt q (List.mem_cons_of_mem _ hq)) hI hs)
        · obtain ⟨hv, e⟩ : ∃ v : Int, w_swi o ks = (22, 0, 0, 0, (0, o) :: w_tab o (w_span ks) v ks) := ⟨_, by unfold w_swi; rw [hd]; rfl⟩
          rw [e] at S An ptt ett fin
          have hlen := w_tab_hl (o := o) (v := hv) (ks := ks) (w_span_pos kp hd)
          generalize w_tab o (w_span ks) hv ks = r at *
          have enc : w_enc w (cO w G) (cA w G k) (22, 0, 0, 0, (0, o) :: r) = [o8 170] ++ (w_pad (cA w G k) ++ (o32 (cO w G (cA w G k) o) ++ (o32 (match r.head? with | some q => q.1 | none => 0) ++ (o32 (match r.getLast? with | some q => q.1 | none => 0) ++ w_ent (cO w G (cA w G k)) r)))) := rfl
          have ln : r.length ≤ 65535 := by
            rw [enc] at An
            simp only [List.length_append, w_ent_len, o32_len] at An
            omega
          exact fin o r rfl (k_fol22 (tt := tt) hP hfn hl hM hx.1 S enc hlen ln (by omega) (ett (0, o) (List.mem_cons_self ..)) (fun q hq => ett q (List.mem_cons_of_mem _ hq)) (ptt (0, o) (List.mem_cons_self ..)) (fun q hq => ptt q (List.mem_cons_of_mem _ hq)) hI hs)
      · exact absurd (shp.1 (by omega)).2 (by omega)
  · -- the far part of a jump with a condition
    obtain ⟨rfl, h21⟩ := hw
    obtain ⟨l, hlb⟩ := shp.2.1 (Or.inr h21)
    have l0 : w_l0 i = l := by unfold w_l0; rw [hlb]
    obtain ⟨j, j1, j2, j3⟩ := lbs (0, l) (by rw [hlb]; exact List.mem_cons_self ..)
    have suL : ∀ t, cSU true G (cA true G k + 3) t → t = cA true G j := fun t ht => by
      obtain ⟨q, j', q1, q2, q3⟩ := c_suC hk ⟨rfl, h21⟩ ht
      rw [hlb] at q1
      rw [List.mem_singleton.mp q1, j1] at q2
      cases q2; exact q3
    have enc : w_enc true (cO true G) (cA true G k) i = [o8 (nI (w_ctr i.2.1))] ++ (o16 8 ++ ([o8 200] ++ o32 (cO true G (cA true G k + 3) l))) := by unfold w_enc; rw [h21, l0]; rfl
    rw [enc] at S
    have ek : K.2.length = e := by
      have t := ht.1
      obtain ⟨i1, x1, x2, v, lb⟩ := i
      have h21 : i1 = 21 := h21
      subst h21
      obtain ⟨y1, y2, y3, y4⟩ := ty21 t
      have he : e + (if x1 ≤ 158 then 1 else 2) = F.2.length := he
      omega
    rw [ek] at j2
    obtain ⟨t, t1, ⟨j', t2, t3⟩, t4⟩ := far (cA true G k + 3) l e hs ⟨j, j1, j2⟩ (by omega) (fun j v hj => by
      have := S (3 + j) v (by rw [← List.append_assoc, List.getElem?_append_right (by show 3 ≤ 3 + j; omega)]; show _ = _; rw [show 3 + j - ([o8 (nI (w_ctr i.2.1))] ++ o16 8).length = j by show 3 + j - 3 = j; omega]; exact hj)
      rw [Nat.add_assoc]; exact this)
    rw [j1] at t2; cases t2
    exact ⟨[(t, e)], fun q hq => by rw [List.mem_singleton.mp hq]; exact t1, fun t' ht' => ⟨_, List.mem_cons_self .., by rw [suL t' ht', t3]⟩, t4⟩
end
