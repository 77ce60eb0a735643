/-! CodeWriter: results; the pool -/
theorem sX0_isWide {d : Nat} (hd : 1 ≤ d) (t : Int32) (x : mj_X) : kX0 d 27 [.int t] x = some (some (.int (sp_b (sp_wide t))), x) := by
  obtain ⟨d, rfl⟩ : ∃ c, d = c + 1 := ⟨d - 1, by omega⟩
  rw [eX0_isWide]; unfold sp_wide sp_b
  by_cases h1 : t = 2 <;> by_cases h2 : t = 4 <;> simp [h1, h2]
theorem sX0_placesOf {d : Nat} (hd : 2 ≤ d) (t : Int32) (x : mj_X) : kX0 d 26 [.int t] x = some (some (.int (sp_pl t)), x) := by
  obtain ⟨d, rfl⟩ : ∃ c, d = c + 1 := ⟨d - 1, by omega⟩
  rw [eX0_placesOf, sX0_isWide (by omega)]; unfold sp_pl
  simp only [mj_rI_k, sp_b0]
  by_cases h1 : t = 0
  · simp [h1]
  · cases h2 : sp_wide t <;> simp [h1]
theorem sp_wide_n {t : Nat} (ht : t ≤ 8) : sp_wide (nI t) = decide (t = 2 ∨ t = 4) := by
  have : t = 0 ∨ t = 1 ∨ t = 2 ∨ t = 3 ∨ t = 4 ∨ t = 5 ∨ t = 6 ∨ t = 7 ∨ t = 8 := by omega
  rcases this with rfl | rfl | rfl | rfl | rfl | rfl | rfl | rfl | rfl <;> rfl
theorem sX0_letterOf {d t : Nat} (hd : 1 ≤ d) (h1 : 1 ≤ t) (h8 : t ≤ 8) (x : mj_X) : kX0 d 41 [.int (nI t)] x = some (some (.int (nI (w_ltr t))), x) := by
  obtain ⟨d, rfl⟩ : ∃ c, d = c + 1 := ⟨d - 1, by omega⟩
  rw [eX0_letterOf]
  have : t = 1 ∨ t = 2 ∨ t = 3 ∨ t = 4 ∨ t = 5 ∨ t = 6 ∨ t = 7 ∨ t = 8 := by omega
  rcases this with rfl | rfl | rfl | rfl | rfl | rfl | rfl | rfl <;> rfl
theorem sX0_arrayLetter {d t : Nat} (hd : 1 ≤ d) (h1 : 5 ≤ t) (h8 : t ≤ 8) (x : mj_X) : kX0 d 45 [.int (nI t)] x = some (some (.int (nI (w_arl t))), x) := by
  obtain ⟨d, rfl⟩ : ∃ c, d = c + 1 := ⟨d - 1, by omega⟩
  rw [eX0_arrayLetter]
  have : t = 5 ∨ t = 6 ∨ t = 7 ∨ t = 8 := by omega
  rcases this with rfl | rfl | rfl | rfl <;> rfl
theorem sX0_opOf {d k t : Nat} (hd : 1 ≤ d) (h1 : 10 ≤ k) (h2 : k ≤ 20) (t1 : 1 ≤ t) (t4 : t ≤ 4) (x : mj_X) : kX0 d 52 [.int (nI k), .int (nI t)] x = some (some (.int (nI (w_bop k t))), x) := by
  obtain ⟨d, rfl⟩ : ∃ c, d = c + 1 := ⟨d - 1, by omega⟩
  rw [eX0_opOf]
  have hk : k = 10 ∨ k = 11 ∨ k = 12 ∨ k = 13 ∨ k = 14 ∨ k = 15 ∨ k = 16 ∨ k = 17 ∨ k = 18 ∨ k = 19 ∨ k = 20 := by omega
  have ht : t = 1 ∨ t = 2 ∨ t = 3 ∨ t = 4 := by omega
  rcases ht with rfl | rfl | rfl | rfl <;> (rcases hk with rfl | rfl | rfl | rfl | rfl | rfl | rfl | rfl | rfl | rfl | rfl <;> rfl)
theorem mj_rV_id {r : mj_R} {y : mj_X} (h : mj_rV r (fun z => some (none, z)) = some (none, y)) : r = some (none, y) := by
  unfold mj_rV at h
  split at h
  · exact h
  · cases h
section
variable {nt : sp_NT} {N : Nat} {P : yP} {X : List (Nat × Bool)} {b : Nat} {lm lm' : Nat → Nat} {lv lv' : Nat → Bool} {x y : mj_X} {g h G H : wG}
theorem KJ.of {n : Nat} {r : mj_R} (a : ∃ x', r = some (none, x') ∧ Y1 nt N P X b lm lv x' G ∧ yfr (yw (p_pf P) (p_lf P)) (p_pf P) x x' ∧ (x'.1 0 29 = 0 → x.1 0 29 = 0 ∧ yT x g x' G)) : KJ nt N P X b n g r x lm lv G := by
  obtain ⟨x', e, q, f, t⟩ := a
  exact ⟨lm, lv, x', e, q, fun _ _ => ⟨rfl, rfl⟩, f, t⟩
theorem KJ.of2 {n l : Nat} {r : mj_R} (hl : n ≤ l) (a : ∃ lv' x', r = some (none, x') ∧ Y1 nt N P X b lm lv' x' G ∧ (∀ k, k ≠ l → lv' k = lv k) ∧ yfr (yw (p_pf P) (p_lf P)) (p_pf P) x x' ∧ (x'.1 0 29 = 0 → x.1 0 29 = 0 ∧ yT x g x' G)) : KJ nt N P X b n g r x lm lv G := by
  obtain ⟨lv', x', e, q, k, f, t⟩ := a
  exact ⟨lm, lv', x', e, q, fun i hi => ⟨rfl, k i (by omega)⟩, f, t⟩
theorem c_em {d n off : Nat} {on : List Nat} (hd : 2 ≤ d) {i : wI} {cc : Int32} {bs : List Int32} {k : mj_X → mj_R} (a : Y1 nt N P X b lm lv x g) (hi : w_in1 (p_w P) i cc bs) (hk : EK (p_w P) (p_M P) (p_cf P) bs k) : KJ nt N P X b n g (mj_rV (kX0 d 37 [.ref 0, .int cc] x) k) x lm lv (w_em i off on g) := by
  obtain ⟨x', e, q, f, t⟩ := c_it (F := (g_L g, on ++ (g_st g).drop off)) hd a hi hk
  refine KJ.of ⟨x', e, ?_, f, ?_⟩
  · cases hq : w_q g
    · have : w_em i off on g = s_ok (off ≤ (g_st g).length) (w_es i (g_L g, on ++ (g_st g).drop off) g) := by unfold w_em; rw [hq]; rfl
      rw [this]; exact q
    · have : w_em i off on g = g := by unfold w_em; rw [hq]; rfl
      rw [w_es_q hq] at q
      rw [this]; exact q
  · cases hq : w_q g
    · have : w_em i off on g = s_ok (off ≤ (g_st g).length) (w_es i (g_L g, on ++ (g_st g).drop off) g) := by unfold w_em; rw [hq]; rfl
      rw [this]; exact t
    · have : w_em i off on g = g := by unfold w_em; rw [hq]; rfl
      rw [w_es_q hq] at t
      rw [this]; exact t
theorem c_es {d n : Nat} {F : wF} (hd : 2 ≤ d) {i : wI} {cc : Int32} {bs : List Int32} {k : mj_X → mj_R} (a : Y1 nt N P X b lm lv x g) (hi : w_in1 (p_w P) i cc bs) (hk : EK (p_w P) (p_M P) (p_cf P) bs k) : KJ nt N P X b n g (mj_rV (kX0 d 37 [.ref 0, .int cc] x) k) x lm lv (w_es i F g) := KJ.of (c_it hd a hi hk)
theorem KJ.un {n : Nat} {r : mj_R} (a : KJ nt N P X b n g (mj_rV r fun z => some (none, z)) x lm lv G) : KJ nt N P X b n g r x lm lv G := by
  obtain ⟨lm', lv', x', e, q⟩ := a
  exact ⟨lm', lv', x', mj_rV_id e, q⟩
theorem c_e1 {d n off : Nat} {on : List Nat} (hd : 2 ≤ d) {i : wI} {cc : Int32} (a : Y1 nt N P X b lm lv x g) (hi : w_in1 (p_w P) i cc []) : KJ nt N P X b n g (kX0 d 37 [.ref 0, .int cc] x) x lm lv (w_em i off on g) := (c_em hd a hi (EK.id_ _ _ _)).un
theorem c_es1 {d n : Nat} {F : wF} (hd : 2 ≤ d) {i : wI} {cc : Int32} (a : Y1 nt N P X b lm lv x g) (hi : w_in1 (p_w P) i cc []) : KJ nt N P X b n g (kX0 d 37 [.ref 0, .int cc] x) x lm lv (w_es i F g) := (c_es hd a hi (EK.id_ _ _ _)).un
/-! the pool -/
theorem y_po.at {pf : Nat} : ∀ (l : List (Nat × Int64)) {e : Nat × Int64} {r : List (Nat × Int64)}, y_po pf x (l ++ e :: r) → (x.1 18 (pf + r.length) = nI (w_pi r) ∧ x.1 19 (pf + r.length) = nI e.1 ∧ x.2 20 (pf + r.length) = e.2 ∧ e.1 < 100) := by
  intro l
  induction l with
  | nil => intro e r h; exact h.1
  | cons a l ih => intro e r h; exact ih h.2
theorem y_po.mono {pf : Nat} : ∀ {l : List (Nat × Int64)}, y_po pf x l → (∀ j, j < l.length → y.1 18 (pf + j) = x.1 18 (pf + j) ∧ y.1 19 (pf + j) = x.1 19 (pf + j) ∧ y.2 20 (pf + j) = x.2 20 (pf + j)) → y_po pf y l := by
  intro l
  induction l with
  | nil => intro _ _; trivial
  | cons e r ih =>
    intro h hm
    obtain ⟨m1, m2, m3⟩ := hm r.length (by simp)
    refine ⟨?_, ih h.2 (fun j hj => hm j (by simp; omega))⟩
    rw [m1, m2, m3]; exact h.1
theorem o8_s {s : Nat} (hs : s < 100) : (nI s).toInt8.toInt32.toInt8.toInt32 = nI s := by
  have key : ∀ s : Fin 100, (nI s.val).toInt8.toInt32.toInt8.toInt32 = nI s.val := by decide +kernel
  exact key ⟨s, hs⟩
/-- an entry is there, or is made; all is exact -/
theorem c_pool {d s : Nat} (hd : 2 ≤ d) {v : Int64} (a : Y1 nt N P X b lm lv x g) (h29 : x.1 0 29 = 0) (hs : s < 100) (hlen : (w_pn s v (g_po g)).length ≤ 100) :
    ∃ x', kX0 d 51 [.ref 0, .int (nI s), .long v] x = some (some (.int (nI (w_px s v (g_po g)))), x') ∧ Y1 nt N P X b lm lv x' (s_po (w_pn s v (g_po g)) g) ∧ yfr (yw (p_pf P) (p_lf P)) (p_pf P) x x' ∧ x'.1 0 29 = 0 ∧ yT x g x' (s_po (w_pn s v (g_po g)) g) := by
  obtain ⟨d, rfl⟩ : ∃ c, d = c + 1 := ⟨d - 1, by omega⟩
  obtain ⟨hL, o1, o2, o3, o4, o5, o6, o7, ⟨p1, p2, p3, p4⟩, o9⟩ := a.ex h29
  obtain ⟨-, ⟨e1, e2, -, -⟩, e3, -, -, e6, -⟩ := a.1
  rw [eX0_pool, e1, nI_clamp (by omega), mj_g_k (mj_in_nI (by omega) (by omega)), e3]
  have fin : ∀ (z : mj_X) (po : List (Nat × Int64)), yPo (p_pf P) z po → yfr (yw (p_pf P) (p_lf P)) (p_pf P) x z → (∀ j, j ≠ 43 → j ≠ 44 → z.1 0 j = x.1 0 j) → (∀ k, k ≠ 0 → k ≠ 18 → k ≠ 19 → z.1 k = x.1 k) → Y1 nt N P X b lm lv z (s_po po g) ∧ yfr (yw (p_pf P) (p_lf P)) (p_pf P) x z ∧ z.1 0 29 = 0 ∧ yT x g z (s_po po g) := by
    intro z po hp fz ez ek
    refine ⟨⟨a.1.fr fz, a.2.1, a.2.2.1, Or.inl ⟨(ez 29 (by decide) (by decide)).trans h29, ?_, ?_⟩⟩, fz, (ez 29 (by decide) (by decide)).trans h29, yT.rf rfl (ez 48 (by decide) (by decide)) (ez 47 (by decide) (by decide))⟩
    · exact hL.fr (ez 37 (by decide) (by decide)) (ez 38 (by decide) (by decide)) (ek 36 (by decide) (by decide) (by decide)) (ek 37 (by decide) (by decide) (by decide))
    · refine ⟨o1, o2, (ez 30 (by decide) (by decide)).trans o3, (ez 31 (by decide) (by decide)).trans o4, ?_, ?_, ?_, hp, ?_⟩
      · rw [ez 28 (by decide) (by decide), ek 28 (by decide) (by decide) (by decide)]; exact o5
      · unfold yF at *
        rw [ez 42 (by decide) (by decide), ek 40 (by decide) (by decide) (by decide), ek 41 (by decide) (by decide) (by decide), ek 42 (by decide) (by decide) (by decide)]; exact o6
      · unfold yV at *
        rw [ek 36 (by decide) (by decide) (by decide), ek 37 (by decide) (by decide) (by decide)]; exact o7
      · unfold yN at *
        rw [ez 46 (by decide) (by decide), ez 47 (by decide) (by decide), ez 48 (by decide) (by decide), ek 24 (by decide) (by decide) (by decide)]; exact o9
  have hpi := w_pi_le (g_po g)
  have loop : ∀ (n : Nat) (l r : List (Nat × Int64)), l.length = n → g_po g = l ++ r → w_pf s v r = none → ∃ x', rX0_pool d (11, [some (.ref 0), some (.int (nI s)), some (.long v), none, some (.int (nI (p_pf P + r.length)))], [], x) = some (some (.int (nI (w_px s v (g_po g)))), x') ∧ Y1 nt N P X b lm lv x' (s_po (w_pn s v (g_po g)) g) ∧ yfr (yw (p_pf P) (p_lf P)) (p_pf P) x x' ∧ x'.1 0 29 = 0 ∧ yT x g x' (s_po (w_pn s v (g_po g)) g) := by
    intro n
    induction n with
    | zero =>
      intro l r hl hlr hr
      have : l = [] := List.length_eq_zero_iff.mp hl
      subst this
      have hlr : g_po g = r := hlr
      rw [← hlr] at hr ⊢
      have pn : w_pn s v (g_po g) = (s, v) :: g_po g := by unfold w_pn; rw [hr]
      have px : w_px s v (g_po g) = w_pi (g_po g) := by unfold w_px; rw [hr]
      rw [pn] at hlen ⊢
      rw [px]
      simp only [List.length_cons] at hlen
      rw [bX0_pool_11, p1, if_pos (Int32.le_refl _), if_neg (show ¬ nI (p_pf P + (g_po g).length) = Int32.ofNat 8000 from fun z => by have := (nI_eq (b := 8000) (by omega) (by omega)).mp z; omega), nI_clamp (by omega), mj_g_k (mj_in_nI (by omega) (by omega)), mj_g_k (mj_in_nI (by omega) (by omega)), mj_g_k (mj_in_nI (by omega) (by omega)), sX0_isWide (by omega), mj_rI_k, p2, o8_s hs, nI_1, sp_bi]
      have fr0 : yfr (yw (p_pf P) (p_lf P)) (p_pf P) x (mj_wI (mj_wI (mj_wL (mj_wI x 19 (p_pf P + (g_po g).length) (nI s)) 20 (p_pf P + (g_po g).length) v) 18 (p_pf P + (g_po g).length) (nI (w_pi (g_po g)))) 0 43 (nI (p_pf P + (g_po g).length + 1))) :=
        ((((yfr.rf _ _ _).w _ (by show Nat.ble (p_pf P) _ = true; exact Nat.ble_eq_true_of_le (by omega))).wl _ (by omega)).w _ (by show Nat.ble (p_pf P) _ = true; exact Nat.ble_eq_true_of_le (by omega))).w _ rfl
      have zp : ∀ n', n' = w_pi (g_po g) + w_wd s → yPo (p_pf P) (mj_wI (mj_wI (mj_wI (mj_wL (mj_wI x 19 (p_pf P + (g_po g).length) (nI s)) 20 (p_pf P + (g_po g).length) v) 18 (p_pf P + (g_po g).length) (nI (w_pi (g_po g)))) 0 43 (nI (p_pf P + (g_po g).length + 1))) 0 44 (nI n')) ((s, v) :: g_po g) := by
        intro n' hn'
        refine ⟨rfl, by rw [hn']; rfl, by simp only [List.length_cons]; omega, ⟨?_, ?_, ?_, hs⟩, p4.mono (fun j hj => ⟨?_, ?_, ?_⟩)⟩
        · show upd (x.1 18) _ _ _ = _; exact pk_us
        · show upd (x.1 19) _ _ _ = _; exact pk_us
        · show vp_updL (x.2 20) _ _ _ = _; unfold vp_updL; rw [if_pos rfl]
        · show upd (x.1 18) _ _ _ = _; exact pk_un (by omega)
        · show upd (x.1 19) _ _ _ = _; exact pk_un (by omega)
        · show vp_updL (x.2 20) _ _ _ = _; unfold vp_updL; rw [if_neg (by omega)]
      by_cases q2 : s = 2 ∨ s = 4
      · have hw : w_wd s = 2 := by unfold w_wd; rw [if_pos q2]
        have hwd : sp_wide (nI s) = true := by rcases q2 with rfl | rfl <;> rfl
        rw [if_neg (by rw [hwd]; decide), show nI (w_pi (g_po g)) + (2 : Int32) = nI (w_pi (g_po g) + 2) from nI_add _ 2]
        exact ⟨_, rfl, fin _ _ (zp _ (by rw [hw])) (fr0.w _ rfl) (fun j h1 h2 => by rw [mj_wI_1, if_pos rfl, if_neg h2, mj_wI_1, if_pos rfl, if_neg h1]; rfl) (fun k h1 h2 h3 => by funext j; rw [mj_wI_1, if_neg h1, mj_wI_1, if_neg h1, mj_wI_1, if_neg h2]; show (mj_wI x 19 _ _).1 k j = _; rw [mj_wI_1, if_neg h3])⟩
      · have hw : w_wd s = 1 := by unfold w_wd; rw [if_neg q2]
        have hwd : sp_wide (nI s) = false := by
          unfold sp_wide
          rw [decide_eq_false (fun (r : nI s = (2 : Int32)) => q2 (Or.inl ((nI_eq (b := 2) (by omega) (by omega)).mp r))), decide_eq_false (fun (r : nI s = (4 : Int32)) => q2 (Or.inr ((nI_eq (b := 4) (by omega) (by omega)).mp r)))]; rfl
        rw [if_pos hwd, nI_1]
        exact ⟨_, rfl, fin _ _ (zp _ (by rw [hw])) (fr0.w _ rfl) (fun j h1 h2 => by rw [mj_wI_1, if_pos rfl, if_neg h2, mj_wI_1, if_pos rfl, if_neg h1]; rfl) (fun k h1 h2 h3 => by funext j; rw [mj_wI_1, if_neg h1, mj_wI_1, if_neg h1, mj_wI_1, if_neg h2]; show (mj_wI x 19 _ _).1 k j = _; rw [mj_wI_1, if_neg h3])⟩
    | succ n ih =>
      intro l r hl hlr hr
      rcases List.eq_nil_or_concat l with rfl | ⟨l', e, rfl⟩
      · simp at hl
      · rw [List.concat_eq_append] at hlr hl
        have hlr2 : g_po g = l' ++ e :: r := by rw [hlr]; simp
        have hl' : l'.length = n := by simp at hl; exact hl
        have ll : (g_po g).length = n + (r.length + 1) := by rw [hlr2]; simp only [List.length_append, List.length_cons]; omega
        obtain ⟨q1, q2, q3, q4⟩ := (by rw [hlr2] at p4; exact y_po.at l' p4 : _)
        rw [bX0_pool_11, p1, if_neg (nI_ge (by omega) (by omega)), nI_clamp (by omega), mj_g_k (mj_in_nI (by omega) (by omega)), q2, q3]
        have next := ih l' (e :: r) hl' hlr2
        by_cases he1 : e.1 = s
        · rw [if_pos (by rw [he1]), mj_g_k (mj_in_nI (by omega) (by omega)), lg_if]
          by_cases he2 : e.2 = v
          · rw [if_pos he2, mj_g_k (mj_in_nI (by omega) (by omega)), q1]
            have hpf : w_pf s v (e :: r) = some (w_pi r) := by unfold w_pf; rw [hr, if_pos ⟨he1, he2⟩]
            have hpf2 : w_pf s v (g_po g) = some (w_pi r) := by rw [hlr2]; exact w_pf_app s v l' (e :: r) _ hpf
            have pn : w_pn s v (g_po g) = g_po g := by unfold w_pn; rw [hpf2]
            have px : w_px s v (g_po g) = w_pi r := by unfold w_px; rw [hpf2]
            rw [pn, px]
            exact ⟨x, rfl, fin x (g_po g) ⟨p1, p2, p3, p4⟩ (yfr.rf _ _ _) (fun _ _ _ => rfl) (fun _ _ _ _ => rfl)⟩
          · rw [if_neg he2, nI_1]
            have := next (by unfold w_pf; rw [hr, if_neg (fun z => he2 z.2)])
            simp only [List.length_cons] at this
            exact this
        · rw [if_neg (fun z => he1 ((nI_eq (by omega) (by omega)).mp z)), nI_1]
          have := next (by unfold w_pf; rw [hr, if_neg (fun z => he1 z.1)])
          simp only [List.length_cons] at this
          exact this
  have := loop (g_po g).length (g_po g) [] rfl (by simp) rfl
  simpa using this
/-- it was much -/
theorem c_poolM {d : Nat} (hd : 2 ≤ d) {s : Int32} {v : Int64} (a : Y1 nt N P X b lm lv x g) (h29 : ¬ x.1 0 29 = 0) : ∃ i x', kX0 d 51 [.ref 0, .int s, .long v] x = some (some (.int i), x') ∧ Y1 nt N P X b lm lv x' g ∧ yfr (yw (p_pf P) (p_lf P)) (p_pf P) x x' ∧ ¬ x'.1 0 29 = 0 := by
  obtain ⟨d, rfl⟩ : ∃ c, d = c + 1 := ⟨d - 1, by omega⟩
  obtain ⟨⟨m1, m2, m3, ⟨n0, m4, m5, m6⟩, m7, m8⟩, hL, ho⟩ := a.mc h29
  obtain ⟨-, ⟨e1, e2, -, -⟩, e3, -, -, e6, -⟩ := a.1
  rw [eX0_pool, e1, nI_clamp (by omega), mj_g_k (mj_in_nI (by omega) (by omega)), e3]
  have loop : ∀ (n j : Nat), j + n = n0 → ∃ i x', rX0_pool d (11, [some (.ref 0), some (.int s), some (.long v), none, some (.int (nI j))], [], x) = some (some (.int i), x') ∧ Y1 nt N P X b lm lv x' g ∧ yfr (yw (p_pf P) (p_lf P)) (p_pf P) x x' ∧ ¬ x'.1 0 29 = 0 := by
    intro n
    induction n with
    | zero =>
      intro j hj
      rw [bX0_pool_11, m6, if_pos (nI_le (by omega) (by omega))]
      by_cases q : n0 = 8000
      · rw [if_pos (show nI n0 = Int32.ofNat 8000 by rw [q]; rfl)]
        have f : yfr (yw (p_pf P) (p_lf P)) (p_pf P) x (mj_wI x 0 29 1) := (yfr.rf _ _ _).w _ rfl
        exact ⟨_, _, rfl, ⟨a.1.fr f, a.2.1, a.2.2.1, Or.inr ⟨⟨rfl, m2, m3, ⟨n0, m4, m5, m6⟩, m7, m8⟩, hL.fr rfl rfl rfl rfl, ho⟩⟩, f, by show ¬ (1 : Int32) = 0; decide⟩
      · rw [if_neg (show ¬ nI n0 = Int32.ofNat 8000 from fun z => q ((nI_eq (b := 8000) (by omega) (by omega)).mp z)), nI_clamp (by omega), mj_g_k (mj_in_nI (by omega) (by omega)), mj_g_k (mj_in_nI (by omega) (by omega)), mj_g_k (mj_in_nI (by omega) (by omega)), sX0_isWide (by omega), mj_rI_k]
        have fr0 : ∀ (u w1 : Int32) (w2 : Int64) (w3 w4 : Int32), yfr (yw (p_pf P) (p_lf P)) (p_pf P) x (mj_wI (mj_wI (mj_wI (mj_wL (mj_wI x 19 n0 w1) 20 n0 w2) 18 n0 w3) 0 43 w4) 0 44 u) := fun u w1 w2 w3 w4 =>
          (((((yfr.rf _ _ _).w _ (by show Nat.ble (p_pf P) _ = true; exact Nat.ble_eq_true_of_le (by omega))).wl _ (by omega)).w _ (by show Nat.ble (p_pf P) _ = true; exact Nat.ble_eq_true_of_le (by omega))).w _ rfl).w _ rfl
        have fin : ∀ (u w1 : Int32) (w2 : Int64) (w3 : Int32), Y1 nt N P X b lm lv (mj_wI (mj_wI (mj_wI (mj_wL (mj_wI x 19 n0 w1) 20 n0 w2) 18 n0 w3) 0 43 (nI n0 + 1)) 0 44 u) g := fun u w1 w2 w3 =>
          ⟨a.1.fr (fr0 _ _ _ _ _), a.2.1, a.2.2.1, Or.inr ⟨⟨m1, m2, m3, ⟨n0 + 1, by omega, by omega, nI_1 n0⟩, m7, m8⟩, hL.fr rfl rfl rfl rfl, ho⟩⟩
        split
        · exact ⟨_, _, rfl, fin _ _ _ _, fr0 _ _ _ _ _, by show ¬ x.1 0 29 = 0; rw [m1]; decide⟩
        · exact ⟨_, _, rfl, fin _ _ _ _, fr0 _ _ _ _ _, by show ¬ x.1 0 29 = 0; rw [m1]; decide⟩
    | succ n ih =>
      intro j hj
      rw [bX0_pool_11, m6, if_neg (nI_ge (by omega) (by omega)), nI_clamp (by omega), mj_g_k (mj_in_nI (by omega) (by omega)), mj_g_k (mj_in_nI (by omega) (by omega)), mj_g_k (mj_in_nI (by omega) (by omega)), nI_1]
      have := ih (j + 1) (by omega)
      split
      · split
        · exact ⟨_, x, rfl, a, yfr.rf _ _ _, h29⟩
        · exact this
      · exact this
  exact loop (n0 - p_pf P) (p_pf P) (by omega)
end
