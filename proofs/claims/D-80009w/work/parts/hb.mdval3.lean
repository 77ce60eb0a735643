/-! values of CodeWriterModel: steps, choices, conditions -/
section
variable {nt : sp_NT} {N M : Nat} {w : Bool} {ba pf rf lf c : Nat} {lm : Nat → Nat} {lv : Nat → Bool} {x : mj_X} {g : wG} {res par : Nat → Int32} {f : Nat}
theorem m_stp {d : Nat} (hd : 5 * f + 11 ≤ d) (hf : 2 * f + 1 ≤ c) (hc : c ≤ 3990) (hT : wTb nt N M res par) (R : ∀ n, wE nt N f n → mV nt N M w ba pf rf lf f n) {t how : Int32} (ht : sp_nd N t = true) (htd : nD nt t ≤ f) (htk : nK nt t = 6 ∨ nK nt t = 8) (h1 : 1 ≤ nT nt t) (h4 : nT nt t ≤ 4) (hh1 : 0 ≤ how) (hh2 : how ≤ 3) (want : Bool) (h : Q1 nt N M w ba pf rf lf c lm lv x g)
    (hok : g_ok (w_stp nt (wV nt f) t how want g)) : J1 nt N M w ba pf rf lf c (kX1 d 77 [.ref 0, .int t, .int how, .int (sp_b want)] x) x lm lv g (w_stp nt (wV nt f) t how want g) := by
  obtain ⟨d, rfl⟩ : ∃ c, d = c + 1 := ⟨d - 1, by omega⟩
  have tyt : x.1 5 t.toNatClampNeg = nI (nT nt t) := by rw [h.T.2.2.2.1]; exact hT.ty ht
  have kt : x.1 2 t.toNatClampNeg = nK nt t := by rw [h.T.1]
  have at_ : x.1 3 t.toNatClampNeg = nA nt t := by rw [h.T.2.1]
  -- how it goes: op and behind
  obtain ⟨op, hop, bh, hop1, hbh1⟩ : ∃ op : Nat, (op = 10 ∨ op = 11) ∧ ∃ bh : Bool, (if how = 0 ∨ how = 2 then 10 else 11) = op ∧ decide (2 ≤ how) = bh := ⟨_, by split <;> simp, _, rfl, rfl⟩
  have e33 : kX1 (d + 1) 77 [.ref 0, .int t, .int how, .int (sp_b want)] x = rX1_stepped d (33, [some (.ref 0), some (.int t), some (.int how), some (.int (sp_b want)), some (.int (nI (nT nt t))), some (.int (nI op)), none, none], [.int (sp_b bh)], x) := by
    rw [eX1_stepped, h.nd ht, tyt]
    obtain ⟨j, hj, e⟩ := i_enum (a := 0) (c := 3) hh1 hh2 rfl rfl
    have hj : j = 0 ∨ j = 1 ∨ j = 2 ∨ j = 3 := by omega
    rw [← hop1, ← hbh1, e]
    rcases hj with rfl | rfl | rfl | rfl
    · rw [if_pos (by decide), bX1_stepped_21, if_pos (by decide)]; rfl
    · rw [if_neg (by decide), bX1_stepped_21, if_pos (by decide)]; rfl
    · rw [if_pos (by decide), bX1_stepped_21, if_neg (by decide)]; rfl
    · rw [if_neg (by decide), bX1_stepped_21, if_neg (by decide)]; rfl
  rw [e33, bX1_stepped_33, h.nd ht, kt]
  have hE : w_stp nt (wV nt f) t how want g = (if nK nt t = 6 ∧ nT nt t = 1 then (bif want && !bh then w_ld 1 (w_pl g (nA nt t)) [1] (w_inc (w_pl g (nA nt t)) (if op = 10 then 1 else -1) (bif want && bh then w_ld 1 (w_pl g (nA nt t)) [1] (w_pk (nA nt t) g) else w_pk (nA nt t) g)) else w_inc (w_pl g (nA nt t)) (if op = 10 then 1 else -1) (bif want && bh then w_ld 1 (w_pl g (nA nt t)) [1] (w_pk (nA nt t) g) else w_pk (nA nt t) g)) else bif !want || !bh then w_chg nt (wV nt f) t op (-1) want g else if nK nt t = 6 then w_st (nT nt t) (w_pl g (nA nt t)) (w_bin op (nT nt t) (w_one (nT nt t) (w_dup (nT nt t) (w_ld (nT nt t) (w_pl g (nA nt t)) (w_tl (nT nt t)) (w_pk (nA nt t) g))))) else w_est (nT nt (nA nt t)) (w_cut (Nat.beq (nT nt (nA nt t)) 5) (w_bin op (nT nt t) (w_one (nT nt t) (w_du (nT nt t) (w_eld (nT nt (nA nt t)) (w_d2 (wV nt f (nB nt t) 0 0 (wV nt f (nA nt t) 0 0 g))))))))) := by
    unfold w_stp; simp only [hop1, hbh1]
  rw [hE] at hok ⊢
  -- all but an int local
  have r116 : ¬ (nK nt t = 6 ∧ nT nt t = 1) → J1 nt N M w ba pf rf lf c (rX1_stepped d (116, [some (.ref 0), some (.int t), some (.int how), some (.int (sp_b want)), some (.int (nI (nT nt t))), some (.int (nI op)), some (.int (sp_b bh)), none], [], x)) x lm lv g (if nK nt t = 6 ∧ nT nt t = 1 then (bif want && !bh then w_ld 1 (w_pl g (nA nt t)) [1] (w_inc (w_pl g (nA nt t)) (if op = 10 then 1 else -1) (bif want && bh then w_ld 1 (w_pl g (nA nt t)) [1] (w_pk (nA nt t) g) else w_pk (nA nt t) g)) else w_inc (w_pl g (nA nt t)) (if op = 10 then 1 else -1) (bif want && bh then w_ld 1 (w_pl g (nA nt t)) [1] (w_pk (nA nt t) g) else w_pk (nA nt t) g)) else bif !want || !bh then w_chg nt (wV nt f) t op (-1) want g else if nK nt t = 6 then w_st (nT nt t) (w_pl g (nA nt t)) (w_bin op (nT nt t) (w_one (nT nt t) (w_dup (nT nt t) (w_ld (nT nt t) (w_pl g (nA nt t)) (w_tl (nT nt t)) (w_pk (nA nt t) g))))) else w_est (nT nt (nA nt t)) (w_cut (Nat.beq (nT nt (nA nt t)) 5) (w_bin op (nT nt t) (w_one (nT nt t) (w_du (nT nt t) (w_eld (nT nt (nA nt t)) (w_d2 (wV nt f (nB nt t) 0 0 (wV nt f (nA nt t) 0 0 g))))))))) := by
    intro hn
    rw [if_neg hn] at hok ⊢
    rw [bX1_stepped_116]
    have chg : g_ok (w_chg nt (wV nt f) t op (-1) want g) → J1 nt N M w ba pf rf lf c (kX1 d 55 [.ref 0, .int t, .int (nI op), .int (-1), .int (sp_b want)] x) x lm lv g (w_chg nt (wV nt f) t op (-1) want g) := fun ho => m_chg (by omega) hf hc hT R ht htd htk h1 h4 (by omega) (by omega) (fun q => absurd rfl q) want h ho
    cases want
    · rw [if_pos (by rfl)]; exact J1.end_ (chg hok)
    · rw [if_neg (by decide)]
      cases bh
      · rw [if_pos (by rfl)]; exact J1.end_ (chg hok)
      · rw [if_neg (by decide), h.nd ht, kt]
        simp only [Bool.not_true, Bool.or_false, cond_false] at hok ⊢
        by_cases k6 : nK nt t = 6
        · obtain ⟨v1, v2, v3⟩ := wE_load' hT ht k6
          rw [if_pos k6] at hok ⊢
          rw [if_pos k6, h.nd ht, at_, h.nd v1]
          have mk : wM (w_pk (nA nt t) g) (w_st (nT nt t) (w_pl g (nA nt t)) (w_bin op (nT nt t) (w_one (nT nt t) (w_dup (nT nt t) (w_ld (nT nt t) (w_pl g (nA nt t)) (w_tl (nT nt t)) (w_pk (nA nt t) g)))))) := (((((wM.rf _).ld _ _ _).dup _).one _).bin _ _).st _ _
          obtain ⟨hpx, hp⟩ := h.pl v1 (mk.1 hok).2
          rw [hpx]
          have h' : Q1 nt N M w ba pf rf lf c lm lv x (w_pk (nA nt t) g) := h
          have m1 : wM (w_pk (nA nt t) g) (w_ld (nT nt t) (w_pl g (nA nt t)) (w_tl (nT nt t)) (w_pk (nA nt t) g)) := (wM.rf _).ld _ _ _
          generalize hG1 : w_ld (nT nt t) (w_pl g (nA nt t)) (w_tl (nT nt t)) (w_pk (nA nt t) g) = G1 at *
          have m2 : wM G1 (w_dup (nT nt t) G1) := (wM.rf _).dup _
          generalize hG2 : w_dup (nT nt t) G1 = G2 at *
          have m3 : wM G2 (w_one (nT nt t) G2) := (wM.rf _).one _
          generalize hG3 : w_one (nT nt t) G2 = G3 at *
          have m4 : wM G3 (w_bin op (nT nt t) G3) := (wM.rf _).bin _ _
          generalize hG4 : w_bin op (nT nt t) G3 = G4 at *
          have m5 : wM G4 (w_st (nT nt t) (w_pl g (nA nt t)) G4) := (wM.rf _).st _ _
          have ok4 := m5.1 hok
          have ok3 := m4.1 ok4
          have ok2 := m3.1 ok3
          have ok1 := m2.1 ok2
          refine J1.b (g := w_pk (nA nt t) g) m1 (by rw [← hG1] at ok1 ⊢; exact m_ld (by omega) h' ok1 h1 (by omega) hp rfl) (fun lm1 lv1 x1 q1 _ _ => ?_)
          refine J1.b m2 (by rw [← hG2] at ok2 ⊢; exact m_dup (by omega) (by omega) q1 ok2) (fun lm2 lv2 x2 q2 _ _ => ?_)
          refine J1.b m3 (by rw [← hG3] at ok3 ⊢; exact m_one (by omega) h1 h4 q2 ok3) (fun lm3 lv3 x3 q3 _ _ => ?_)
          refine J1.b m4 (by rw [← hG4] at ok4 ⊢; exact m_bin (by omega) (by omega) (by omega) h1 h4 q3 ok4) (fun lm4 lv4 x4 q4 _ _ => ?_)
          exact J1.end_ (m_st (by omega) q4 hok h1 (by omega) hp)
        · have k8 : nK nt t = 8 := htk.resolve_left k6
          rw [if_neg k6] at hok ⊢
          obtain ⟨ea, eb, a5, a8, -, -⟩ := wE_at' hT ht htd k8
          have tya : x.1 5 (x.1 3 t.toNatClampNeg).toNatClampNeg = nI (nT nt (nA nt t)) := by rw [h.T.2.1, h.T.2.2.2.1]; exact hT.ty ea.1
          rw [if_neg k6, h.nd ht, tya]
          rw [show mj_g (x.1 3 t.toNatClampNeg) 4000 = mj_g (nA nt t) 4000 by rw [at_], h.nd ea.1, h.nd ht]
          generalize hG2 : wV nt f (nB nt t) 0 0 (wV nt f (nA nt t) 0 0 g) = G2 at hok ⊢
          have m3 : wM G2 (w_d2 G2) := (wM.rf _).d2
          generalize hG3 : w_d2 G2 = G3 at *
          have m4 : wM G3 (w_eld (nT nt (nA nt t)) G3) := (wM.rf _).eld _
          generalize hG4 : w_eld (nT nt (nA nt t)) G3 = G4 at *
          have m5 : wM G4 (w_du (nT nt t) G4) := (wM.rf _).du _
          generalize hG5 : w_du (nT nt t) G4 = G5 at *
          have m6 : wM G5 (w_one (nT nt t) G5) := (wM.rf _).one _
          generalize hG6 : w_one (nT nt t) G5 = G6 at *
          have m7 : wM G6 (w_bin op (nT nt t) G6) := (wM.rf _).bin _ _
          generalize hG7 : w_bin op (nT nt t) G6 = G7 at *
          have m8 : wM G7 (w_cut (Nat.beq (nT nt (nA nt t)) 5) G7) := (wM.rf _).cut _
          have m9 : wM (w_cut (Nat.beq (nT nt (nA nt t)) 5) G7) (w_est (nT nt (nA nt t)) (w_cut (Nat.beq (nT nt (nA nt t)) 5) G7)) := (wM.rf _).est _
          have ok8 := m9.1 hok
          have ok7 := m8.1 ok8
          have ok6 := m7.1 ok7
          have ok5 := m6.1 ok6
          have ok4 := m5.1 ok5
          have ok3 := m4.1 ok4
          have ok2 := m3.1 ok3
          refine J1.two (by omega) hf hc hT R ht htd k8 h (by rw [hG2]; exact ok2) (fun lm2 lv2 x2 q2 f2 => ?_)
          rw [hG2] at q2 ⊢
          refine J1.b m3 (by rw [← hG3] at ok3 ⊢; exact m_d2 (by omega) q2 ok3) (fun lm3 lv3 x3 q3 _ _ => ?_)
          refine J1.b m4 (by rw [← hG4] at ok4 ⊢; exact m_el (b := false) (by omega) a5 a8 q3 ok4) (fun lm4 lv4 x4 q4 _ _ => ?_)
          refine J1.b m5 (by rw [← hG5] at ok5 ⊢; exact m_du (by omega) (by omega) q4 ok5) (fun lm5 lv5 x5 q5 _ _ => ?_)
          refine J1.b m6 (by rw [← hG6] at ok6 ⊢; exact m_one (by omega) h1 h4 q5 ok6) (fun lm6 lv6 x6 q6 _ _ => ?_)
          refine J1.b m7 (by rw [← hG7] at ok7 ⊢; exact m_bin (by omega) (by omega) (by omega) h1 h4 q6 ok7) (fun lm7 lv7 x7 q7 _ _ => ?_)
          exact J1.cut (k := fun y => mj_rV (kX1 d 72 [.ref 0, .int (nI (nT nt (nA nt t))), .int (1 : Int32)] y) fun x16 => some (none, x16)) (by omega) (by omega) q7 ok8 (fun lm8 lv8 x8 q8 _ => J1.end_ (m_el (b := true) (by omega) a5 a8 q8 hok))
  by_cases k6 : nK nt t = 6
  · rw [if_pos k6]
    by_cases c1 : nT nt t = 1
    · obtain ⟨v1, v2, v3⟩ := wE_load' hT ht k6
      rw [if_pos (by rw [c1]; rfl), h.nd ht, at_, h.nd v1]
      have hcond : nK nt t = 6 ∧ nT nt t = 1 := ⟨k6, c1⟩
      rw [if_pos hcond] at hok ⊢
      have mk : wM (w_pk (nA nt t) g) (bif want && !bh then w_ld 1 (w_pl g (nA nt t)) [1] (w_inc (w_pl g (nA nt t)) (if op = 10 then 1 else -1) (bif want && bh then w_ld 1 (w_pl g (nA nt t)) [1] (w_pk (nA nt t) g) else w_pk (nA nt t) g)) else w_inc (w_pl g (nA nt t)) (if op = 10 then 1 else -1) (bif want && bh then w_ld 1 (w_pl g (nA nt t)) [1] (w_pk (nA nt t) g) else w_pk (nA nt t) g)) := by
        have s := (wM.cond (c := want && bh) ((wM.rf (w_pk (nA nt t) g)).ld 1 (w_pl g (nA nt t)) [1]) (wM.rf (w_pk (nA nt t) g))).inc (w_pl g (nA nt t)) (if op = 10 then 1 else -1)
        exact wM.cond (s.ld _ _ _) s
      obtain ⟨hpx, hp⟩ := h.pl v1 (mk.1 hok).2
      rw [hpx]
      have h' : Q1 nt N M w ba pf rf lf c lm lv x (w_pk (nA nt t) g) := h
      -- from the growth on
      have r81 : ∀ {lm1 : Nat → Nat} {lv1 : Nat → Bool} {x1 : mj_X} {g1 : wG}, Q1 nt N M w ba pf rf lf c lm1 lv1 x1 g1 → g_ok (bif want && !bh then w_ld 1 (w_pl g (nA nt t)) [1] (w_inc (w_pl g (nA nt t)) (if op = 10 then 1 else -1) g1) else w_inc (w_pl g (nA nt t)) (if op = 10 then 1 else -1) g1) → J1 nt N M w ba pf rf lf c (rX1_stepped d (81, [some (.ref 0), some (.int t), some (.int how), some (.int (sp_b want)), some (.int (nI (nT nt t))), some (.int (nI op)), some (.int (sp_b bh)), some (.int (nI (w_pl g (nA nt t))))], [], x1)) x1 lm1 lv1 g1 (bif want && !bh then w_ld 1 (w_pl g (nA nt t)) [1] (w_inc (w_pl g (nA nt t)) (if op = 10 then 1 else -1) g1) else w_inc (w_pl g (nA nt t)) (if op = 10 then 1 else -1) g1) := by
        intro lm1 lv1 x1 g1 q1 hok1
        have r96 : ∀ s2 : Int32, s2.toInt64 = (if op = 10 then 1 else -1) → J1 nt N M w ba pf rf lf c (rX1_stepped d (96, [some (.ref 0), some (.int t), some (.int how), some (.int (sp_b want)), some (.int (nI (nT nt t))), some (.int (nI op)), some (.int (sp_b bh)), some (.int (nI (w_pl g (nA nt t))))], [.int s2, .int (nI (w_pl g (nA nt t))), .ref 0], x1)) x1 lm1 lv1 g1 (bif want && !bh then w_ld 1 (w_pl g (nA nt t)) [1] (w_inc (w_pl g (nA nt t)) (if op = 10 then 1 else -1) g1) else w_inc (w_pl g (nA nt t)) (if op = 10 then 1 else -1) g1) := by
          intro s2 hs2
          rw [bX1_stepped_96]
          rw [← hs2] at hok1 ⊢
          have mi : wM (w_inc (w_pl g (nA nt t)) s2.toInt64 g1) (bif want && !bh then w_ld 1 (w_pl g (nA nt t)) [1] (w_inc (w_pl g (nA nt t)) s2.toInt64 g1) else w_inc (w_pl g (nA nt t)) s2.toInt64 g1) := wM.cond ((wM.rf _).ld _ _ _) (wM.rf _)
          refine J1.b ((wM.rf g1).inc _ _) (m_inc (by omega) hp s2 q1 (mi.1 hok1)) (fun lm2 lv2 x2 q2 _ _ => ?_)
          cases want
          · rw [if_pos (by rfl)]; exact J1.id_ q2
          · rw [if_neg (by decide)]
            cases bh
            · rw [if_pos (by rfl)]; exact J1.end_ (m_ld (t := 1) (by omega) q2 hok1 (by omega) (by omega) hp rfl)
            · rw [if_neg (by decide)]; exact J1.id_ q2
        rw [bX1_stepped_81]
        rcases hop with rfl | rfl
        · rw [if_pos (by rfl)]; exact r96 1 rfl
        · rw [if_neg (by decide)]; exact r96 (-1) rfl
      cases want
      · rw [if_pos (by rfl)]; exact r81 h' hok
      · rw [if_neg (by decide)]
        cases bh
        · rw [if_pos (by rfl)]; exact r81 h' hok
        · rw [if_neg (by decide)]
          have mi : wM (w_ld 1 (w_pl g (nA nt t)) [1] (w_pk (nA nt t) g)) (w_inc (w_pl g (nA nt t)) (if op = 10 then 1 else -1) (w_ld 1 (w_pl g (nA nt t)) [1] (w_pk (nA nt t) g))) := (wM.rf _).inc _ _
          exact J1.b (g := w_pk (nA nt t) g) ((wM.rf _).ld _ _ _) (m_ld (t := 1) (by omega) h' (mi.1 hok) (by omega) (by omega) hp rfl) (fun lm1 lv1 x1 q1 _ _ => r81 q1 hok)
    · rw [if_neg (show ¬ nI (nT nt t) = (1 : Int32) from fun r => c1 ((nI_eq (b := 1) (by omega) (by omega)).mp r))]
      exact r116 (fun q => c1 q.2)
  · rw [if_neg k6]; exact r116 (fun q => k6 q.1)
end
