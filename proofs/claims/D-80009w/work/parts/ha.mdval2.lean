/-! values of CodeWriterModel: changes and steps -/
theorem i64_rng {s : Int64} (h1 : -32768 ≤ s) (h2 : s ≤ 32767) : s.toInt32.toInt64 = s := by
  have b1 : (-32768 : Int) ≤ s.toInt := Int64.le_iff_toInt_le.mp h1
  have b2 : s.toInt ≤ 32767 := Int64.le_iff_toInt_le.mp h2
  apply Int64.toInt_inj.mp
  rw [Int32.toInt_toInt64, Int64.toInt_toInt32]
  exact Int.bmod_eq_of_le (by omega) (by omega)
section
variable {nt : sp_NT} {N M : Nat} {w : Bool} {ba pf rf lf c : Nat} {lm : Nat → Nat} {lv : Nat → Bool} {x : mj_X} {g : wG} {res par : Nat → Int32} {f : Nat}
theorem wE_load' (hT : wTb nt N M res par) {t : Int32} (ht : sp_nd N t = true) (hk : nK nt t = 6) : sp_nd N (nA nt t) = true ∧ nK nt (nA nt t) = 5 ∧ nT nt t = nT nt (nA nt t) := wE_load (f := 40) hT ht (by have := (hT.d ht).2; omega) hk
/-- load, operand, operator, perhaps twice, store -/
theorem m_ch136 {d : Nat} (hd : 5 * f + 9 ≤ d) (hf : 2 * f + 1 ≤ c) (hc : c ≤ 3990) (R : ∀ n, wE nt N f n → mV nt N M w ba pf rf lf f n) {e v a1 : Int32} (o7 : Option Value) {op t p : Nat} (hv : sp_nd N v = true) (hpx : x.1 48 v.toNatClampNeg = nI p) (hp : p < 256) (he : ¬ e = -1 → wE nt N f e) (h1 : 1 ≤ t) (h4 : t ≤ 4) (ho1 : 10 ≤ op) (ho2 : op ≤ 20) (want : Bool) (h : Q1 nt N M w ba pf rf lf c lm lv x g)
    (hok : g_ok (w_st t p (bif want then w_dup t (w_bin op t (w_opd nt (wV nt f) e t (w_ld t p (w_tl t) g))) else w_bin op t (w_opd nt (wV nt f) e t (w_ld t p (w_tl t) g))))) :
    J1 nt N M w ba pf rf lf c (rX1_changed d (136, [some (.ref 0), some (.int a1), some (.int (nI op)), some (.int e), some (.int (sp_b want)), some (.int (nI t)), some (.int v), o7, none], [], x)) x lm lv g (w_st t p (bif want then w_dup t (w_bin op t (w_opd nt (wV nt f) e t (w_ld t p (w_tl t) g))) else w_bin op t (w_opd nt (wV nt f) e t (w_ld t p (w_tl t) g)))) := by
  rw [bX1_changed_136, h.nd hv, hpx]
  have ml : wM g (w_ld t p (w_tl t) g) := (wM.rf g).ld _ _ _
  generalize hG1 : w_ld t p (w_tl t) g = G1 at *
  have mo : wM G1 (w_opd nt (wV nt f) e t G1) := (wM.rf _).opd (wV_mono nt f) e t
  generalize hG2 : w_opd nt (wV nt f) e t G1 = G2 at *
  have mb : wM G2 (w_bin op t G2) := (wM.rf _).bin op t
  generalize hG3 : w_bin op t G2 = G3 at *
  have ms : wM G3 (w_st t p (bif want then w_dup t G3 else G3)) := (wM.cond ((wM.rf _).dup t) (wM.rf _)).st t p
  have ok3 := ms.1 hok
  have ok2 := mb.1 ok3
  have ok1 := mo.1 ok2
  refine J1.b ml (by rw [← hG1] at ok1 ⊢; exact m_ld (by omega) h ok1 h1 (by omega) hp rfl) (fun lm1 lv1 x1 q1 _ f1 => ?_)
  refine J1.b mo (by rw [← hG2] at ok2 ⊢; exact m_opd (by omega) hf hc R he h1 h4 q1 ok2) (fun lm2 lv2 x2 q2 _ f2 => ?_)
  refine J1.b mb (by rw [← hG3] at ok3 ⊢; exact m_bin (by omega) ho1 ho2 h1 h4 q2 ok3) (fun lm3 lv3 x3 q3 _ f3 => ?_)
  have p3 : x3.1 48 v.toNatClampNeg = nI p := by rw [((f1.tr f2).tr f3).2 48 _ rfl]; exact hpx
  cases want
  · rw [if_pos (by rfl), q3.nd hv, p3]
    exact J1.end_ (m_st (by omega) q3 hok h1 (by omega) hp)
  · rw [if_neg (by decide)]
    have md : wM (w_dup t G3) (w_st t p (w_dup t G3)) := (wM.rf _).st t p
    refine J1.b ((wM.rf G3).dup t) (m_dup (by omega) (by omega) q3 (md.1 hok)) (fun lm4 lv4 x4 q4 _ f4 => ?_)
    rw [q4.nd hv, f4.2 48 _ rfl, p3]
    exact J1.end_ (m_st (by omega) q4 hok h1 (by omega) hp)
theorem m_chg {d : Nat} (hd : 5 * f + 10 ≤ d) (hf : 2 * f + 1 ≤ c) (hc : c ≤ 3990) (hT : wTb nt N M res par) (R : ∀ n, wE nt N f n → mV nt N M w ba pf rf lf f n) {t e : Int32} {op : Nat} (ht : sp_nd N t = true) (htd : nD nt t ≤ f) (htk : nK nt t = 6 ∨ nK nt t = 8) (h1 : 1 ≤ nT nt t) (h4 : nT nt t ≤ 4) (ho1 : 10 ≤ op) (ho2 : op ≤ 20) (he : ¬ e = -1 → wE nt N f e) (want : Bool) (h : Q1 nt N M w ba pf rf lf c lm lv x g)
    (hok : g_ok (w_chg nt (wV nt f) t op e want g)) : J1 nt N M w ba pf rf lf c (kX1 d 55 [.ref 0, .int t, .int (nI op), .int e, .int (sp_b want)] x) x lm lv g (w_chg nt (wV nt f) t op e want g) := by
  obtain ⟨d, rfl⟩ : ∃ c, d = c + 1 := ⟨d - 1, by omega⟩
  have tyt : x.1 5 t.toNatClampNeg = nI (nT nt t) := by rw [h.T.2.2.2.1]; exact hT.ty ht
  have kt : x.1 2 t.toNatClampNeg = nK nt t := by rw [h.T.1]
  have at_ : x.1 3 t.toNatClampNeg = nA nt t := by rw [h.T.2.1]
  rw [eX1_changed, h.nd ht, h.nd ht, kt, tyt]
  by_cases k6 : nK nt t = 6
  · obtain ⟨v1, v2, v3⟩ := wE_load' hT ht k6
    rw [if_pos k6, h.nd ht, at_]
    have hE : w_chg nt (wV nt f) t op e want g = (bif w_isI nt op (nT nt t) e then (bif want then w_ld 1 (w_pl g (nA nt t)) [1] (w_inc (w_pl g (nA nt t)) (w_by nt op e) (w_pk (nA nt t) g)) else w_inc (w_pl g (nA nt t)) (w_by nt op e) (w_pk (nA nt t) g)) else w_st (nT nt t) (w_pl g (nA nt t)) (bif want then w_dup (nT nt t) (w_bin op (nT nt t) (w_opd nt (wV nt f) e (nT nt t) (w_ld (nT nt t) (w_pl g (nA nt t)) (w_tl (nT nt t)) (w_pk (nA nt t) g)))) else w_bin op (nT nt t) (w_opd nt (wV nt f) e (nT nt t) (w_ld (nT nt t) (w_pl g (nA nt t)) (w_tl (nT nt t)) (w_pk (nA nt t) g))))) := by
      unfold w_chg; simp only [if_pos k6]
    rw [hE] at hok ⊢
    have mk : wM (w_pk (nA nt t) g) (bif w_isI nt op (nT nt t) e then (bif want then w_ld 1 (w_pl g (nA nt t)) [1] (w_inc (w_pl g (nA nt t)) (w_by nt op e) (w_pk (nA nt t) g)) else w_inc (w_pl g (nA nt t)) (w_by nt op e) (w_pk (nA nt t) g)) else w_st (nT nt t) (w_pl g (nA nt t)) (bif want then w_dup (nT nt t) (w_bin op (nT nt t) (w_opd nt (wV nt f) e (nT nt t) (w_ld (nT nt t) (w_pl g (nA nt t)) (w_tl (nT nt t)) (w_pk (nA nt t) g)))) else w_bin op (nT nt t) (w_opd nt (wV nt f) e (nT nt t) (w_ld (nT nt t) (w_pl g (nA nt t)) (w_tl (nT nt t)) (w_pk (nA nt t) g))))) := by
      refine wM.cond (wM.cond (((wM.rf _).inc _ _).ld _ _ _) ((wM.rf _).inc _ _)) ?_
      have s := (((wM.rf (w_pk (nA nt t) g)).ld (nT nt t) (w_pl g (nA nt t)) (w_tl (nT nt t))).opd (nt := nt) (wV_mono nt f) e (nT nt t)).bin op (nT nt t)
      exact (wM.cond (s.dup _) s).st _ _
    have hpk : g_pl g (nA nt t).toNatClampNeg ≠ none := (mk.1 hok).2
    obtain ⟨hpx, hp⟩ := h.pl v1 hpk
    have h' : Q1 nt N M w ba pf rf lf c lm lv x (w_pk (nA nt t) g) := h
    have full : w_isI nt op (nT nt t) e = false → ∀ o7, J1 nt N M w ba pf rf lf c (rX1_changed d (136, [some (.ref 0), some (.int t), some (.int (nI op)), some (.int e), some (.int (sp_b want)), some (.int (nI (nT nt t))), some (.int (nA nt t)), o7, none], [], x)) x lm lv g (bif w_isI nt op (nT nt t) e then (bif want then w_ld 1 (w_pl g (nA nt t)) [1] (w_inc (w_pl g (nA nt t)) (w_by nt op e) (w_pk (nA nt t) g)) else w_inc (w_pl g (nA nt t)) (w_by nt op e) (w_pk (nA nt t) g)) else w_st (nT nt t) (w_pl g (nA nt t)) (bif want then w_dup (nT nt t) (w_bin op (nT nt t) (w_opd nt (wV nt f) e (nT nt t) (w_ld (nT nt t) (w_pl g (nA nt t)) (w_tl (nT nt t)) (w_pk (nA nt t) g)))) else w_bin op (nT nt t) (w_opd nt (wV nt f) e (nT nt t) (w_ld (nT nt t) (w_pl g (nA nt t)) (w_tl (nT nt t)) (w_pk (nA nt t) g))))) := by
      intro hI o7
      rw [hI] at hok ⊢
      exact m_ch136 (by omega) hf hc R o7 v1 hpx hp he h1 h4 ho1 ho2 want h' hok
    have isF : ∀ {b : Bool}, b = false → b = false := fun q => q
    by_cases c1 : nT nt t = 1
    · rw [if_pos (by rw [c1]; rfl)]
      by_cases c2 : e = -1
      · rw [if_pos c2]
        exact full (by unfold w_isI; simp [c2]) none
      · rw [if_neg c2, h.nd (he c2).1, show x.1 2 e.toNatClampNeg = nK nt e by rw [h.T.1]]
        by_cases c3 : nK nt e = 1
        · rw [if_pos c3]
          have r60 : op = 10 ∨ op = 11 → J1 nt N M w ba pf rf lf c (rX1_changed d (60, [some (.ref 0), some (.int t), some (.int (nI op)), some (.int e), some (.int (sp_b want)), some (.int (nI (nT nt t))), some (.int (nA nt t)), none, none], [], x)) x lm lv g (bif w_isI nt op (nT nt t) e then (bif want then w_ld 1 (w_pl g (nA nt t)) [1] (w_inc (w_pl g (nA nt t)) (w_by nt op e) (w_pk (nA nt t) g)) else w_inc (w_pl g (nA nt t)) (w_by nt op e) (w_pk (nA nt t) g)) else w_st (nT nt t) (w_pl g (nA nt t)) (bif want then w_dup (nT nt t) (w_bin op (nT nt t) (w_opd nt (wV nt f) e (nT nt t) (w_ld (nT nt t) (w_pl g (nA nt t)) (w_tl (nT nt t)) (w_pk (nA nt t) g)))) else w_bin op (nT nt t) (w_opd nt (wV nt f) e (nT nt t) (w_ld (nT nt t) (w_pl g (nA nt t)) (w_tl (nT nt t)) (w_pk (nA nt t) g))))) := by
            intro hop
            have e84 : rX1_changed d (60, [some (.ref 0), some (.int t), some (.int (nI op)), some (.int e), some (.int (sp_b want)), some (.int (nI (nT nt t))), some (.int (nA nt t)), none, none], [], x) = rX1_changed d (84, [some (.ref 0), some (.int t), some (.int (nI op)), some (.int e), some (.int (sp_b want)), some (.int (nI (nT nt t))), some (.int (nA nt t)), none, none], [.long (w_by nt op e)], x) := by
              rw [bX1_changed_60, h.nd (he c2).1, h.T.2.1]
              unfold w_by
              rcases hop with rfl | rfl
              · rw [if_pos (by rfl), if_pos rfl]
              · rw [if_neg (by decide), if_neg (by decide), h.nd (he c2).1]
            rw [e84, bX1_changed_84]
            simp only [lg_cmp_lt0, lg_cmp_gt0]
            by_cases c4 : w_by nt op e < -32768
            · rw [if_pos c4]; exact full (by unfold w_isI; rw [decide_eq_false (Int64.not_le.mpr c4)]; simp) _
            · rw [if_neg c4]
              by_cases c5 : 32767 < w_by nt op e
              · rw [if_pos c5]; exact full (by unfold w_isI; rw [decide_eq_false (Int64.not_le.mpr c5)]; simp) _
              · rw [if_neg c5, h.nd v1, hpx]
                have b1 := Int64.not_lt.mp c4
                have b2 := Int64.not_lt.mp c5
                have hI : w_isI nt op (nT nt t) e = true := by
                  unfold w_isI
                  rw [decide_eq_true b1, decide_eq_true b2, decide_eq_true c3, decide_eq_false c2, c1]
                  rcases hop with rfl | rfl <;> rfl
                have rng : (w_by nt op e).toInt32.toInt64 = w_by nt op e := i64_rng b1 b2
                rw [hI] at hok ⊢
                have mi : wM (w_inc (w_pl g (nA nt t)) (w_by nt op e) (w_pk (nA nt t) g)) (bif want then w_ld 1 (w_pl g (nA nt t)) [1] (w_inc (w_pl g (nA nt t)) (w_by nt op e) (w_pk (nA nt t) g)) else w_inc (w_pl g (nA nt t)) (w_by nt op e) (w_pk (nA nt t) g)) := wM.cond ((wM.rf _).ld _ _ _) (wM.rf _)
                have oki := mi.1 hok
                have hi := m_inc (d := d) (by omega) hp (w_by nt op e).toInt32 h' (by rw [rng]; exact oki)
                rw [rng] at hi
                refine J1.b (g := w_pk (nA nt t) g) ((wM.rf _).inc (w_pl g (nA nt t)) (w_by nt op e)) hi (fun lm1 lv1 x1 q1 _ f1 => ?_)
                cases want
                · rw [if_pos (by rfl)]; exact J1.id_ q1
                · rw [if_neg (by decide), q1.nd v1, f1.2 48 _ rfl, hpx]
                  exact J1.end_ (m_ld (t := 1) (by omega) q1 hok (by omega) (by omega) hp rfl)
          by_cases c6 : op = 10
          · rw [if_pos (by rw [c6]; rfl)]; exact r60 (Or.inl c6)
          · rw [if_neg (show ¬ nI op = (10 : Int32) from fun r => c6 ((nI_eq (b := 10) (by omega) (by omega)).mp r))]
            by_cases c7 : op = 11
            · rw [if_pos (by rw [c7]; rfl)]; exact r60 (Or.inr c7)
            · rw [if_neg (show ¬ nI op = (11 : Int32) from fun r => c7 ((nI_eq (b := 11) (by omega) (by omega)).mp r))]
              refine full ?_ none
              have q1 : Nat.beq op 10 = false := by apply Bool.eq_false_iff.mpr; intro r; exact c6 (Nat.eq_of_beq_eq_true r)
              have q2 : Nat.beq op 11 = false := by apply Bool.eq_false_iff.mpr; intro r; exact c7 (Nat.eq_of_beq_eq_true r)
              unfold w_isI; rw [q1, q2]; simp
        · rw [if_neg c3]
          exact full (by unfold w_isI; rw [decide_eq_false c3]; simp) none
    · rw [if_neg (show ¬ nI (nT nt t) = (1 : Int32) from fun r => c1 ((nI_eq (b := 1) (by omega) (by omega)).mp r))]
      refine full ?_ none
      have q1 : Nat.beq (nT nt t) 1 = false := by apply Bool.eq_false_iff.mpr; intro r; exact c1 (Nat.eq_of_beq_eq_true r)
      unfold w_isI; rw [q1]; simp
  · have k8 : nK nt t = 8 := htk.resolve_left k6
    obtain ⟨ea, eb, a5, a8, -, -⟩ := wE_at' hT ht htd k8
    have tya : x.1 5 (x.1 3 t.toNatClampNeg).toNatClampNeg = nI (nT nt (nA nt t)) := by rw [h.T.2.1, h.T.2.2.2.1]; exact hT.ty ea.1
    rw [if_neg k6, h.nd ht, tya]
    rw [show mj_g (x.1 3 t.toNatClampNeg) 4000 = mj_g (nA nt t) 4000 by rw [at_], h.nd ea.1, h.nd ht]
    have hE : w_chg nt (wV nt f) t op e want g = w_est (nT nt (nA nt t)) (bif want then w_du (nT nt t) (w_cut (Nat.beq (nT nt (nA nt t)) 5) (w_bin op (nT nt t) (w_opd nt (wV nt f) e (nT nt t) (w_eld (nT nt (nA nt t)) (w_d2 (wV nt f (nB nt t) 0 0 (wV nt f (nA nt t) 0 0 g))))))) else w_cut (Nat.beq (nT nt (nA nt t)) 5) (w_bin op (nT nt t) (w_opd nt (wV nt f) e (nT nt t) (w_eld (nT nt (nA nt t)) (w_d2 (wV nt f (nB nt t) 0 0 (wV nt f (nA nt t) 0 0 g))))))) := by
      unfold w_chg; simp only [if_neg k6]
    rw [hE] at hok ⊢
    generalize hG2 : wV nt f (nB nt t) 0 0 (wV nt f (nA nt t) 0 0 g) = G2 at hok ⊢
    have m3 : wM G2 (w_d2 G2) := (wM.rf _).d2
    generalize hG3 : w_d2 G2 = G3 at *
    have m4 : wM G3 (w_eld (nT nt (nA nt t)) G3) := (wM.rf _).eld _
    generalize hG4 : w_eld (nT nt (nA nt t)) G3 = G4 at *
    have m5 : wM G4 (w_opd nt (wV nt f) e (nT nt t) G4) := (wM.rf _).opd (wV_mono nt f) e _
    generalize hG5 : w_opd nt (wV nt f) e (nT nt t) G4 = G5 at *
    have m6 : wM G5 (w_bin op (nT nt t) G5) := (wM.rf _).bin _ _
    generalize hG6 : w_bin op (nT nt t) G5 = G6 at *
    have m7 : wM G6 (w_cut (Nat.beq (nT nt (nA nt t)) 5) G6) := (wM.rf _).cut _
    have m8 : wM (w_cut (Nat.beq (nT nt (nA nt t)) 5) G6) (w_est (nT nt (nA nt t)) (bif want then w_du (nT nt t) (w_cut (Nat.beq (nT nt (nA nt t)) 5) G6) else w_cut (Nat.beq (nT nt (nA nt t)) 5) G6)) := (wM.cond ((wM.rf _).du _) (wM.rf _)).est _
    have ok7 := m8.1 hok
    have ok6 := m7.1 ok7
    have ok5 := m6.1 ok6
    have ok4 := m5.1 ok5
    have ok3 := m4.1 ok4
    have ok2 := m3.1 ok3
    refine J1.two (by omega) hf hc hT R ht htd k8 h (by rw [hG2]; exact ok2) (fun lm2 lv2 x2 q2 f2 => ?_)
    rw [hG2] at q2 ⊢
    refine J1.b m3 (by rw [← hG3] at ok3 ⊢; exact m_d2 (by omega) q2 ok3) (fun lm3 lv3 x3 q3 _ _ => ?_)
    refine J1.b m4 (by rw [← hG4] at ok4 ⊢; exact m_el (b := false) (by omega) a5 a8 q3 ok4) (fun lm4 lv4 x4 q4 _ _ => ?_)
    refine J1.b m5 (by rw [← hG5] at ok5 ⊢; exact m_opd (by omega) hf hc R he h1 h4 q4 ok5) (fun lm5 lv5 x5 q5 _ _ => ?_)
    refine J1.b m6 (by rw [← hG6] at ok6 ⊢; exact m_bin (by omega) ho1 ho2 h1 h4 q5 ok6) (fun lm6 lv6 x6 q6 _ _ => ?_)
    refine J1.cut (by omega) (by omega) q6 ok7 (fun lm7 lv7 x7 q7 _ => ?_)
    rw [bX1_changed_265]
    exact J1.tail (by omega) a5 a8 (by omega) want q7 hok
end
