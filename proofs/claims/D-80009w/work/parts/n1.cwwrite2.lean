/-! CodeWriter: write -/
section
variable {nt : sp_NT} {N M : Nat} {P : yP} {sb : Nat} {x y : mj_X} {res par : Nat → Int32}
theorem pH0 (P : yP) : pH P 0 = P := rfl
theorem g_mx_em (i : wI) (off : Nat) (on : List Nat) (g : wG) : g_mx (w_em i off on g) = g_mx g ∧ g_rg (w_em i off on g) = g_rg g ∧ ∃ e, g_it (w_em i off on g) = e ++ g_it g := by
  unfold w_em w_es
  cases w_q g
  · exact ⟨rfl, rfl, ⟨[_], rfl⟩⟩
  · exact ⟨rfl, rfl, ⟨[], rfl⟩⟩
theorem k_write {d : Nat} (hd : 1461 ≤ d) (hT : wTb nt N M res par) (h : yB nt N P sb x) {q b r : Int32} {l : List Int32} (hl : sp_Ch nt N 86 l q) (hlq : sp_chain nt 4001 q = l) (hk : ∀ p, p ∈ l → nK nt (nA nt p) = 5) (hn : l.length ≤ 64) (hA : wA nt N 40 b) (hok : g_ok (wW nt r q b)) :
    ∃ x', kX0 (d + 1) 32 [.ref 0, .int q, .int b, .int r] x = some (none, x') ∧ yfr (yw2 P 0) (p_pf P) x x' ∧ yE nt N P (fun _ => none) x' ∧ x'.1 0 31 = sp_b (p_w P) ∧ (∃ t, x'.1 0 48 = nI t ∧ t ≤ p_tb P + 65536) ∧ (∃ t, x'.1 0 66 = nI t ∧ t ≤ sb + 60002)
      ∧ ((x'.1 0 29 = 0 ∧ ∃ lm lv, yR P lm lv x' (wW nt r q b)) ∨ (x'.1 0 29 = 1 ∧ c_over P (wW nt r q b))) := by
  have h' := h
  obtain ⟨he, hM, h21, hrf, h31, ⟨t0, t1, t2⟩, ⟨s, s1, s2⟩, hsb⟩ := h'
  have e7 := he.2.1.1
  have g7 : ∀ r : mj_R, mj_g (x.1 0 7) 41 r = r := fun r => mj_g_k (by rw [e7]; exact mj_in_nI (by omega) (by decide)) r
  have c7 : (x.1 0 7).toNatClampNeg = p_M P := by rw [e7]; exact nI_clamp (by omega)
  rw [eX0_write, g7, g7, g7, c7, he.2.2.1, h21, he.2.2.2.2.1]
  have hx2 : x.1 2 = nt 1 ∧ x.1 3 = nt 2 ∧ x.1 4 = nt 3 := ⟨he.1.2.2.2.1, he.1.2.2.2.2.1, he.1.2.2.2.2.2.1⟩
  obtain ⟨x1, hx1⟩ : ∃ x1, x1 = (mj_wI (mj_wI (mj_wI (mj_wI (mj_wI (mj_wI (mj_wI (mj_wI (mj_wI (mj_wI (mj_wI (mj_wI (mj_wI (mj_wI (mj_wI (mj_wI x 0 28 (0 : Int32)) 0 29 (0 : Int32)) 0 30 (1 : Int32)) 0 32 (0 : Int32)) 0 33 (0 : Int32)) 0 37 (0 : Int32)) 0 38 (-1 : Int32)) 0 42 (0 : Int32)) 0 43 (nI (p_pf P))) 0 44 (1 : Int32)) 0 45 (nI (p_rf P))) 0 46 (nI (p_lf P))) 0 47 (-1 : Int32)) 0 58 (0 : Int32)) 0 59 (-1 : Int32)) 0 65 (0 : Int32)) := ⟨_, rfl⟩
  rw [← hx1]
  have k2 : x1.1 2 = nt 1 := by rw [hx1]; exact hx2.1
  have k3 : x1.1 3 = nt 2 := by rw [hx1]; exact hx2.2.1
  have k4 : x1.1 4 = nt 3 := by rw [hx1]; exact hx2.2.2
  have p0 : yPar nt (p_pf P) x1 x1 0 0 (fun _ => none) := ⟨yfr.rf _ _ _, rfl, by rw [hx1]; rfl, by rw [hx1]; rfl, by decide, fun v p _ hp => (by cases hp), fun _ => rfl⟩
  obtain ⟨y', L', nx', mx', pl', y1', y2', y3', y4'⟩ := k_par (d := d) (a1 := q) (a2 := b) (a3 := r) (pf := p_pf P) (by omega) hT ⟨k2, k3, k4⟩ l q x1 [] 0 0 (fun _ => none) hl hk p0 (by omega)
  rw [y1', bX0_write_107, if_pos rfl]
  have eg : w_par nt (sp_chain nt 4001 q) w_g0 = w_gp L' nx' mx' pl' := by rw [hlq, w_g0_p]; exact y2'
  have hok0 := hok
  obtain ⟨Y, F⟩ := h.start (L := L') hx1 y3' y4'
  generalize mj_wI (mj_wI y' 0 60 0) 0 61 0 = z at *
  have oks : g_ok (wS nt 200 b (w_gp L' nx' mx' pl')) := by
    unfold wW at hok
    rw [eg] at hok
    simp only at hok
    by_cases r0 : r = 0
    · rw [if_pos r0] at hok
      have h1 : g_ok (w_em (16, 177, 0, 0, []) 0 [] (w_aln (wS nt 200) b (w_gp L' nx' mx' pl'))) := hok
      have h2 : g_ok (w_aln (wS nt 200) b (w_gp L' nx' mx' pl')) := by
        unfold w_em at h1
        cases hq : w_q (w_aln (wS nt 200) b (w_gp L' nx' mx' pl'))
        · rw [hq] at h1
          have h1 := h1.1
          unfold w_es at h1; rw [hq] at h1; exact h1.1
        · rw [hq] at h1; exact h1
      exact h2
    · rw [if_neg r0] at hok; exact hok
  obtain ⟨V', C', lm', lv', ct', x2, r1, Y2', v1, v2, v3, F2, w1⟩ := kS_all hT 200 b (Nat.le_refl _) hA P 0 [] [] 0 sb (fun _ => False) [] (fun _ => 0) (fun _ => false) (fun _ => false) z (w_gp L' nx' mx' pl') d (by omega) (Nat.le_refl _) Y (fun c hc => by cases hc) oks
  rw [r1]
  show ∃ x', (if r = 0 then mj_rV (kX0 d 37 [.ref 0, .int (177 : Int32)] x2) fun x2 => some (none, mj_wI x2 0 30 0) else some (none, x2)) = some (none, x') ∧ _
  have FT : yfr (yw2 P 0) (p_pf P) x x2 := F.tr F2
  have K1 : ∀ k j, yw2 P 0 k j = false → x2.1 k j = x.1 k j := FT.1
  obtain ⟨S1, S2, S3, S4, S5, S6, S7, S8, S9, S10, S11, ⟨ts, as_, S12, S13, S14, S15⟩, S16⟩ := Y2'.2.1
  have ser : ∀ {x3 : mj_X}, x3.1 0 66 = x2.1 0 66 → ∃ t, x3.1 0 66 = nI t ∧ t ≤ sb + 60002 := fun e => ⟨ts, by rw [e]; exact S12, by omega⟩
  by_cases h0 : x2.1 0 29 = 0
  · -- exact so far
    obtain ⟨P1, P2, P3, P4⟩ := Y2'.ex h0
    have Ya : Y1 nt N P [] 49600 lm' lv' x2 (w_aln (wS nt 200) b (w_gp L' nx' mx' pl')) := Y2'.vx (b := 49600) h0 (by decide) (by decide)
    have told2 : ∃ t, x2.1 0 48 = nI t ∧ t ≤ p_tb P + 65536 := by
      obtain ⟨-, -, -, -, ⟨-, b2, -⟩, -, -, -, -, -, -, -, -, t, u1, u2⟩ := P3
      have := its_le (p_w P) (g_it (wS nt 200 b (w_gp L' nx' mx' pl')))
      exact ⟨t, u1, by omega⟩
    have h31' : x2.1 0 31 = sp_b (p_w P) := P3.2.2.2.1
    by_cases r0 : r = 0
    · rw [if_pos r0]
      have i1 : w_in1 (p_w P) (16, 177, 0, 0, []) 177 [] := ⟨fun p => rfl, fun p r => rfl⟩
      obtain ⟨lm3, lv3, x3, c1, c2, c3, c4, c5⟩ := c_e1 (n := 0) (off := 0) (on := []) (d := d) (by omega) Ya i1
      rw [c1, mj_rV_k]
      have eG : wW nt r q b = s_al false (w_em (16, 177, 0, 0, []) 0 [] (w_aln (wS nt 200) b (w_gp L' nx' mx' pl'))) := by unfold wW; rw [eg]; exact if_pos r0
      rw [eG]
      have c6 := c2.al0
      have fr3 : yfr (yw (p_pf P) (p_lf P)) (p_pf P) x2 (mj_wI x3 0 30 0) := c4.w _ rfl
      have F4 : yfr (yw2 P 0) (p_pf P) x (mj_wI x3 0 30 0) := FT.tr (fr3.mono (fun k j h => by unfold yw2 at h; simp only [Bool.or_eq_false_iff] at h; exact h.1))
      refine ⟨mj_wI x3 0 30 0, rfl, F4, Y2'.1.fr fr3, by rw [fr3.1 0 31 rfl]; exact h31', ?_, ser (fr3.1 0 66 rfl), ?_⟩
      · rcases c6.2.2.2 with ⟨z0, z1, z2⟩ | ⟨m1, -⟩
        · obtain ⟨-, -, -, -, ⟨-, b2, -⟩, -, -, -, -, -, -, -, -, t, u1, u2⟩ := z2
          have := its_le (p_w P) (g_it (s_al false (w_em (16, 177, 0, 0, []) 0 [] (w_aln (wS nt 200) b (w_gp L' nx' mx' pl')))))
          exact ⟨t, u1, by omega⟩
        · exact m1.2.2.2.2.2
      · rcases c6.2.2.2 with ⟨z0, z1, z2⟩ | ⟨m1, -, m3⟩
        · left
          refine ⟨z0, lm3, lv3, z1, z2, ?_, ?_, ?_⟩
          · rw [fr3.1 0 33 rfl]
            show _ = nI (g_mx (w_em (16, 177, 0, 0, []) 0 [] (w_aln (wS nt 200) b (w_gp L' nx' mx' pl'))))
            rw [(g_mx_em _ _ _ _).1]; exact P4.1.2.2.1
          · show g_mx (w_em (16, 177, 0, 0, []) 0 [] (w_aln (wS nt 200) b (w_gp L' nx' mx' pl'))) ≤ 252
            rw [(g_mx_em _ _ _ _).1]; exact P4.1.2.2.2.1
          · have e22 : (mj_wI x3 0 30 0).1 22 = x2.1 22 := funext fun j => fr3.1 22 j rfl
            rw [e22, fr3.1 0 45 rfl]
            show y_rg (p_w P) (p_rf P) (g_it (w_em (16, 177, 0, 0, []) 0 [] (w_aln (wS nt 200) b (w_gp L' nx' mx' pl')))) _ _ (g_rg (w_em (16, 177, 0, 0, []) 0 [] (w_aln (wS nt 200) b (w_gp L' nx' mx' pl'))))
            obtain ⟨-, e2, e3, e4⟩ := g_mx_em (16, 177, 0, 0, []) 0 [] (w_aln (wS nt 200) b (w_gp L' nx' mx' pl'))
            rw [e2, e4]
            exact y_rg.app e3 P4.2.1
        · exact Or.inr ⟨m1.1, m3⟩
    · rw [if_neg r0]
      have eG : wW nt r q b = w_aln (wS nt 200) b (w_gp L' nx' mx' pl') := by unfold wW; rw [eg]; exact if_neg r0
      rw [eG]
      refine ⟨x2, rfl, FT, Y2'.1, h31', told2, ser rfl, Or.inl ⟨h0, lm', lv', P2, P3, P4.1.2.2.1, P4.1.2.2.2.1, P4.2.1⟩⟩
  · obtain ⟨m1, m2, m3⟩ := Y2'.mc h0
    have wm : wM (wS nt 200 b (w_gp L' nx' mx' pl')) (wW nt r q b) := by
      unfold wW
      rw [eg]
      exact wM.ite (((((wM.rf _).s_L _).s_nx _).em _ _ _).s_al _) (((wM.rf _).s_L _).s_nx _)
    have m4 : c_over P (wW nt r q b) := (show c_over P _ from m3).mono wm
    by_cases r0 : r = 0
    · rw [if_pos r0, c_codeq (by omega) (Or.inr h0), mj_rV_k]
      have fr3 : yfr (yw (p_pf P) (p_lf P)) (p_pf P) x2 (mj_wI x2 0 30 0) := (yfr.rf _ _ _).w _ rfl
      have F4 : yfr (yw2 P 0) (p_pf P) x (mj_wI x2 0 30 0) := FT.tr (fr3.mono (fun k j h => by unfold yw2 at h; simp only [Bool.or_eq_false_iff] at h; exact h.1))
      exact ⟨_, rfl, F4, Y2'.1.fr fr3, m1.2.2.1, m1.2.2.2.2.2, ser rfl, Or.inr ⟨m1.1, m4⟩⟩
    · rw [if_neg r0]
      exact ⟨x2, rfl, FT, Y2'.1, m1.2.2.1, m1.2.2.2.2.2, ser rfl, Or.inr ⟨m1.1, m4⟩⟩
end
