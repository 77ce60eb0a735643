/-! the pool and constants of CodeWriterModel -/
theorem w_lohi {u v : Int64} (h1 : u.toInt32 = v.toInt32) (h2 : (u >>> 32).toInt32 = (v >>> 32).toInt32) : u = v := by
  apply Int64.toBitVec_inj.mp
  have e1 := congrArg Int32.toBitVec h1
  have e2 := congrArg Int32.toBitVec h2
  simp only [Int64.toBitVec_toInt32, Int64.toBitVec_shiftRight] at e1 e2
  apply BitVec.eq_of_getLsbD_eq
  intro i hi
  by_cases q : i < 32
  · have := congrArg (fun b => b.getLsbD i) e1
    simpa [BitVec.getElem_signExtend, q, hi] using this
  · have := congrArg (fun b => b.getLsbD (i - 32)) e2
    have q2 : i - 32 < 32 := by omega
    have q3 : 32 + (i - 32) = i := by omega
    have q4 : ¬ 64 ≤ i - 32 := by omega
    have q5 : i - 32 < 64 := by omega
    simpa [BitVec.getElem_signExtend, BitVec.sshiftRight', BitVec.getElem_sshiftRight, q2, q3, q4, q5, hi] using this
theorem w_pf_app (s : Nat) (v : Int64) : ∀ (l r : List (Nat × Int64)) (i : Nat), w_pf s v r = some i → w_pf s v (l ++ r) = some i := by
  intro l
  induction l with
  | nil => intro r i h; exact h
  | cons e l ih => intro r i h; rw [List.cons_append]; unfold w_pf; rw [ih r i h]
theorem z_po.at {pf : Nat} {a20 a21 a22 a23 : Nat → Int32} : ∀ (l : List (Nat × Int64)) {e : Nat × Int64} {r : List (Nat × Int64)}, z_po pf a20 a21 a22 a23 (l ++ e :: r) → (a20 (pf + r.length) = nI (w_pi r) ∧ a21 (pf + r.length) = nI e.1 ∧ a22 (pf + r.length) = e.2.toInt32 ∧ a23 (pf + r.length) = z_hi e ∧ e.1 < 100 ∧ (¬ (e.1 = 2 ∨ e.1 = 4) → e.2 = e.2.toInt32.toInt64)) := by
  intro l
  induction l with
  | nil => intro e r h; exact h.1
  | cons a l ih => intro e r h; exact ih h.2
theorem z_po.mono {pf : Nat} {a20 a21 a22 a23 b20 b21 b22 b23 : Nat → Int32} : ∀ {l : List (Nat × Int64)}, z_po pf a20 a21 a22 a23 l → (∀ j, j < l.length → b20 (pf + j) = a20 (pf + j) ∧ b21 (pf + j) = a21 (pf + j) ∧ b22 (pf + j) = a22 (pf + j) ∧ b23 (pf + j) = a23 (pf + j)) → z_po pf b20 b21 b22 b23 l := by
  intro l
  induction l with
  | nil => intro _ _; trivial
  | cons e r ih =>
    intro h hm
    obtain ⟨m1, m2, m3, m4⟩ := hm r.length (by simp)
    refine ⟨?_, ih h.2 (fun j hj => hm j (by simp; omega))⟩
    rw [m1, m2, m3, m4]; exact h.1
theorem w_pi_le : ∀ l : List (Nat × Int64), w_pi l ≤ 1 + 2 * l.length := by
  intro l
  induction l with
  | nil => exact Nat.le_refl _
  | cons e r ih => show w_pi r + w_wd e.1 ≤ _; have : w_wd e.1 ≤ 2 := (by unfold w_wd; split <;> omega); simp only [List.length_cons]; omega
section
variable {nt : sp_NT} {N M : Nat} {w : Bool} {ba pf rf lf c : Nat} {lm : Nat → Nat} {lv : Nat → Bool} {x : mj_X} {g : wG}
theorem m_pool {d : Nat} (hd : 1 ≤ d) {B : List Int32} {F : List (Nat × Nat × Nat × Bool)} {its : List (wI × wF)} {s : Nat} {v : Int64} (he : z_env nt N M ba pf lf (g_pl g) x) (h : z1 w ba pf lf c lm lv B F its x g) (hs : s < 100) (hnw : ¬ (s = 2 ∨ s = 4) → v = v.toInt32.toInt64) (hlen : (w_pn s v (g_po g)).length ≤ 100) :
    ∃ x', kX1 d 64 [.ref 0, .int (nI s), .int v.toInt32, .int (z_hi (s, v))] x = some (some (.int (nI (w_px s v (g_po g)))), x') ∧ zfr (zw ba pf lf) x x' ∧ z1 w ba pf lf c lm lv B F its x' (s_po (w_pn s v (g_po g)) g) := by
  obtain ⟨d, rfl⟩ : ∃ c, d = c + 1 := ⟨d - 1, by omega⟩
  obtain ⟨-, e2, e3, e4, -, e6, -⟩ := he
  have hpo := h.2.2.2.2.1
  obtain ⟨p1, p2, p3, p4⟩ := hpo
  rw [eX1_poolOf, e2, nI_clamp (by omega), mj_g_k (mj_in_nI (by omega) (by omega)), e4]
  have loop : ∀ (n : Nat) (l r : List (Nat × Int64)), l.length = n → g_po g = l ++ r → w_pf s v r = none → ∃ x', rX1_poolOf d (15, [some (.ref 0), some (.int (nI s)), some (.int v.toInt32), some (.int (z_hi (s, v))), some (.int (nI pf)), some (.int (nI (pf + r.length)))], [], x) = some (some (.int (nI (w_px s v (g_po g)))), x') ∧ zfr (zw ba pf lf) x x' ∧ z1 w ba pf lf c lm lv B F its x' (s_po (w_pn s v (g_po g)) g) := by
    intro n
    induction n with
    | zero =>
      intro l r hl hlr hr
      have : l = [] := List.length_eq_zero_iff.mp hl
      subst this
      have hlr : g_po g = r := hlr
      rw [← hlr] at hr ⊢
      have pn : w_pn s v (g_po g) = (s, v) :: g_po g := by unfold w_pn; rw [hr]
      have px : w_px s v (g_po g) = w_pi (g_po g) := by unfold w_px; rw [hr]
      rw [pn] at hlen ⊢
      rw [px]
      simp only [List.length_cons] at hlen
      have hpi := w_pi_le (g_po g)
      rw [bX1_poolOf_15, p1, nI_add, if_pos (nI_le (Nat.le_refl _) (by omega)), if_pos (show nI (pf + (g_po g).length) < (60000 : Int32) from nI_lt (b := 60000) (by omega) (by omega)), nI_clamp (by omega), mj_g_k (mj_in_nI (by omega) (by omega)), mj_g_k (mj_in_nI (by omega) (by omega)), mj_g_k (mj_in_nI (by omega) (by omega)), mj_g_k (mj_in_nI (by omega) (by omega)), p2]
      have zp : ∀ n', n' = w_pi (g_po g) + w_wd s → z_p pf (nI ((g_po g).length + 1)) (nI n') (upd (x.1 20) (pf + (g_po g).length) (nI (w_pi (g_po g)))) (upd (x.1 21) (pf + (g_po g).length) (nI s)) (upd (x.1 22) (pf + (g_po g).length) v.toInt32) (upd (x.1 23) (pf + (g_po g).length) (z_hi (s, v))) ((s, v) :: g_po g) := by
        intro n' hn'
        refine ⟨rfl, by rw [hn']; rfl, by simp only [List.length_cons]; omega, ⟨pk_us, pk_us, pk_us, pk_us, hs, hnw⟩, p4.mono (fun j hj => ?_)⟩
        rw [pk_un (by omega), pk_un (by omega), pk_un (by omega), pk_un (by omega)]
        exact ⟨rfl, rfl, rfl, rfl⟩
      obtain ⟨h1, h2, h3, h4, -, h6⟩ := h
      have fr0 := ((((((zfr.rf (zw ba pf lf) x).w (k := 21) (j := pf + (g_po g).length) (nI s) (by show Nat.ble pf _ = true; exact Nat.ble_eq_true_of_le (by omega))).w (k := 22) (j := pf + (g_po g).length) v.toInt32 (by show Nat.ble pf _ = true; exact Nat.ble_eq_true_of_le (by omega))).w (k := 23) (j := pf + (g_po g).length) (z_hi (s, v)) (by show Nat.ble pf _ = true; exact Nat.ble_eq_true_of_le (by omega))).w (k := 20) (j := pf + (g_po g).length) (nI (w_pi (g_po g))) (by show Nat.ble pf _ = true; exact Nat.ble_eq_true_of_le (by omega))).w (k := 0) (j := 42) (nI (g_po g).length + 1) rfl)
      by_cases q2 : s = 2 ∨ s = 4
      · have hw : w_wd s = 2 := by unfold w_wd; rw [if_pos q2]
        have fin : ∃ x', rX1_poolOf d (157, [some (.ref 0), some (.int (nI s)), some (.int v.toInt32), some (.int (z_hi (s, v))), some (.int (nI pf)), some (.int (nI (pf + (g_po g).length)))], [.int (nI (w_pi (g_po g))), .ref 0], (mj_wI (mj_wI (mj_wI (mj_wI (mj_wI x 21 (pf + (g_po g).length) (nI s)) 22 (pf + (g_po g).length) v.toInt32) 23 (pf + (g_po g).length) (z_hi (s, v))) 20 (pf + (g_po g).length) (nI (w_pi (g_po g)))) 0 42 (nI (g_po g).length + 1))) = some (some (.int (nI (w_pi (g_po g)))), x') ∧ zfr (zw ba pf lf) x x' ∧ z1 w ba pf lf c lm lv B F its x' (s_po ((s, v) :: g_po g) g) := by
          rw [bX1_poolOf_157, nI_clamp (by omega), mj_g_k (mj_in_nI (by omega) (by omega))]
          refine ⟨mj_wI (mj_wI (mj_wI (mj_wI (mj_wI (mj_wI x 21 (pf + (g_po g).length) (nI s)) 22 (pf + (g_po g).length) v.toInt32) 23 (pf + (g_po g).length) (z_hi (s, v))) 20 (pf + (g_po g).length) (nI (w_pi (g_po g)))) 0 42 (nI (g_po g).length + 1)) 0 43 (nI (w_pi (g_po g)) + 2), ?_, fr0.w _ rfl, ⟨h1, h2, h3, h4, ?_, h6⟩⟩
          · show some (some (Value.int (upd (x.1 20) (pf + (g_po g).length) (nI (w_pi (g_po g))) (pf + (g_po g).length))), _) = _
            rw [pk_us]
          · have := zp (w_pi (g_po g) + 2) (by rw [hw])
            rw [← nI_1, ← nI_add] at this; exact this
        rcases q2 with q2 | q2
        · rw [if_pos (by rw [q2]; rfl)]; exact fin
        · rw [if_neg (by rw [q2]; decide), if_pos (by rw [q2]; rfl)]; exact fin
      · have hw : w_wd s = 1 := by unfold w_wd; rw [if_neg q2]
        rw [if_neg (show ¬ nI s = (2 : Int32) from fun r => q2 (Or.inl ((nI_eq (b := 2) (by omega) (by omega)).mp r))), if_neg (show ¬ nI s = (4 : Int32) from fun r => q2 (Or.inr ((nI_eq (b := 4) (by omega) (by omega)).mp r))), mj_g_k (mj_in_nI (by omega) (by omega))]
        refine ⟨mj_wI (mj_wI (mj_wI (mj_wI (mj_wI (mj_wI x 21 (pf + (g_po g).length) (nI s)) 22 (pf + (g_po g).length) v.toInt32) 23 (pf + (g_po g).length) (z_hi (s, v))) 20 (pf + (g_po g).length) (nI (w_pi (g_po g)))) 0 42 (nI (g_po g).length + 1)) 0 43 (nI (w_pi (g_po g)) + 1), ?_, fr0.w _ rfl, ⟨h1, h2, h3, h4, ?_, h6⟩⟩
        · show some (some (Value.int (upd (x.1 20) (pf + (g_po g).length) (nI (w_pi (g_po g))) (pf + (g_po g).length))), _) = _
          rw [pk_us]
        · have := zp (w_pi (g_po g) + 1) (by rw [hw])
          rw [← nI_1, ← nI_1] at this; exact this
    | succ n ih =>
      intro l r hl hlr hr
      rcases List.eq_nil_or_concat l with hn | ⟨l', e, hn⟩
      · rw [hn] at hl; simp at hl
      · subst hn
        rw [List.concat_eq_append, List.append_assoc] at hlr
        have hlr : g_po g = l' ++ e :: r := hlr
        have hl' : l'.length = n := by simp at hl; omega
        have hle : l'.length + (r.length + 1) ≤ 100 := by
          have := p3; rw [hlr] at this; simp at this; exact this
        rw [hlr] at p4
        obtain ⟨a1, a2, a3, a4, a5, a6⟩ := p4.at l'
        have next : w_pf s v (e :: r) = none → ∃ x', rX1_poolOf d (15, [some (.ref 0), some (.int (nI s)), some (.int v.toInt32), some (.int (z_hi (s, v))), some (.int (nI pf)), some (.int (nI (pf + r.length) + (1 : Int32)))], [], x) = some (some (.int (nI (w_px s v (g_po g)))), x') ∧ zfr (zw ba pf lf) x x' ∧ z1 w ba pf lf c lm lv B F its x' (s_po (w_pn s v (g_po g)) g) := by
          intro hne
          obtain ⟨x', q1, q2⟩ := ih l' (e :: r) hl' hlr hne
          refine ⟨x', ?_, q2⟩
          rw [nI_1]; exact q1
        rw [bX1_poolOf_15, p1, nI_add, if_neg (nI_ge (by rw [hlr]; simp; omega) (by rw [hlr]; simp; omega)), nI_clamp (by omega), mj_g_k (mj_in_nI (by omega) (by omega)), a2]
        by_cases c1 : e.1 = s
        · rw [if_pos (by rw [c1]), mj_g_k (mj_in_nI (by omega) (by omega)), a3]
          by_cases c2 : e.2.toInt32 = v.toInt32
          · rw [if_pos c2, mj_g_k (mj_in_nI (by omega) (by omega)), a4]
            by_cases c3 : z_hi e = z_hi (s, v)
            · rw [if_pos c3, mj_g_k (mj_in_nI (by omega) (by omega)), a1]
              have ev : e.2 = v := by
                by_cases q2 : s = 2 ∨ s = 4
                · unfold z_hi at c3
                  rw [if_pos (by rw [c1]; exact q2), if_pos q2] at c3
                  exact w_lohi c2 c3
                · rw [a6 (by rw [c1]; exact q2), hnw q2, c2]
              have pf1 : w_pf s v (e :: r) = some (w_pi r) := by unfold w_pf; rw [hr]; simp only [if_pos (And.intro c1 ev)]
              have pf2 : w_pf s v (g_po g) = some (w_pi r) := by rw [hlr]; exact w_pf_app s v l' _ _ pf1
              refine ⟨x, ?_, zfr.rf _ x, ?_⟩
              · unfold w_px; rw [pf2]
              · have : w_pn s v (g_po g) = g_po g := by unfold w_pn; rw [pf2]
                rw [this]; exact h
            · rw [if_neg c3]
              exact next (by unfold w_pf; rw [hr]; simp only [if_neg (fun q : e.1 = s ∧ e.2 = v => c3 (by obtain ⟨ea, eb⟩ := e; simp only at q; rw [q.1, q.2]))])
          · rw [if_neg c2]
            exact next (by unfold w_pf; rw [hr]; simp only [if_neg (fun q : e.1 = s ∧ e.2 = v => c2 (by rw [q.2]))])
        · rw [if_neg (fun q => c1 ((nI_eq (by omega) (by omega)).mp q))]
          exact next (by unfold w_pf; rw [hr]; simp only [if_neg (fun q : e.1 = s ∧ e.2 = v => c1 q.1)])
  obtain ⟨x', q⟩ := loop (g_po g).length (g_po g) [] rfl (List.append_nil _).symm rfl
  exact ⟨x', q⟩
end
