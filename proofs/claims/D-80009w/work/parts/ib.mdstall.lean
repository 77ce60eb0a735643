/-! every statement of CodeWriterModel -/
section
variable {nt : sp_NT} {N M : Nat} {w : Bool} {ba pf rf lf c hp : Nat} {H V : List wSl} {K u : Nat} {o : Option Int32} {lm lm' : Nat → Nat} {lv lv' : Nat → Bool} {x y : mj_X} {g G : wG} {res par : Nat → Int32} {f : Nat} {n : Int32}
theorem m_s67 {d : Nat} (hd : 6 * f + 262 ≤ d) (hc1 : 83 ≤ c) (hc2 : c ≤ 3990) (hT : wTb nt N M res par) (hA : wA nt N 40 n) (hk : nK nt n = 67 ∨ nK nt n = 68 ∨ nK nt n = 69) (hf : f + 1 ≤ 200) (R : ∀ m, wA nt N 40 m → mS nt N M w ba pf rf lf c f m) (hC : ∀ c, c ∈ g_cx g → w_cok nt N c) (hK : K ≤ 200 - (f + 1)) (h : Q2 nt N M w ba pf rf lf c hp H K (200 - f) none V lm lv x g) (hok : g_ok (w_bd nt (wV nt 40) (wS nt f) n g)) :
    J2 nt N M w ba pf rf lf c hp H K (200 - (f + 1)) (g_nl g) (z_skl V) (rX1_statement d (279, [some (.ref 0), some (.int n), some (.int (nA nt n)), some (.int (nB nt n)), none], [], x)) x lm lv (w_bd nt (wV nt 40) (wS nt f) n g) := by
  have e : w_bd nt (wV nt 40) (wS nt f) n g = w_loop nt (wV nt 40) (wS nt f) (nK nt n) (nA nt n) (nB nt n) g := by
    unfold w_bd
    rcases hk with hk | hk | hk <;> (simp only [hk]; rfl)
  rw [e] at hok ⊢
  rw [bX1_statement_279, h.nd hA.1, h.T.1]
  have m40 : ∀ {k : Int32}, wA nt N 39 k → wA nt N 40 k := fun q => ⟨q.1, q.2.1, Nat.le_succ_of_le q.2.2⟩
  refine J2.wrap rfl (m_loop (d := d) hd hc1 hc2 (by omega) hT hk (fun q => ?_) (fun q => ?_) (fun q => ?_) R hC (by omega) h hok) hK hf
  · obtain ⟨a1, a2, a3⟩ := wE_while hT hA.1 hA.2.2 q
    exact ⟨a1.mono (Nat.le_succ _), a2, m40 a3⟩
  · obtain ⟨a1, a2, a3⟩ := wE_until hT hA.1 hA.2.2 q
    exact ⟨m40 a1, a2.mono (Nat.le_succ _), a3⟩
  · obtain ⟨a1, a2, a3, a4⟩ := wE_for hT hA.1 hA.2.2 q
    obtain ⟨b1, b2, b3⟩ := wE_head hT a1 (show nD nt (nA nt n) ≤ 38 + 1 by omega) a3
    exact ⟨a1, b1.mono (by omega), b2, ⟨b3.1, b3.2.1, by have := b3.2.2; omega⟩, m40 a4⟩
theorem sp_Sk_k {k : Int32} (h : sp_Sk k = true) : k = 60 ∨ k = 61 ∨ k = 62 ∨ k = 63 ∨ k = 64 ∨ k = 65 ∨ k = 67 ∨ k = 68 ∨ k = 69 ∨ k = 71 ∨ k = 72 ∨ k = 73 ∨ k = 74 ∨ k = 75 ∨ k = 79 ∨ k = 80 ∨ k = 81 ∨ k = 85 := by
  unfold sp_Sk at h
  simp only [Bool.or_eq_true, decide_eq_true_eq] at h
  have five : ∀ {lo hi : Int32} {a c : Nat}, sp_i k lo hi = true → lo.toInt = a → hi.toInt = a + c → ∃ j, j ≤ c ∧ k = nI (a + j) := fun h e1 e2 => i_enum (sp_i_iff h).1 (sp_i_iff h).2 e1 e2
  rcases h with (((h | h) | h) | h) | h
  · obtain ⟨j, hj, e⟩ := five (a := 60) (c := 5) h rfl rfl
    have : j = 0 ∨ j = 1 ∨ j = 2 ∨ j = 3 ∨ j = 4 ∨ j = 5 := by omega
    rcases this with rfl | rfl | rfl | rfl | rfl | rfl <;> (subst e; decide)
  · obtain ⟨j, hj, e⟩ := five (a := 67) (c := 2) h rfl rfl
    have : j = 0 ∨ j = 1 ∨ j = 2 := by omega
    rcases this with rfl | rfl | rfl <;> (subst e; decide)
  · obtain ⟨j, hj, e⟩ := five (a := 71) (c := 4) h rfl rfl
    have : j = 0 ∨ j = 1 ∨ j = 2 ∨ j = 3 ∨ j = 4 := by omega
    rcases this with rfl | rfl | rfl | rfl | rfl <;> (subst e; decide)
  · obtain ⟨j, hj, e⟩ := five (a := 79) (c := 2) h rfl rfl
    have : j = 0 ∨ j = 1 ∨ j = 2 := by omega
    rcases this with rfl | rfl | rfl <;> (subst e; decide)
  · subst h; decide
/-- no statement within so many others -/
theorem mS_0 : mS nt N M w ba pf rf lf c 0 n := by
  intro d hp H V K lm lv x g hd _ h hC hok
  have hm := wS_mono nt 0 n g
  obtain ⟨d, rfl⟩ : ∃ c, d = c + 1 := ⟨d - 1, by omega⟩
  rw [eX1_statement]
  by_cases h1 : ¬ x.1 0 34 = 0
  · rw [if_neg h1]
    have : (if x.1 0 35 = 0 then (some (none, x) : mj_R) else some (none, x)) = some (none, x) := by split <;> rfl
    rw [this]; exact J2.skM h h1 hm (Nat.le_refl _)
  have h0 : x.1 0 34 = 0 := Decidable.not_not.mp h1
  obtain ⟨q, hx⟩ := h.ex h0
  by_cases h35 : x.1 0 35 = 0
  · rw [if_pos h35]
    have hq := q.dead h35 h0
    have e : wS nt 0 n g = g := by show (bif w_q g then g else _) = g; rw [hq]; rfl
    rw [e]; exact J2.id_ h
  rw [if_neg h35, if_pos h0]
  have hq := q.live h35 h0
  have e : wS nt 0 n g = s_ov (s_ac g) := by show (bif w_q g then g else _) = _; rw [hq]; rfl
  rw [e]
  have hu : x.1 0 41 = (200 : Int32) := h.2.2.1.2.2.2.2.1
  have q1 := q.2.2.resolve_right (fun p => absurd h0 (by rw [p.1.1]; decide))
  have fin : J2 nt N M w ba pf rf lf c hp H K (200 - 0) (g_nl g) (z_skl V) (some (none, (mj_wI (mj_wI x 0 40 ((x.1 0 40) + (1 : Int32))) 0 34 (1 : Int32)))) x lm lv (s_ov (s_ac g)) :=
    J2.ret (V := V) ⟨h.1, h.2.1, h.2.2.1, Or.inr ⟨by show ¬ (1 : Int32) = 0; decide, q1.2.much, Or.inl rfl⟩⟩ (((zfr.rf _ x).w _ rfl).w _ rfl) (fun _ => by show ¬ (1 : Int32) = 0; decide)
  rw [hu, if_pos rfl]
  split
  · exact fin
  · exact fin
end
