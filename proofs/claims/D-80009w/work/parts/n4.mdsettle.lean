/-! CodeWriterModel: places of jumps are laid -/
def set19 (A : Nat → Int32) (x : mj_X) : mj_X := (fun a => if a = 19 then A else x.1 a, x.2)
theorem set19_w (A : Nat → Int32) (x : mj_X) (j : Nat) (v : Int32) : mj_wI (set19 A x) 19 j v = set19 (upd A j v) x := by
  unfold mj_wI set19
  refine Prod.ext ?_ rfl
  funext a
  show (if a = 19 then upd (if a = 19 then A else x.1 a) j v else (if a = 19 then A else x.1 a)) = (if a = 19 then upd A j v else x.1 a)
  by_cases e : a = 19
  · rw [if_pos e, if_pos e, if_pos e]
  · rw [if_neg e, if_neg e, if_neg e]
theorem set19_n (A : Nat → Int32) (x : mj_X) {a : Nat} (h : a ≠ 19) : (set19 A x).1 a = x.1 a := if_neg h
theorem set19_id (x : mj_X) : x = set19 (x.1 19) x := by
  unfold set19
  refine Prod.ext ?_ rfl
  funext a
  show x.1 a = if a = 19 then x.1 19 else x.1 a
  split
  · rename_i e; rw [e]
  · rfl
section
variable {nt : sp_NT} {N M : Nat} {w : Bool} {ba pf rf lf c : Nat} {x y : mj_X} {res par : Nat → Int32} {lm : Nat → Nat} {lv : Nat → Bool} {G : wG}
theorem Q1.q (h : Q1 nt N M w ba pf rf lf c lm lv x G) (h0 : x.1 0 34 = 0) (hgo : ∀ q, q ∈ w_fxs w w_z (g_it G) → g_goes G q.2.2.1 = true) {e r : List (Nat × Nat × Nat × Bool)} {q : Nat × Nat × Nat × Bool} (hF : w_fxs w w_z (g_it G) = e ++ q :: r) :
    x.1 55 r.length = sp_b q.2.2.2 ∧ x.1 52 r.length = nI q.1 ∧ x.1 53 r.length = nI q.2.1 ∧ x.1 54 r.length = nI (lm q.2.2.1) ∧ lm q.2.2.1 < 300000 ∧ x.1 49 (lm q.2.2.1) - nI q.2.1 = w_off w (g_it G) (g_lat G) q.2.1 q.2.2.1 ∧ q.1 + (bif q.2.2.2 then 4 else 2) ≤ 65535 ∧ r.length < 25000 := by
  obtain ⟨n1, n2, ⟨n3, z34, ⟨b1, b2, b3, b4, b5⟩, ⟨f1, f2, f3, f4⟩, ⟨fr, l1, l2, l3, l4, l5, l6, l7, l8, l9, l10, l11, l12, l13⟩, z9⟩ | ⟨m1, -⟩⟩ := h
  · have hm : q ∈ w_fxs w w_z (g_it G) := by rw [hF]; simp
    have hq := w_qin_all w (g_it G) q hm
    have nl := f3 q hm
    have lv1 := l11 _ nl (hgo q hm)
    rw [hF] at f4
    obtain ⟨a1, a2, a3, a4⟩ := f4.at_
    refine ⟨a4, a1, a2, a3, n2 _ nl, ?_, Nat.le_trans hq.1 b4, ?_⟩
    · rw [(l9 _ nl lv1).2.2.1]; unfold w_off z_lo
      show (match g_lat G q.2.2.1 with | none => -1 | some i => nI (w_at w (g_it G) i)) - nI q.2.1 = _
      cases g_lat G q.2.2.1 <;> rfl
    · have : (w_fxs w w_z (g_it G)).length = e.length + (r.length + 1) := by rw [hF]; simp
      omega
  · exact absurd h0 (by rw [m1.1]; decide)
theorem m_put4 {d : Nat} {a1 a2 v : Int32} {b : Nat} {A : Nat → Int32} (hb : b + 4 ≤ 160000) : rX1_settles d (56, [some (.ref 0), some (.int a1), some (.int a2), some (.int v), some (.int (nI b)), some (.int (0 : Int32))], [], set19 A x) = rX1_settles d (4, [some (.ref 0), some (.int a1), some (.int (a2 + 1)), some (.int v), some (.int (nI b)), some (.int (4 : Int32))], [], set19 (w_put4 b v A) x) := by
  have g : ∀ (j : Nat) (s : mj_R), j < 160000 → mj_g (nI j) 160000 s = s := fun j s hj => mj_g_k (mj_in_nI hj (by decide)) s
  have e0 : nI b + 0 = nI b := Int32.add_zero _
  have e1 : nI b + 1 = nI (b + 1) := nI_1 b
  have e2 : nI b + 2 = nI (b + 2) := nI_add b 2
  have e3 : nI b + 3 = nI (b + 3) := nI_add b 3
  rw [bX1_settles_56, if_neg (by decide), e0, g _ _ (by omega), nI_clamp (by omega), set19_w, o8_o8, show (0 : Int32) + 1 = 1 from by decide, show ((24 : Int32) - ((8 : Int32) * 0)) &&& 31 = 24 from by decide]
  rw [bX1_settles_56, if_neg (by decide), e1, g _ _ (by omega), nI_clamp (by omega), set19_w, o8_o8, show (1 : Int32) + 1 = 2 from by decide, show ((24 : Int32) - ((8 : Int32) * 1)) &&& 31 = 16 from by decide]
  rw [bX1_settles_56, if_neg (by decide), e2, g _ _ (by omega), nI_clamp (by omega), set19_w, o8_o8, show (2 : Int32) + 1 = 3 from by decide, show ((24 : Int32) - ((8 : Int32) * 2)) &&& 31 = 8 from by decide]
  rw [bX1_settles_56, if_neg (by decide), e3, g _ _ (by omega), nI_clamp (by omega), set19_w, o8_o8, show (3 : Int32) + 1 = 4 from by decide, show ((24 : Int32) - ((8 : Int32) * 3)) &&& 31 = 0 from by decide]
  rw [bX1_settles_56, if_pos (by decide), show v >>> (0 : Int32) = v from Int32.shiftRight_zero]
  rfl
theorem m_put2 {d : Nat} {a1 a2 v s0 : Int32} {b : Nat} {A : Nat → Int32} {o5 : Option Value} (hb : b + 2 ≤ 160000) : rX1_settles d (115, [some (.ref 0), some (.int a1), some (.int a2), some (.int v), some (.int (nI b)), o5], [.int s0], set19 A x) = rX1_settles d (4, [some (.ref 0), some (.int s0), some (.int (a2 + 1)), some (.int v), some (.int (nI b)), o5], [], set19 (w_put2 b v A) x) := by
  have g : ∀ (j : Nat) (s : mj_R), j < 160000 → mj_g (nI j) 160000 s = s := fun j s hj => mj_g_k (mj_in_nI hj (by decide)) s
  rw [bX1_settles_115, g _ _ (by omega), nI_1, g _ _ (by omega), nI_clamp (by omega), nI_clamp (by omega), set19_w, set19_w, o8_o8, o8_o8, show (8 : Int32) &&& 31 = 8 from by decide]
  rfl
theorem m_setL {d : Nat} (h : Q1 nt N M w ba pf rf lf c lm lv x G) (h0 : x.1 0 34 = 0) (hba : ba ≤ 90000) (hgo : ∀ q, q ∈ w_fxs w w_z (g_it G) → g_goes G q.2.2.1 = true) : ∀ (n : Nat) (e r : List (Nat × Nat × Nat × Bool)) (A : Nat → Int32) (b0 : Bool) (o3 o4 o5 : Option Value), e.length = n → w_fxs w w_z (g_it G) = e ++ r →
    rX1_settles d (4, [some (.ref 0), some (.int (sp_b b0)), some (.int (nI r.length)), o3, o4, o5], [], set19 A x) = some (some (.int (sp_b (b0 && !e.any (w_fq (w_off w (g_it G) (g_lat G)))))), set19 (w_pat (w_off w (g_it G) (g_lat G)) ba e A) x) := by
  obtain ⟨h55, h31⟩ : (x.1 0 55 = nI (w_fxs w w_z (g_it G)).length ∧ (w_fxs w w_z (g_it G)).length ≤ 25000) ∧ x.1 0 31 = nI ba := by
    obtain ⟨n1, n2, ⟨n3, z34, ⟨b1, b2, b3, b4, b5⟩, ⟨f1, f2, f3, f4⟩, z9⟩ | ⟨m1, -⟩⟩ := h
    · exact ⟨⟨f1, f2⟩, b1⟩
    · exact absurd h0 (by rw [m1.1]; decide)
  intro n
  induction n with
  | zero =>
    intro e r A b0 o3 o4 o5 he hF
    have : e = [] := List.length_eq_zero_iff.mp he
    subst this
    rw [bX1_settles_4, set19_n _ _ (by decide), h55.1, hF, List.nil_append, if_pos (by exact nI_le (Nat.le_refl _) (by rw [hF, List.nil_append] at h55; omega)), mj_gb_b]
    simp only [List.any_nil, Bool.not_false, Bool.and_true]
    rfl
  | succ n ih =>
    intro e r A b0 o3 o4 o5 he hF
    have hne : e ≠ [] := fun z => by rw [z] at he; simp at he
    obtain ⟨e', q, rfl⟩ : ∃ e' q, e = e' ++ [q] := ⟨e.dropLast, e.getLast hne, (List.dropLast_concat_getLast hne).symm⟩
    have hF' : w_fxs w w_z (g_it G) = e' ++ q :: r := by rw [hF]; simp
    have len : (w_fxs w w_z (g_it G)).length = e'.length + (r.length + 1) := by rw [hF']; simp
    obtain ⟨a0, a1, a2, a3, a4, a5, a6, a7⟩ := h.q h0 hgo hF'
    have he' : e'.length = n := by simpa using he
    have g1 : ∀ s : mj_R, mj_g (nI r.length) 30000 s = s := fun s => mj_g_k (mj_in_nI (by omega) (by decide)) s
    have g2 : ∀ s : mj_R, mj_g (nI (lm q.2.2.1)) 300000 s = s := fun s => mj_g_k (mj_in_nI (by omega) (by decide)) s
    rw [w_pat_app, List.any_append, List.any_cons, List.any_nil, Bool.or_false]
    have e1 : w_pat (w_off w (g_it G) (g_lat G)) ba [q] A = w_p1 (w_off w (g_it G) (g_lat G)) ba q A := rfl
    rw [e1]
    rw [bX1_settles_4]
    simp only [set19_n _ _ (show (0 : Nat) ≠ 19 by decide), set19_n _ _ (show (54 : Nat) ≠ 19 by decide), set19_n _ _ (show (53 : Nat) ≠ 19 by decide), set19_n _ _ (show (52 : Nat) ≠ 19 by decide), set19_n _ _ (show (49 : Nat) ≠ 19 by decide), set19_n _ _ (show (55 : Nat) ≠ 19 by decide)]
    rw [h55.1, if_neg (by rw [nI_leI (by omega) (by omega)]; omega), nI_clamp (by omega), a3, g1, g2, g1, g1, g1, a0, a1, a2, nI_clamp (by omega), a5, h31, nI_add]
    unfold w_p1
    cases hl : q.2.2.2
    · rw [hl] at a6; simp only [cond_false] at a6 ⊢
      have nxt : ∀ b1 : Bool, rX1_settles d (4, [some (.ref 0), some (.int (sp_b b1)), some (.int (nI r.length + 1)), some (.int (w_off w (g_it G) (g_lat G) q.2.1 q.2.2.1)), some (.int (nI (ba + q.1))), o5], [], set19 (w_put2 (ba + q.1) (w_off w (g_it G) (g_lat G) q.2.1 q.2.2.1) A) x) = some (some (.int (sp_b (b1 && !e'.any (w_fq (w_off w (g_it G) (g_lat G)))))), set19 (w_pat (w_off w (g_it G) (g_lat G)) ba e' (w_put2 (ba + q.1) (w_off w (g_it G) (g_lat G) q.2.1 q.2.2.1) A)) x) := fun b1 => by
        have := ih e' (q :: r) (w_put2 (ba + q.1) (w_off w (g_it G) (g_lat G) q.2.1 q.2.2.1) A) b1 (some (.int (w_off w (g_it G) (g_lat G) q.2.1 q.2.2.1))) (some (.int (nI (ba + q.1)))) o5 he' hF'
        rw [List.length_cons] at this
        rw [nI_1]; exact this
      rw [if_pos (by decide)]
      have ef : w_fq (w_off w (g_it G) (g_lat G)) q = !sp_i (w_off w (g_it G) (g_lat G) q.2.1 q.2.2.1) (-32768) 32767 := by unfold w_fq; rw [hl]; rfl
      rw [ef]
      unfold sp_i
      generalize w_off w (g_it G) (g_lat G) q.2.1 q.2.2.1 = v at *
      cases b0
      · rw [if_pos (by decide), m_put2 (by omega), show (0 : Int32) = sp_b false from rfl, nxt false]
        simp only [Bool.false_and]
      · rw [if_neg (by decide)]
        by_cases c1 : v < (-32768 : Int32)
        · rw [if_pos c1, m_put2 (by omega), show (0 : Int32) = sp_b false from rfl, nxt false]
          have : decide ((-32768 : Int32) ≤ v) = false := decide_eq_false (by rw [Int32.not_le]; exact c1)
          rw [this]
          simp
        · rw [if_neg c1]
          have d1 : decide ((-32768 : Int32) ≤ v) = true := decide_eq_true (by rw [Int32.not_lt] at c1; exact c1)
          by_cases c2 : (32767 : Int32) < v
          · rw [if_pos c2, m_put2 (by omega), show (0 : Int32) = sp_b false from rfl, nxt false]
            have : decide (v ≤ (32767 : Int32)) = false := decide_eq_false (by rw [Int32.not_le]; exact c2)
            rw [this]
            simp
          · rw [if_neg c2, m_put2 (by omega)]
            refine Eq.trans (nxt true) ?_
            have : decide (v ≤ (32767 : Int32)) = true := decide_eq_true (by rw [Int32.not_lt] at c2; exact c2)
            rw [this, d1]
            simp
    · rw [hl] at a6; simp only [cond_true] at a6 ⊢
      rw [if_neg (by decide), m_put4 (by omega)]
      have ef : w_fq (w_off w (g_it G) (g_lat G)) q = false := by unfold w_fq; rw [hl]; rfl
      have := ih e' (q :: r) (w_put4 (ba + q.1) (w_off w (g_it G) (g_lat G) q.2.1 q.2.2.1) A) b0 (some (.int (w_off w (g_it G) (g_lat G) q.2.1 q.2.2.1))) (some (.int (nI (ba + q.1)))) (some (.int (4 : Int32))) he' hF'
      rw [List.length_cons] at this
      rw [nI_1, this, ef, Bool.or_false]
theorem m_settles {d : Nat} (h : Q1 nt N M w ba pf rf lf c lm lv x G) (h0 : x.1 0 34 = 0) (hba : ba ≤ 90000) (hgo : ∀ q, q ∈ w_fxs w w_z (g_it G) → g_goes G q.2.2.1 = true) : ∃ A, kX1 (d + 1) 99 [.ref 0] x = some (some (.int (sp_b (!w_far w G))), set19 A x) ∧ z_ar A ba (w_by_ w (w_off w (g_it G) (g_lat G)) (g_it G)) ∧ ∀ j, (j < ba ∨ ba + (w_by_ w w_z (g_it G)).length ≤ j) → A j = x.1 19 j := by
  have hb : z_ar (x.1 19) ba (w_by_ w w_z (g_it G)) := by
    obtain ⟨n1, n2, ⟨n3, z34, ⟨b1, b2, b3, b4, b5⟩, z9⟩ | ⟨m1, -⟩⟩ := h
    · exact b5
    · exact absurd h0 (by rw [m1.1]; decide)
  have pat := w_pat_all (o := w_off w (g_it G) (g_lat G)) (g_it G) (x.1 19) hb
  refine ⟨w_pat (w_off w (g_it G) (g_lat G)) ba (w_fxs w w_z (g_it G)) (x.1 19), ?_, pat.1, pat.2⟩
  rw [eX1_settles]
  have := m_setL (d := d) h h0 hba hgo _ (w_fxs w w_z (g_it G)) [] (x.1 19) true none none none rfl (List.append_nil _).symm
  rw [← set19_id] at this
  rw [Bool.true_and] at this
  exact this
end
