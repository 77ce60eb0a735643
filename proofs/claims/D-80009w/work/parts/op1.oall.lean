/-! every statement keeps all well -/
section
variable {nt : sp_NT} {N M : Nat} {res par : Nat → Int32} {ret : Nat} {E : wF} {T : Nat → List Nat} {rs : Int32} {n m z : Nat} {D : Nat → Prop} {g g0 g1 h k : wG} {gh eh gv gt : List oGh} {cx cv ct : List wC} {L0 s0 : List Nat} {rec : wT} {K f B hh : Nat} {i : Int32} {s : sp_SS}
theorem oPs_ov (p : oPr nt N M res par ret E T rs K f i g s gh B) : oPs nt N M res par ret E T f i g s gh (s_ov (s_ac g)) := by
  obtain ⟨p1, p2, p3, p4, p5, p6, p7, p8, p9, p10, p11, p12, p13, p14⟩ := p
  have ho := ((w_q_iff g).mp p1).2
  obtain ⟨y1, y2, y3, y4, y5, y6⟩ := p2
  have ls : oLs (g_nl g) g (s_ov (s_ac g)) := ⟨⟨[], rfl⟩, Nat.le_refl _, fun _ _ => ⟨rfl, fun q => q, fun _ => rfl⟩, Nat.le_refl _, Nat.le_refl _, ⟨[], rfl⟩, fun _ => rfl, fun q => absurd (show true = false from q) (by decide)⟩
  refine ⟨⟨⟨y1.1, y1.2.1, fun q => absurd (show true = false from q) (by decide)⟩, y2.same (fun c e q => ⟨q.1, q.2.1, q.2.2.1, fun w => ⟨(q.2.2.2.1 w).1, (q.2.2.2.1 w).2.1, fun o => absurd (show true = false from o) (by decide)⟩, q.2.2.2.2⟩) (fun c e q => q), y3, ?_, fun q => absurd (show true = false from q) (by decide), y6⟩, ⟨ls, ⟨Nat.le_refl _, Nat.le_refl _, fun _ _ q => q, Nat.le_refl _, Nat.le_succ _, Nat.le_refl _, ?_, Nat.le_refl _⟩, fun _ _ => rfl⟩, fun q => ⟨List.prefix_refl _, p6.1⟩, Nat.le_refl _, Nat.le_add_right _ _, fun q => ?_⟩
  · show g_ac g + 1 ≤ 60001
    have := y5 ho; omega
  · show g_n1 g + g_fm g + 2 * w_cg (g_goes g) (g_nl g) + g_by g + 3 * g_ac g ≤ g_n1 g + g_fm g + 2 * w_cg (g_goes g) (g_nl g) + g_by g + 3 * (g_ac g + 1)
    omega
  · have := ((w_q_iff _).mp q).2
    exact absurd (show true = false from this) (by decide)
theorem oS_all (hN : N ≤ 64) (hT : wTb nt N M res par) (hTr : oTr nt N T) (hret : ret = rs.toNatClampNeg) : ∀ k, oSc nt N M res par ret E T rs (wS nt k) k := by
  intro k
  induction k with
  | zero =>
    refine ⟨fun n g q => ?_, fun f n A g s gh B p => ?_⟩
    · show (bif w_q g then g else s_ov (s_ac g)) = g; rw [q]; rfl
    · have e : wS nt 0 n g = s_ov (s_ac g) := by show (bif w_q g then g else s_ov (s_ac g)) = _; rw [p.1]; rfl
      rw [e]; exact oPs_ov p
  | succ k IH =>
    refine ⟨fun n g q => ?_, fun f n A g s gh B p => ?_⟩
    · show (bif w_q g then g else _) = g; rw [q]; rfl
    · have e : wS nt (k + 1) n g = (bif Nat.blt 60000 (g_ac g + 1) then s_ov (s_ac g) else w_bd nt (wV nt 40) (wS nt k) n (s_ac g)) := by show (bif w_q g then g else _) = _; rw [p.1]; rfl
      rw [e]
      cases hb : Nat.blt 60000 (g_ac g + 1) with
      | true => exact oPs_ov p
      | false =>
      simp only [cond_false]
      have hac : g_ac g + 1 ≤ 60000 := by
        rcases Nat.lt_or_ge 60000 (g_ac g + 1) with q | q
        · have : Nat.blt 60000 (g_ac g + 1) = true := Nat.ble_eq_true_of_le q
          rw [this] at hb; exact absurd hb (by decide)
        · exact q
      cases f with
      | zero => have := (hT.d A.1).1; have := A.2.2; omega
      | succ f =>
      have b : oBg nt N M res par ret E T rs k (f + 1) n g s gh B := ⟨p, hac, hN, hT, hTr, A⟩
      rcases sp_Sk_iff.mp A.2.1 with q | q | q | q | q | q | q | q | q | q | q | q | q | q | q | q | q | q
      · have q : nK nt n = 60 := q
        rw [w_bd60 q]; exact ob60 b q
      · have q : nK nt n = 61 := q
        rw [w_bd61 q]; exact ob61 b q
      · have q : nK nt n = 62 := q
        rw [w_bd62 q]; exact ob62 IH b q
      · have q : nK nt n = 63 := q
        rw [w_bd63 q]; exact ob63 IH b q
      · have q : nK nt n = 64 := q
        rw [w_bd64 q]; exact ob64 IH b q
      · have q : nK nt n = 65 := q
        rw [w_bd65 q]; exact ob65 IH b q
      · have q : nK nt n = 67 := q
        rw [w_bd67 q]
        have := ob67 IH b q
        unfold w_loop
        simp only [if_pos q]; exact this
      · have q : nK nt n = 68 := q
        rw [w_bd68 q]
        have := ob68 IH b q
        unfold w_loop
        simp only [if_neg (show ¬ nK nt n = 67 by rw [q]; decide), if_pos q]; exact this
      · have q : nK nt n = 69 := q
        rw [w_bd69 q]
        have := ob69 IH b q rfl rfl
        unfold w_loop
        simp only [if_neg (show ¬ nK nt n = 67 by rw [q]; decide), if_neg (show ¬ nK nt n = 68 by rw [q]; decide)]; exact this
      · have q : nK nt n = 71 := q
        rw [w_bd71 q]; exact ob71 IH b q
      · have q : nK nt n = 72 := q
        rw [w_bd72 q]; exact ob72 IH b q
      · have q : nK nt n = 73 := q
        rw [w_bd73 q]; exact ob73 hret IH b q
      · have q : nK nt n = 74 := q
        rw [w_bd74 q]; exact ob74 b q
      · have q : nK nt n = 75 := q
        rw [w_bd75 q]; exact ob75 IH b q rfl
      · have q : nK nt n = 79 := q
        rw [w_bd79 q]; exact ob79 IH b q
      · have q : nK nt n = 80 := q
        rw [w_bd80 q]; exact ob80 IH b q
      · have q : nK nt n = 81 := q
        rw [w_bd81 q]; exact ob81 IH b q
      · have q : nK nt n = 85 := q
        rw [w_bd85 q]; exact ob85 IH b q _ _
end
