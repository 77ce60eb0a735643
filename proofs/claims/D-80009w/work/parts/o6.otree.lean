/-! what scoping tells of expressions -/
def sbD (k : Int32) : Bool := !(decide (k = 1) || decide (k = 2) || decide (k = 3) || decide (k = 4) || decide (k = 51) || decide (k = 71) || decide (k = 72) || decide (k = 6) || decide (k = 7) || decide (k = 22) || decide (k = 46) || decide (k = 85) || decide (k = 48) || decide (k = 34) || decide (k = 61) || decide (k = 62) || decide (k = 63) || decide (k = 64) || decide (k = 67) || decide (k = 69) || decide (k = 70) || decide (k = 80) || decide (k = 66) || decide (k = 79) || decide (k = 68) || decide (k = 75) || decide (k = 73) || decide (k = 76) || decide (k = 82) || decide (k = 77) || decide (k = 83) || decide (k = 84) || decide (k = 78))
theorem sb_def {rec : Int32 → sp_SS → Bool × sp_SS} {k a b : Int32} {s : sp_SS} (h : sbD k = true) : sp_sb rec k a b s = sp_th (rec a s) fun s => if b = -1 then (true, s) else rec b s := by
  unfold sbD at h
  simp only [Bool.not_eq_true', Bool.or_eq_false_iff, decide_eq_false_iff_not] at h
  unfold sp_sb
  simp only [h, or_self, if_false]
/-- an expression (a list of them, a pair) in force -/
def oEs (nt : sp_NT) (N f : Nat) (n : Int32) : Prop := ∀ s, (sp_sc nt f n s).2 = s ∧ ((sp_sc nt f n s).1 = true → ∀ v f', oUse nt f' n v → s.2.1 v.toNatClampNeg = true ∧ sp_nd N v = true)
section
variable {nt : sp_NT} {N M : Nat} {res par : Nat → Int32} {f : Nat}
theorem oUse_z (f : Nat) (v : Int32) (n : Int32) : ¬ oUse nt 0 n v := fun q => q
theorem oEs_th {n : Int32} (h67 : ¬ (nK nt n = 6 ∨ nK nt n = 7)) (he : ∀ s, sp_sc nt (f + 1) n s = sp_th (sp_sc nt f (nA nt n) s) fun s => if nB nt n = -1 then (true, s) else sp_sc nt f (nB nt n) s) (ha : oEs nt N f (nA nt n)) (hb : ¬ nB nt n = -1 → oEs nt N f (nB nt n)) : oEs nt N (f + 1) n := by
  intro s
  rw [he s]
  obtain ⟨a1, a2⟩ := ha s
  unfold sp_th
  cases ea : (sp_sc nt f (nA nt n) s).1
  · simp only [cond_false]; rw [ea]
    exact ⟨a1, fun q => absurd q (by decide)⟩
  · simp only [cond_true]; rw [a1]
    by_cases e : nB nt n = -1
    · rw [if_pos e]
      refine ⟨rfl, fun _ v f' hu => ?_⟩
      cases f' with
      | zero => exact hu.elim
      | succ f' =>
        rcases hu with ⟨hu, -⟩ | ⟨-, hu⟩ | ⟨hu, -⟩
        · exact absurd hu h67
        · exact a2 ea v f' hu
        · unfold sp_pb at hu; rw [e] at hu; simp at hu
    · rw [if_neg e]
      obtain ⟨b1, b2⟩ := hb e s
      refine ⟨b1, fun q v f' hu => ?_⟩
      cases f' with
      | zero => exact hu.elim
      | succ f' =>
        rcases hu with ⟨hu, -⟩ | ⟨-, hu⟩ | ⟨-, hu⟩
        · exact absurd hu h67
        · exact a2 ea v f' hu
        · exact b2 q v f' hu
theorem oEs_b {n : Int32} (h67 : ¬ (nK nt n = 6 ∨ nK nt n = 7)) (hA : sp_hA (nK nt n) = false) (he : ∀ s, sp_sc nt (f + 1) n s = sp_sc nt f (nB nt n) s) (hb : oEs nt N f (nB nt n)) : oEs nt N (f + 1) n := by
  intro s
  rw [he s]
  obtain ⟨b1, b2⟩ := hb s
  refine ⟨b1, fun q v f' hu => ?_⟩
  cases f' with
  | zero => exact hu.elim
  | succ f' =>
    rcases hu with ⟨hu, -⟩ | ⟨hu, -⟩ | ⟨-, hu⟩
    · exact absurd hu h67
    · unfold sp_pa at hu; rw [hA] at hu; simp at hu
    · exact b2 q v f' hu
theorem oEs_0 {n : Int32} (h67 : ¬ (nK nt n = 6 ∨ nK nt n = 7)) (hA : sp_hA (nK nt n) = false) (hB : sp_hB (nK nt n) = false ∨ nB nt n = -1) (he : ∀ s, sp_sc nt (f + 1) n s = (true, s)) : oEs nt N (f + 1) n := by
  intro s
  rw [he s]
  refine ⟨rfl, fun q v f' hu => ?_⟩
  cases f' with
  | zero => exact hu.elim
  | succ f' =>
    rcases hu with ⟨hu, -⟩ | ⟨hu, -⟩ | ⟨hu, -⟩
    · exact absurd hu h67
    · unfold sp_pa at hu; rw [hA] at hu; simp at hu
    · unfold sp_pb at hu
      rcases hB with hB | hB
      · rw [hB] at hu; simp at hu
      · rw [hB] at hu; simp at hu
theorem sc_def {n : Int32} (h : sbD (nK nt n) = true) (s : sp_SS) : sp_sc nt (f + 1) n s = sp_th (sp_sc nt f (nA nt n) s) fun s => if nB nt n = -1 then (true, s) else sp_sc nt f (nB nt n) s := by
  rw [sp_sc_s]; exact sb_def h
/-- expressions, lists of what is given, pairs -/
def oEL (nt : sp_NT) (N f : Nat) (n : Int32) : Prop := sp_nd N n = true ∧ nD nt n ≤ f ∧ (sp_E (nK nt n) = true ∨ nK nt n = 49 ∨ nK nt n = 33)
theorem wE.l {n : Int32} (h : wE nt N f n) : oEL nt N f n := ⟨h.1, h.2.2, Or.inl h.2.1⟩
theorem i_sb {lo hi k : Int32} {a c : Nat} (h1 : lo ≤ k) (h2 : k ≤ hi) (e1 : lo.toInt = a) (e2 : hi.toInt = a + c) (h : ∀ j, j < c + 1 → sbD (nI (a + j)) = true) : sbD k = true := by
  obtain ⟨j, hj, e⟩ := i_enum h1 h2 e1 e2
  rw [e]; exact h j (by omega)
theorem oE_all (hT : wTb nt N M res par) : ∀ (f : Nat) (n : Int32), oEL nt N f n → oEs nt N f n := by
  intro f
  induction f with
  | zero => intro n hn; have := (hT.d hn.1).1; have := hn.2.1; omega
  | succ f ih =>
    intro n ⟨hn, hd, hk⟩
    by_cases k49 : nK nt n = 49
    · obtain ⟨⟨a, -, -⟩, b⟩ := wE_given hT hn hd k49
      refine oEs_th (by rw [k49]; decide) (sc_def (by rw [k49]; decide)) (ih _ a.l) (fun e => ih _ ?_)
      rcases b with b | ⟨b1, b2, b3⟩
      · exact absurd b e
      · exact ⟨b1, b2, Or.inr (Or.inl b3)⟩
    by_cases k33 : nK nt n = 33
    · obtain ⟨a, b, -⟩ := wE_pair hT hn hd k33
      exact oEs_th (by rw [k33]; decide) (sc_def (by rw [k33]; decide)) (ih _ a.l) (fun _ => ih _ b.l)
    have hEx : sp_E (nK nt n) = true := by
      rcases hk with h | h | h
      · exact h
      · exact absurd h k49
      · exact absurd h k33
    by_cases c1 : 10 ≤ nK nt n ∧ nK nt n ≤ 20
    · obtain ⟨a, b, -⟩ := wE_bin hT hn hd c1.1 c1.2
      have := i_sb (a := 10) (c := 10) c1.1 c1.2 rfl rfl (by decide)
      refine oEs_th (fun q => ?_) (sc_def this) (ih _ a.l) (fun _ => ih _ b.l)
      rcases q with q | q <;> rw [q] at c1 <;> exact absurd c1.1 (by decide)
    by_cases c2 : 35 ≤ nK nt n ∧ nK nt n ≤ 45
    · obtain ⟨x1, x2, x3, -, -, b, -⟩ := wE_chg hT hn hd c2.1 c2.2
      have := i_sb (a := 35) (c := 10) c2.1 c2.2 rfl rfl (by decide)
      refine oEs_th (fun q => ?_) (sc_def this) (ih _ ⟨x1, x2, Or.inl (by rcases x3 with e | e <;> rw [e] <;> decide)⟩) (fun _ => ih _ b.l)
      rcases q with q | q <;> rw [q] at c2 <;> exact absurd c2.1 (by decide)
    by_cases c3 : 23 ≤ nK nt n ∧ nK nt n ≤ 28
    · obtain ⟨a, b, -⟩ := wE_cmp hT hn hd c3.1 c3.2
      have := i_sb (a := 23) (c := 5) c3.1 c3.2 rfl rfl (by decide)
      refine oEs_th (fun q => ?_) (sc_def this) (ih _ a.l) (fun _ => ih _ b.l)
      rcases q with q | q <;> rw [q] at c3 <;> exact absurd c3.1 (by decide)
    by_cases k1 : nK nt n = 1
    · exact oEs_0 (by rw [k1]; decide) (by rw [k1]; decide) (Or.inl (by rw [k1]; decide)) (fun s => by rw [sp_sc_s, show nt 0 n.toNatClampNeg = 1 from k1]; rfl)
    by_cases k2 : nK nt n = 2
    · exact oEs_0 (by rw [k2]; decide) (by rw [k2]; decide) (Or.inl (by rw [k2]; decide)) (fun s => by rw [sp_sc_s, show nt 0 n.toNatClampNeg = 2 from k2]; rfl)
    by_cases k3 : nK nt n = 3
    · exact oEs_0 (by rw [k3]; decide) (by rw [k3]; decide) (Or.inl (by rw [k3]; decide)) (fun s => by rw [sp_sc_s, show nt 0 n.toNatClampNeg = 3 from k3]; rfl)
    by_cases k4 : nK nt n = 4
    · exact oEs_0 (by rw [k4]; decide) (by rw [k4]; decide) (Or.inl (by rw [k4]; decide)) (fun s => by rw [sp_sc_s, show nt 0 n.toNatClampNeg = 4 from k4]; rfl)
    by_cases k51 : nK nt n = 51
    · obtain ⟨ho, hT'⟩ := hT.ok hn
      have hb : nB nt n = -1 := (sp_k51 ho hT' k51).1
      exact oEs_0 (by rw [k51]; decide) (by rw [k51]; decide) (Or.inr hb) (fun s => by rw [sp_sc_s, show nt 0 n.toNatClampNeg = 51 from k51]; rfl)
    by_cases k6 : nK nt n = 6
    · obtain ⟨y1, -⟩ := wE_load hT hn hd k6
      intro s
      have e : sp_sc nt (f + 1) n s = (s.2.1 (nA nt n).toNatClampNeg, s) := by rw [sp_sc_s, show nt 0 n.toNatClampNeg = 6 from k6]; rfl
      rw [e]
      refine ⟨rfl, fun q v f' hu => ?_⟩
      cases f' with
      | zero => exact hu.elim
      | succ f' =>
        rcases hu with ⟨-, hu⟩ | ⟨hu, -⟩ | ⟨hu, -⟩
        · rw [hu]; exact ⟨q, y1⟩
        · unfold sp_pa at hu; rw [k6] at hu; exact absurd hu (by simp [sp_hA, sp_i])
        · unfold sp_pb at hu; rw [k6] at hu; exact absurd hu (by simp [sp_hB, sp_i])
    by_cases k7 : nK nt n = 7
    · obtain ⟨y1, -, b, -⟩ := wE_store hT hn hd k7
      intro s
      have e : sp_sc nt (f + 1) n s = sp_th (s.2.1 (nA nt n).toNatClampNeg, s) (sp_sc nt f (nB nt n)) := by rw [sp_sc_s, show nt 0 n.toNatClampNeg = 7 from k7]; rfl
      rw [e]
      obtain ⟨b1, b2⟩ := ih _ b.l s
      unfold sp_th
      cases q : s.2.1 (nA nt n).toNatClampNeg
      · exact ⟨rfl, fun z => absurd z (by simp)⟩
      · simp only [cond_true]
        refine ⟨b1, fun z v f' hu => ?_⟩
        cases f' with
        | zero => exact hu.elim
        | succ f' =>
          rcases hu with ⟨-, hu⟩ | ⟨hu, -⟩ | ⟨-, hu⟩
          · rw [hu]; exact ⟨q, y1⟩
          · unfold sp_pa at hu; rw [k7] at hu; exact absurd hu (by simp [sp_hA, sp_i])
          · exact b2 z v f' hu
    by_cases k8 : nK nt n = 8
    · obtain ⟨a, b, -⟩ := wE_at hT hn hd k8
      exact oEs_th (by rw [k8]; decide) (sc_def (by rw [k8]; decide)) (ih _ a.l) (fun _ => ih _ b.l)
    by_cases k9 : nK nt n = 9
    · obtain ⟨x1, x2, x3, b, -⟩ := wE_put hT hn hd k9
      exact oEs_th (by rw [k9]; decide) (sc_def (by rw [k9]; decide)) (ih _ ⟨x1, x2, Or.inl (by rw [x3]; decide)⟩) (fun _ => ih _ b.l)
    by_cases k21 : nK nt n = 21
    · obtain ⟨a, -⟩ := wE_neg hT hn hd k21
      obtain ⟨ho, hT'⟩ := hT.ok hn
      exact oEs_th (by rw [k21]; decide) (sc_def (by rw [k21]; decide)) (ih _ a.l) (fun q => absurd (sp_k21 ho hT' k21).2.2.1 q)
    by_cases k22 : nK nt n = 22
    · obtain ⟨b, -⟩ := wE_cast hT hn hd k22
      exact oEs_b (by rw [k22]; decide) (by rw [k22]; decide) (fun s => by rw [sp_sc_s, show nt 0 n.toNatClampNeg = 22 from k22]; rfl) (ih _ b.l)
    by_cases k29 : nK nt n = 29
    · obtain ⟨a, -, b, -⟩ := wE_both hT hn hd k29
      exact oEs_th (by rw [k29]; decide) (sc_def (by rw [k29]; decide)) (ih _ a.l) (fun _ => ih _ b.l)
    by_cases k30 : nK nt n = 30
    · obtain ⟨a, -, b, -⟩ := wE_either hT hn hd k30
      exact oEs_th (by rw [k30]; decide) (sc_def (by rw [k30]; decide)) (ih _ a.l) (fun _ => ih _ b.l)
    by_cases k31 : nK nt n = 31
    · obtain ⟨a, -⟩ := wE_not hT hn hd k31
      obtain ⟨ho, hT'⟩ := hT.ok hn
      exact oEs_th (by rw [k31]; decide) (sc_def (by rw [k31]; decide)) (ih _ a.l) (fun q => absurd (sp_k31 ho hT' k31).2.1 q)
    by_cases k32 : nK nt n = 32
    · obtain ⟨a, -, b1, b2, b3, -⟩ := wE_choose hT hn hd k32
      exact oEs_th (by rw [k32]; decide) (sc_def (by rw [k32]; decide)) (ih _ a.l) (fun _ => ih _ ⟨b1, b2, Or.inr (Or.inr b3)⟩)
    by_cases k34 : nK nt n = 34
    · obtain ⟨x1, x2, x3, -⟩ := wE_stp hT hn hd k34
      intro s
      have e : sp_sc nt (f + 1) n s = sp_sc nt f (nA nt n) s := by rw [sp_sc_s, show nt 0 n.toNatClampNeg = 34 from k34]; rfl
      rw [e]
      obtain ⟨b1, b2⟩ := ih _ ⟨x1, x2, Or.inl (by rcases x3 with e | e <;> rw [e] <;> decide)⟩ s
      refine ⟨b1, fun z v f' hu => ?_⟩
      cases f' with
      | zero => exact hu.elim
      | succ f' =>
        rcases hu with ⟨hu, -⟩ | ⟨-, hu⟩ | ⟨hu, -⟩
        · rw [k34] at hu; exact absurd hu (by decide)
        · exact b2 z v f' hu
        · unfold sp_pb at hu; rw [k34] at hu; exact absurd hu (by simp [sp_hB, sp_i])
    by_cases k46 : nK nt n = 46
    · obtain ⟨-, -, -, b, -⟩ := wE_make hT hn hd k46
      exact oEs_b (by rw [k46]; decide) (by rw [k46]; decide) (fun s => by rw [sp_sc_s, show nt 0 n.toNatClampNeg = 46 from k46]; rfl) (ih _ b.l)
    by_cases k47 : nK nt n = 47
    · obtain ⟨a, -⟩ := wE_len hT hn hd k47
      obtain ⟨ho, hT'⟩ := hT.ok hn
      exact oEs_th (by rw [k47]; decide) (sc_def (by rw [k47]; decide)) (ih _ a.l) (fun q => absurd (sp_k47 ho hT' k47).2.2.1 q)
    have e48 : nK nt n = 48 := by
      apply Int32.toInt_inj.mp
      show (nK nt n).toInt = 48
      have q := sp_E_iff.mp hEx
      simp only [i_le, not_or] at c1 c2 c3
      have z : ∀ v : Int32, ¬ nK nt n = v → (nK nt n).toInt ≠ v.toInt := fun v => i_ne
      have y1 : (nK nt n).toInt ≠ 1 := z 1 k1
      have y2 : (nK nt n).toInt ≠ 2 := z 2 k2
      have y3 : (nK nt n).toInt ≠ 3 := z 3 k3
      have y4 : (nK nt n).toInt ≠ 4 := z 4 k4
      have y51 : (nK nt n).toInt ≠ 51 := z 51 k51
      have y6 : (nK nt n).toInt ≠ 6 := z 6 k6
      have y7 : (nK nt n).toInt ≠ 7 := z 7 k7
      have y8 : (nK nt n).toInt ≠ 8 := z 8 k8
      have y9 : (nK nt n).toInt ≠ 9 := z 9 k9
      have y21 : (nK nt n).toInt ≠ 21 := z 21 k21
      have y22 : (nK nt n).toInt ≠ 22 := z 22 k22
      have y29 : (nK nt n).toInt ≠ 29 := z 29 k29
      have y30 : (nK nt n).toInt ≠ 30 := z 30 k30
      have y31 : (nK nt n).toInt ≠ 31 := z 31 k31
      have y32 : (nK nt n).toInt ≠ 32 := z 32 k32
      have y34 : (nK nt n).toInt ≠ 34 := z 34 k34
      have y46 : (nK nt n).toInt ≠ 46 := z 46 k46
      have y47 : (nK nt n).toInt ≠ 47 := z 47 k47
      have l1 : (10 : Int32).toInt = 10 := rfl
      have l2 : (20 : Int32).toInt = 20 := rfl
      have l3 : (35 : Int32).toInt = 35 := rfl
      have l4 : (45 : Int32).toInt = 45 := rfl
      have l5 : (23 : Int32).toInt = 23 := rfl
      have l6 : (28 : Int32).toInt = 28 := rfl
      omega
    obtain ⟨-, hb, -⟩ := wE_call hT hn hd e48
    intro s
    have e : sp_sc nt (f + 1) n s = (if nB nt n = -1 then (true, s) else sp_sc nt f (nB nt n) s) := by rw [sp_sc_s, show nt 0 n.toNatClampNeg = 48 from e48]; rfl
    rw [e]
    rcases hb with hb | ⟨b1, b2, b3⟩
    · rw [if_pos hb]
      refine ⟨rfl, fun z v f' hu => ?_⟩
      cases f' with
      | zero => exact hu.elim
      | succ f' =>
        rcases hu with ⟨hu, -⟩ | ⟨hu, -⟩ | ⟨hu, -⟩
        · rw [e48] at hu; exact absurd hu (by decide)
        · unfold sp_pa at hu; rw [e48] at hu; exact absurd hu (by simp [sp_hA, sp_i])
        · unfold sp_pb at hu; rw [hb] at hu; simp at hu
    · rw [if_neg (nd_n1 b1)]
      obtain ⟨q1, q2⟩ := ih _ ⟨b1, b2, Or.inr (Or.inl b3)⟩ s
      refine ⟨q1, fun z v f' hu => ?_⟩
      cases f' with
      | zero => exact hu.elim
      | succ f' =>
        rcases hu with ⟨hu, -⟩ | ⟨hu, -⟩ | ⟨-, hu⟩
        · rw [e48] at hu; exact absurd hu (by decide)
        · unfold sp_pa at hu; rw [e48] at hu; exact absurd hu (by simp [sp_hA, sp_i])
        · exact q2 z v f' hu
end
/-! how scoping grows -/
theorem oc60 {nt : sp_NT} {f : Nat} {n : Int32} (e : nK nt n = 60) (s : sp_SS) : sp_sc nt (f + 1) n s = sp_th (sp_sc nt f (nA nt n) s) fun s => if nB nt n = -1 then (true, s) else sp_sc nt f (nB nt n) s := by rw [sp_sc_s, show nt 0 n.toNatClampNeg = 60 from e]; rfl
theorem oc61 {nt : sp_NT} {f : Nat} {n : Int32} (e : nK nt n = 61) (s : sp_SS) : sp_sc nt (f + 1) n s = sp_th (sp_sc nt f (nB nt n) s) fun s => (true, sp_fo s (nA nt n)) := by rw [sp_sc_s, show nt 0 n.toNatClampNeg = 61 from e]; rfl
theorem oc62 {nt : sp_NT} {f : Nat} {n : Int32} (e : nK nt n = 62) (s : sp_SS) : sp_sc nt (f + 1) n s = sp_th (sp_sc nt f (nA nt n) s) (sp_sc nt f (nB nt n)) := by rw [sp_sc_s, show nt 0 n.toNatClampNeg = 62 from e]; rfl
theorem oc63 {nt : sp_NT} {f : Nat} {n : Int32} (e : nK nt n = 63) (s : sp_SS) : sp_sc nt (f + 1) n s = sp_al s.1 (sp_sc nt f (nA nt n) s) := by rw [sp_sc_s, show nt 0 n.toNatClampNeg = 63 from e]; rfl
theorem oc64 {nt : sp_NT} {f : Nat} {n : Int32} (e : nK nt n = 64) (s : sp_SS) : sp_sc nt (f + 1) n s = sp_th (sp_sc nt f (nA nt n) s) fun s => sp_al s.1 (sp_sc nt f (nB nt n) s) := by rw [sp_sc_s, show nt 0 n.toNatClampNeg = 64 from e]; rfl
theorem oc65 {nt : sp_NT} {f : Nat} {n : Int32} (e : nK nt n = 65) (s : sp_SS) : sp_sc nt (f + 1) n s = sp_th (sp_sc nt f (nA nt n) s) fun s => if nB nt n = -1 then (true, s) else sp_sc nt f (nB nt n) s := by rw [sp_sc_s, show nt 0 n.toNatClampNeg = 65 from e]; rfl
theorem oc66 {nt : sp_NT} {f : Nat} {n : Int32} (e : nK nt n = 66) (s : sp_SS) : sp_sc nt (f + 1) n s = sp_th (sp_al s.1 (sp_sc nt f (nA nt n) s)) fun s => sp_al s.1 (sp_sc nt f (nB nt n) s) := by rw [sp_sc_s, show nt 0 n.toNatClampNeg = 66 from e]; rfl
theorem oc67 {nt : sp_NT} {f : Nat} {n : Int32} (e : nK nt n = 67) (s : sp_SS) : sp_sc nt (f + 1) n s = sp_th (sp_sc nt f (nA nt n) s) fun s => sp_al s.1 (sp_sc nt f (nB nt n) s) := by rw [sp_sc_s, show nt 0 n.toNatClampNeg = 67 from e]; rfl
theorem oc68 {nt : sp_NT} {f : Nat} {n : Int32} (e : nK nt n = 68) (s : sp_SS) : sp_sc nt (f + 1) n s = sp_th (sp_al s.1 (sp_sc nt f (nA nt n) s)) (sp_sc nt f (nB nt n)) := by rw [sp_sc_s, show nt 0 n.toNatClampNeg = 68 from e]; rfl
theorem oc69 {nt : sp_NT} {f : Nat} {n : Int32} (e : nK nt n = 69) (s : sp_SS) : sp_sc nt (f + 1) n s = sp_th (sp_sc nt f (nA nt n) s) fun s => sp_al s.1 (sp_sc nt f (nB nt n) s) := by rw [sp_sc_s, show nt 0 n.toNatClampNeg = 69 from e]; rfl
theorem oc70 {nt : sp_NT} {f : Nat} {n : Int32} (e : nK nt n = 70) (s : sp_SS) : sp_sc nt (f + 1) n s = sp_th (sp_sc nt f (nA nt n) s) fun s => sp_al s.1 (sp_sc nt f (nB nt n) s) := by rw [sp_sc_s, show nt 0 n.toNatClampNeg = 70 from e]; rfl
theorem oc71 {nt : sp_NT} {f : Nat} {n : Int32} (e : nK nt n = 71) (s : sp_SS) : sp_sc nt (f + 1) n s = (true, s) := by rw [sp_sc_s, show nt 0 n.toNatClampNeg = 71 from e]; rfl
theorem oc72 {nt : sp_NT} {f : Nat} {n : Int32} (e : nK nt n = 72) (s : sp_SS) : sp_sc nt (f + 1) n s = (true, s) := by rw [sp_sc_s, show nt 0 n.toNatClampNeg = 72 from e]; rfl
theorem oc73 {nt : sp_NT} {f : Nat} {n : Int32} (e : nK nt n = 73) (s : sp_SS) : sp_sc nt (f + 1) n s = if nA nt n = -1 then (true, s) else sp_sc nt f (nA nt n) s := by rw [sp_sc_s, show nt 0 n.toNatClampNeg = 73 from e]; rfl
theorem oc74 {nt : sp_NT} {f : Nat} {n : Int32} (e : nK nt n = 74) (s : sp_SS) : sp_sc nt (f + 1) n s = sp_th (sp_sc nt f (nA nt n) s) fun s => if nB nt n = -1 then (true, s) else sp_sc nt f (nB nt n) s := by rw [sp_sc_s, show nt 0 n.toNatClampNeg = 74 from e]; rfl
theorem oc75 {nt : sp_NT} {f : Nat} {n : Int32} (e : nK nt n = 75) (s : sp_SS) : sp_sc nt (f + 1) n s = sp_th (sp_al s.1 (sp_sc nt f (nA nt n) s)) (sp_sc nt f (nB nt n)) := by rw [sp_sc_s, show nt 0 n.toNatClampNeg = 75 from e]; rfl
theorem oc76 {nt : sp_NT} {f : Nat} {n : Int32} (e : nK nt n = 76) (s : sp_SS) : sp_sc nt (f + 1) n s = sp_th (sp_sc nt f (nA nt n) s) fun s => if nB nt n = -1 then (true, s) else sp_sc nt f (nB nt n) s := by rw [sp_sc_s, show nt 0 n.toNatClampNeg = 76 from e]; rfl
theorem oc77 {nt : sp_NT} {f : Nat} {n : Int32} (e : nK nt n = 77) (s : sp_SS) : sp_sc nt (f + 1) n s = sp_al s.1 (sp_sc nt f (nB nt n) s) := by rw [sp_sc_s, show nt 0 n.toNatClampNeg = 77 from e]; rfl
theorem oc78 {nt : sp_NT} {f : Nat} {n : Int32} (e : nK nt n = 78) (s : sp_SS) : sp_sc nt (f + 1) n s = sp_al s.1 (sp_sc nt f (nB nt n) (sp_fo s (nA nt n))) := by rw [sp_sc_s, show nt 0 n.toNatClampNeg = 78 from e]; rfl
theorem oc79 {nt : sp_NT} {f : Nat} {n : Int32} (e : nK nt n = 79) (s : sp_SS) : sp_sc nt (f + 1) n s = sp_th (sp_al s.1 (sp_sc nt f (nA nt n) s)) fun s => sp_al s.1 (sp_sc nt f (nB nt n) s) := by rw [sp_sc_s, show nt 0 n.toNatClampNeg = 79 from e]; rfl
theorem oc80 {nt : sp_NT} {f : Nat} {n : Int32} (e : nK nt n = 80) (s : sp_SS) : sp_sc nt (f + 1) n s = sp_th (sp_sc nt f (nA nt n) s) fun s => sp_al s.1 (sp_sc nt f (nB nt n) s) := by rw [sp_sc_s, show nt 0 n.toNatClampNeg = 80 from e]; rfl
theorem oc81 {nt : sp_NT} {f : Nat} {n : Int32} (e : nK nt n = 81) (s : sp_SS) : sp_sc nt (f + 1) n s = sp_th (sp_sc nt f (nA nt n) s) fun s => if nB nt n = -1 then (true, s) else sp_sc nt f (nB nt n) s := by rw [sp_sc_s, show nt 0 n.toNatClampNeg = 81 from e]; rfl
theorem oc82 {nt : sp_NT} {f : Nat} {n : Int32} (e : nK nt n = 82) (s : sp_SS) : sp_sc nt (f + 1) n s = sp_th (sp_sc nt f (nA nt n) s) fun s => if nB nt n = -1 then (true, s) else sp_sc nt f (nB nt n) s := by rw [sp_sc_s, show nt 0 n.toNatClampNeg = 82 from e]; rfl
theorem oc83 {nt : sp_NT} {f : Nat} {n : Int32} (e : nK nt n = 83) (s : sp_SS) : sp_sc nt (f + 1) n s = sp_al s.1 (sp_sc nt f (nB nt n) s) := by rw [sp_sc_s, show nt 0 n.toNatClampNeg = 83 from e]; rfl
theorem oc84 {nt : sp_NT} {f : Nat} {n : Int32} (e : nK nt n = 84) (s : sp_SS) : sp_sc nt (f + 1) n s = sp_al s.1 (sp_sc nt f (nB nt n) s) := by rw [sp_sc_s, show nt 0 n.toNatClampNeg = 84 from e]; rfl
theorem oc85 {nt : sp_NT} {f : Nat} {n : Int32} (e : nK nt n = 85) (s : sp_SS) : sp_sc nt (f + 1) n s = sp_sc nt f (nB nt n) s := by rw [sp_sc_s, show nt 0 n.toNatClampNeg = 85 from e]; rfl
def oGr (T : List Nat) (s s' : sp_SS) : Prop := s.1 ≤ s'.1 ∧ (∀ j, j < s.1 → s'.2.2 j = s.2.2 j) ∧ (∀ v, s'.2.1 v = true → s.2.1 v = true ∨ (v ∈ T ∧ ∃ j, s.1 ≤ j ∧ j < s'.1 ∧ (s'.2.2 j).toNatClampNeg = v))
  ∧ (∀ j, s.1 ≤ j → j < s'.1 → (s'.2.2 j).toNatClampNeg ∈ T) ∧ ∀ v, ¬ v ∈ T → s.2.1 v = true → s'.2.1 v = true
theorem oGr.rf (T : List Nat) (s : sp_SS) : oGr T s s := ⟨Nat.le_refl _, fun _ _ => rfl, fun _ q => Or.inl q, fun j h1 h2 => by omega, fun _ _ q => q⟩
theorem oGr.tr {T T1 T2 : List Nat} {s s' s'' : sp_SS} (a : oGr T1 s s') (b : oGr T2 s' s'') (h1 : ∀ x, x ∈ T1 → x ∈ T) (h2 : ∀ x, x ∈ T2 → x ∈ T) : oGr T s s'' := by
  obtain ⟨a1, a2, a3, a4, a5⟩ := a
  obtain ⟨b1, b2, b3, b4, b5⟩ := b
  refine ⟨Nat.le_trans a1 b1, fun j hj => (b2 j (by omega)).trans (a2 j hj), fun v q => ?_, fun j q1 q2 => ?_, fun v q w => b5 v (fun x => q (h2 v x)) (a5 v (fun x => q (h1 v x)) w)⟩
  · rcases b3 v q with q | ⟨q1, j, q2, q3, q4⟩
    · rcases a3 v q with q | ⟨q1, j, q2, q3, q4⟩
      · exact Or.inl q
      · exact Or.inr ⟨h1 v q1, j, q2, by omega, by rw [b2 j q3]; exact q4⟩
    · exact Or.inr ⟨h2 v q1, j, by omega, q3, q4⟩
  · by_cases z : j < s'.1
    · rw [b2 j z]; exact h1 _ (a4 j q1 z)
    · exact h2 _ (b4 j (by omega) q2)
theorem oGr.mono {T T1 : List Nat} {s s' : sp_SS} (a : oGr T1 s s') (h1 : ∀ x, x ∈ T1 → x ∈ T) : oGr T s s' := a.tr (oGr.rf [] s') h1 (fun x q => by cases q)
theorem oGr.th {T T1 T2 : List Nat} {s : sp_SS} {r : Bool × sp_SS} {g : sp_SS → Bool × sp_SS} (a : oGr T1 s r.2) (b : oGr T2 r.2 (g r.2).2) (h1 : ∀ x, x ∈ T1 → x ∈ T) (h2 : ∀ x, x ∈ T2 → x ∈ T) : oGr T s (sp_th r g).2 := by
  unfold sp_th
  cases r.1
  · exact a.mono h1
  · exact a.tr b h1 h2
theorem oPop : ∀ (k : Nat) (s : sp_SS) (v : Nat), k ≤ s.1 → ((sp_pop k s).2.1 v = true ↔ s.2.1 v = true ∧ ∀ j, s.1 - k ≤ j → j < s.1 → (s.2.2 j).toNatClampNeg ≠ v) := by
  intro k
  induction k with
  | zero => intro s v _; exact ⟨fun h => ⟨h, fun j h1 h2 => by omega⟩, fun h => h.1⟩
  | succ k ih =>
    intro s v hk
    have c : (sp_pop1 s).1 = s.1 - 1 := rfl
    have ih := ih (sp_pop1 s) v (by rw [c]; omega)
    rw [c] at ih
    show (sp_pop k (sp_pop1 s)).2.1 v = true ↔ _
    rw [ih]
    have e : (sp_pop1 s).2.1 v = (if v = (s.2.2 (s.1 - 1)).toNatClampNeg then false else s.2.1 v) := rfl
    have e2 : (sp_pop1 s).2.2 = s.2.2 := rfl
    rw [e, e2]
    by_cases q : v = (s.2.2 (s.1 - 1)).toNatClampNeg
    · rw [if_pos q]
      exact ⟨fun h => absurd h.1 (by decide), fun h => absurd q.symm (h.2 (s.1 - 1) (by omega) (by omega))⟩
    · rw [if_neg q]
      refine ⟨fun h => ⟨h.1, fun j q1 q2 => ?_⟩, fun h => ⟨h.1, fun j q1 q2 => h.2 j (by omega) (by omega)⟩⟩
      by_cases z : j = s.1 - 1
      · rw [z]; exact fun w => q w.symm
      · exact h.2 j (by omega) (by omega)
theorem oGr.al {T1 : List Nat} {s : sp_SS} {r : Bool × sp_SS} (a : oGr T1 s r.2) : oGr T1 s (sp_al s.1 r).2 ∧ ∀ v, (sp_al s.1 r).2.2.1 v = true → s.2.1 v = true := by
  obtain ⟨a1, a2, a3, a4, a5⟩ := a
  obtain ⟨p1, p2⟩ := sp_pop_1 (r.2.1 - s.1) r.2
  have key : ∀ v, (sp_al s.1 r).2.2.1 v = true → s.2.1 v = true := fun v q => by
    obtain ⟨q1, q2⟩ := (oPop _ _ v (by omega)).mp q
    rcases a3 v q1 with z | ⟨-, j, z1, z2, z3⟩
    · exact z
    · exact absurd z3 (q2 j (by omega) z2)
  refine ⟨⟨?_, fun j hj => ?_, fun v q => Or.inl (key v q), fun j q1 q2 => ?_, fun v q w => ?_⟩, key⟩
  · show s.1 ≤ (sp_pop (r.2.1 - s.1) r.2).1; rw [p1]; omega
  · show (sp_pop (r.2.1 - s.1) r.2).2.2 j = _; rw [p2]; exact a2 j hj
  · have : j < (sp_pop (r.2.1 - s.1) r.2).1 := q2
    rw [p1] at this; omega
  · exact (oPop _ _ v (by omega)).mpr ⟨a5 v q w, fun j q1 q2 z => q (by rw [← z]; exact a4 j (by omega) q2)⟩
theorem oGr.fo (s : sp_SS) (v : Int32) : oGr [v.toNatClampNeg] s (sp_fo s v) := by
  have at_ : (sp_fo s v).2.2 s.1 = v := if_pos rfl
  refine ⟨Nat.le_succ _, fun j hj => if_neg (by omega), fun j q => ?_, fun j h1 h2 => ?_, fun j q w => ?_⟩
  · have q : (if j = v.toNatClampNeg then true else s.2.1 j) = true := q
    by_cases z : j = v.toNatClampNeg
    · exact Or.inr ⟨by rw [z]; exact List.mem_singleton.mpr rfl, s.1, Nat.le_refl _, Nat.lt_succ_self _, by rw [z, at_]⟩
    · rw [if_neg z] at q; exact Or.inl q
  · have : j < s.1 + 1 := h2
    have z : j = s.1 := by omega
    rw [z, at_]; exact List.mem_singleton.mpr rfl
  · show (if j = v.toNatClampNeg then true else s.2.1 j) = true
    by_cases z : j = v.toNatClampNeg
    · rw [if_pos z]
    · rw [if_neg z]; exact w
/-! trees -/
def oTr (nt : sp_NT) (N : Nat) (T : Nat → List Nat) : Prop := ∀ n, n < N → T n = n :: ((bif sp_pa (nt 0 n) (nt 1 n) then T (nt 1 n).toNatClampNeg else []) ++ (bif sp_pb (nt 0 n) (nt 2 n) then T (nt 2 n).toNatClampNeg else [])) ∧ (T n).Nodup ∧ ∀ x, x ∈ T n → x < N
abbrev oT (T : Nat → List Nat) (n : Int32) : List Nat := T n.toNatClampNeg
section
variable {nt : sp_NT} {N M : Nat} {res par : Nat → Int32} {T : Nat → List Nat}
theorem oTr.eq (t : oTr nt N T) (hN : N ≤ 4000) {n : Int32} (hn : sp_nd N n = true) : oT T n = n.toNatClampNeg :: ((bif sp_pa (nK nt n) (nA nt n) then oT T (nA nt n) else []) ++ (bif sp_pb (nK nt n) (nB nt n) then oT T (nB nt n) else [])) := (t _ (sp_nd_lt hN hn)).1
theorem oTr.a (t : oTr nt N T) (hN : N ≤ 4000) {n : Int32} (hn : sp_nd N n = true) (h : sp_pa (nK nt n) (nA nt n) = true) : ∀ x, x ∈ oT T (nA nt n) → x ∈ oT T n := by
  intro x hx
  rw [t.eq hN hn, h]
  exact List.mem_cons_of_mem _ (List.mem_append_left _ hx)
theorem oTr.b (t : oTr nt N T) (hN : N ≤ 4000) {n : Int32} (hn : sp_nd N n = true) (h : sp_pb (nK nt n) (nB nt n) = true) : ∀ x, x ∈ oT T (nB nt n) → x ∈ oT T n := by
  intro x hx
  rw [t.eq hN hn, h]
  exact List.mem_cons_of_mem _ (List.mem_append_right _ hx)
theorem oTr.self (t : oTr nt N T) (hN : N ≤ 4000) {n : Int32} (hn : sp_nd N n = true) : n.toNatClampNeg ∈ oT T n := by
  rw [t.eq hN hn]; exact List.mem_cons_self ..
theorem oTr.nd (t : oTr nt N T) (hN : N ≤ 4000) {n : Int32} (hn : sp_nd N n = true) : (oT T n).Nodup := (t _ (sp_nd_lt hN hn)).2.1
theorem oTr.lt (t : oTr nt N T) (hN : N ≤ 4000) {n : Int32} (hn : sp_nd N n = true) : ∀ x, x ∈ oT T n → x < N := (t _ (sp_nd_lt hN hn)).2.2
theorem oTr.len (t : oTr nt N T) (hN : N ≤ 4000) {n : Int32} (hn : sp_nd N n = true) : (oT T n).length ≤ N := by
  have := nodup_len (oT T n) (List.range N) (t.nd hN hn) (fun x hx => List.mem_range.mpr (t.lt hN hn x hx))
  rwa [List.length_range] at this
theorem oTr.dj (t : oTr nt N T) (hN : N ≤ 4000) {n : Int32} (hn : sp_nd N n = true) (ha : sp_pa (nK nt n) (nA nt n) = true) (hb : sp_pb (nK nt n) (nB nt n) = true) : ∀ x, x ∈ oT T (nA nt n) → ¬ x ∈ oT T (nB nt n) := by
  intro x h1 h2
  have := t.nd hN hn
  rw [t.eq hN hn, ha, hb] at this
  have := (List.nodup_cons.mp this).2
  simp only [cond_true] at this
  exact (List.nodup_append.mp this).2.2 x h1 x h2 rfl
theorem oTr.la (t : oTr nt N T) (hN : N ≤ 4000) {n : Int32} (hn : sp_nd N n = true) (ha : sp_pa (nK nt n) (nA nt n) = true) : (oT T (nA nt n)).length + 1 ≤ (oT T n).length := by
  rw [t.eq hN hn, ha]; simp only [cond_true, List.length_cons, List.length_append]; omega
theorem oTr.lb (t : oTr nt N T) (hN : N ≤ 4000) {n : Int32} (hn : sp_nd N n = true) (hb : sp_pb (nK nt n) (nB nt n) = true) : (oT T (nB nt n)).length + 1 ≤ (oT T n).length := by
  rw [t.eq hN hn, hb]; simp only [cond_true, List.length_cons, List.length_append]; omega
theorem oTr.lab (t : oTr nt N T) (hN : N ≤ 4000) {n : Int32} (hn : sp_nd N n = true) (ha : sp_pa (nK nt n) (nA nt n) = true) (hb : sp_pb (nK nt n) (nB nt n) = true) : (oT T (nA nt n)).length + (oT T (nB nt n)).length + 1 ≤ (oT T n).length := by
  rw [t.eq hN hn, ha, hb]; simp only [cond_true, List.length_cons, List.length_append]; omega
/-- statements and what belongs to them -/
def oSK (k : Int32) : Prop := sp_Sk k = true ∨ k = 66 ∨ k = 70 ∨ k = 76 ∨ k = 77 ∨ k = 78 ∨ k = 82 ∨ k = 83 ∨ k = 84
theorem sp_Sk_iff {k : Int32} : sp_Sk k = true ↔ k = 60 ∨ k = 61 ∨ k = 62 ∨ k = 63 ∨ k = 64 ∨ k = 65 ∨ k = 67 ∨ k = 68 ∨ k = 69 ∨ k = 71 ∨ k = 72 ∨ k = 73 ∨ k = 74 ∨ k = 75 ∨ k = 79 ∨ k = 80 ∨ k = 81 ∨ k = 85 := by
  have e : ∀ c : Int32, k = c ↔ k.toInt = c.toInt := fun c => ⟨fun q => by rw [q], fun q => Int32.toInt_inj.mp q⟩
  unfold sp_Sk sp_i
  simp only [Bool.or_eq_true, Bool.and_eq_true, decide_eq_true_eq, Int32.le_iff_toInt_le, e, show (60 : Int32).toInt = 60 from rfl, show (61 : Int32).toInt = 61 from rfl, show (62 : Int32).toInt = 62 from rfl, show (63 : Int32).toInt = 63 from rfl, show (64 : Int32).toInt = 64 from rfl, show (65 : Int32).toInt = 65 from rfl, show (67 : Int32).toInt = 67 from rfl, show (68 : Int32).toInt = 68 from rfl, show (69 : Int32).toInt = 69 from rfl, show (71 : Int32).toInt = 71 from rfl, show (72 : Int32).toInt = 72 from rfl, show (73 : Int32).toInt = 73 from rfl, show (74 : Int32).toInt = 74 from rfl, show (75 : Int32).toInt = 75 from rfl, show (79 : Int32).toInt = 79 from rfl, show (80 : Int32).toInt = 80 from rfl, show (81 : Int32).toInt = 81 from rfl, show (85 : Int32).toInt = 85 from rfl]
  omega
theorem oS_gr (hT : wTb nt N M res par) (t : oTr nt N T) : ∀ (f : Nat) (n : Int32), sp_nd N n = true → nD nt n ≤ f → oSK (nK nt n) → ∀ s, oGr (oT T n) s (sp_sc nt f n s).2 := by
  intro f
  induction f with
  | zero => intro n hn hd; have := (hT.d hn).1; omega
  | succ f ih =>
    intro n hn hd hk s
    have hN := hT.2.2
    have E : ∀ {c : Int32} (s : sp_SS) (T' : List Nat), wE nt N f c → oGr T' s (sp_sc nt f c s).2 := fun s T' h => by rw [(oE_all hT f _ h.l s).1]; exact oGr.rf _ _
    have S : ∀ {c : Int32} (s : sp_SS), wA nt N f c → oGr (oT T c) s (sp_sc nt f c s).2 := fun s h => ih _ h.1 h.2.2 (Or.inl h.2.1) s
    have A := fun (h : sp_hA (nK nt n) = true ∧ ¬ nA nt n = -1) => t.a hN hn (sp_pa_of h.1 h.2)
    have B := fun (h : sp_hB (nK nt n) = true ∧ ¬ nB nt n = -1) => t.b hN hn (sp_pb_of h.1 h.2)
    have no : ∀ (x : Nat), x ∈ ([] : List Nat) → x ∈ oT T n := fun x q => by cases q
    have bx : nB nt n = -1 → ∀ (s : sp_SS), oGr (oT T n) s (if nB nt n = -1 then (true, s) else sp_sc nt f (nB nt n) s).2 := fun e s => by rw [if_pos e]; exact oGr.rf _ _
    rcases hk with hk | e | e | e | e | e | e | e | e
    · rcases sp_Sk_iff.mp hk with e | e | e | e | e | e | e | e | e | e | e | e | e | e | e | e | e | e
      · have a := wE_expr hT hn hd e
        rw [oc60 e]
        refine oGr.th (T1 := []) (T2 := oT T n) (E s _ a) ?_ no (fun x q => q)
        obtain ⟨ho, hT'⟩ := hT.ok hn
        exact bx (sp_k60 ho hT' e).2 _
      · obtain ⟨a1, a2, b, -⟩ := wE_decl hT hn hd e
        rw [oc61 e]
        refine oGr.th (T1 := []) (T2 := oT T n) (E s _ b) ?_ no (fun x q => q)
        refine (oGr.fo _ _).mono (fun x q => ?_)
        rw [List.mem_singleton.mp q]
        exact A ⟨by rw [e]; decide, nd_n1 a1⟩ _ (t.self hN a1)
      · obtain ⟨a, b⟩ := wE_seq hT hn hd e
        rw [oc62 e]
        exact oGr.th (S s a) (S _ b) (A ⟨by rw [e]; decide, nd_n1 a.1⟩) (B ⟨by rw [e]; decide, nd_n1 b.1⟩)
      · have a := wE_block hT hn hd e
        rw [oc63 e]
        exact (oGr.al (r := sp_sc nt f (nA nt n) s) (S s a)).1.mono (A ⟨by rw [e]; decide, nd_n1 a.1⟩)
      · obtain ⟨a, -, b⟩ := wE_if hT hn hd e
        rw [oc64 e]
        exact oGr.th (T1 := []) (T2 := oT T (nB nt n)) (E s _ a) (oGr.al (T1 := oT T (nB nt n)) (S _ b)).1 no (B ⟨by rw [e]; decide, nd_n1 b.1⟩)
      · obtain ⟨a, -, b1, b2, b3⟩ := wE_ifelse hT hn hd e
        rw [oc65 e]
        refine oGr.th (T1 := []) (T2 := oT T n) (E s _ a) ?_ no (fun x q => q)
        simp only [if_neg (nd_n1 b1)]
        exact (ih _ b1 b2 (Or.inr (Or.inl b3)) _).mono (B ⟨by rw [e]; decide, nd_n1 b1⟩)
      · obtain ⟨a, -, b⟩ := wE_while hT hn hd e
        rw [oc67 e]
        exact oGr.th (T1 := []) (T2 := oT T (nB nt n)) (E s _ a) (oGr.al (T1 := oT T (nB nt n)) (S _ b)).1 no (B ⟨by rw [e]; decide, nd_n1 b.1⟩)
      · obtain ⟨a, b, -⟩ := wE_until hT hn hd e
        rw [oc68 e]
        exact oGr.th (T2 := []) (oGr.al (r := sp_sc nt f (nA nt n) s) (S s a)).1 (E _ _ b) (A ⟨by rw [e]; decide, nd_n1 a.1⟩) no
      · obtain ⟨a1, a2, a3, b⟩ := wE_for hT hn hd e
        rw [oc69 e]
        exact oGr.th (T1 := oT T (nA nt n)) (T2 := oT T (nB nt n)) (ih _ a1 a2 (Or.inr (Or.inr (Or.inl a3))) s) (oGr.al (T1 := oT T (nB nt n)) (S _ b)).1 (A ⟨by rw [e]; decide, nd_n1 a1⟩) (B ⟨by rw [e]; decide, nd_n1 b.1⟩)
      · rw [oc71 e]; exact oGr.rf _ _
      · rw [oc72 e]; exact oGr.rf _ _
      · rw [oc73 e]
        show oGr (oT T n) s (if nA nt n = -1 then (true, s) else sp_sc nt f (nA nt n) s).2
        rcases wE_ret hT hn hd e with z | ⟨z, -⟩
        · rw [if_pos z]; exact oGr.rf _ _
        · rw [if_neg (nd_n1 z.1)]; exact E s _ z
      · obtain ⟨a, -⟩ := wE_throw hT hn hd e
        rw [oc74 e]
        refine oGr.th (T1 := []) (T2 := oT T n) (E s _ a) ?_ no (fun x q => q)
        obtain ⟨ho, hT'⟩ := hT.ok hn
        exact bx (sp_k74 ho hT' e).1 _
      · obtain ⟨a, b1, b2, b3⟩ := wE_try hT hn hd e
        rw [oc75 e]
        exact oGr.th (oGr.al (r := sp_sc nt f (nA nt n) s) (S s a)).1 (ih _ b1 b2 (Or.inr (Or.inr (Or.inr (Or.inl b3)))) _) (A ⟨by rw [e]; decide, nd_n1 a.1⟩) (B ⟨by rw [e]; decide, nd_n1 b1⟩)
      · obtain ⟨a, b⟩ := wE_fin hT hn hd e
        rw [oc79 e]
        exact oGr.th (T2 := oT T (nB nt n)) (oGr.al (r := sp_sc nt f (nA nt n) s) (S s a)).1 (oGr.al (T1 := oT T (nB nt n)) (S _ b)).1 (A ⟨by rw [e]; decide, nd_n1 a.1⟩) (B ⟨by rw [e]; decide, nd_n1 b.1⟩)
      · obtain ⟨a, -, -, b⟩ := wE_lock hT hn hd e
        rw [oc80 e]
        exact oGr.th (T1 := []) (T2 := oT T (nB nt n)) (E s _ a) (oGr.al (T1 := oT T (nB nt n)) (S _ b)).1 no (B ⟨by rw [e]; decide, nd_n1 b.1⟩)
      · obtain ⟨a, -, b1, b2, b3⟩ := wE_switch hT hn hd e
        rw [oc81 e]
        refine oGr.th (T1 := []) (T2 := oT T n) (E s _ a) ?_ no (fun x q => q)
        simp only [if_neg (nd_n1 b1)]
        exact (ih _ b1 b2 (Or.inr (Or.inr (Or.inr (Or.inr (Or.inr (Or.inr (Or.inl b3))))))) _).mono (B ⟨by rw [e]; decide, nd_n1 b1⟩)
      · obtain ⟨-, -, b⟩ := wE_line hT hn hd e
        rw [oc85 e]
        exact (S s b).mono (B ⟨by rw [e]; decide, nd_n1 b.1⟩)
    · obtain ⟨a, b⟩ := wE_branch hT hn hd e
      rw [oc66 e]
      exact oGr.th (T2 := oT T (nB nt n)) (oGr.al (r := sp_sc nt f (nA nt n) s) (S s a)).1 (oGr.al (T1 := oT T (nB nt n)) (S _ b)).1 (A ⟨by rw [e]; decide, nd_n1 a.1⟩) (B ⟨by rw [e]; decide, nd_n1 b.1⟩)
    · obtain ⟨a, -, b⟩ := wE_head hT hn hd e
      rw [oc70 e]
      exact oGr.th (T1 := []) (T2 := oT T (nB nt n)) (E s _ a) (oGr.al (T1 := oT T (nB nt n)) (S _ b)).1 no (B ⟨by rw [e]; decide, nd_n1 b.1⟩)
    · obtain ⟨⟨a1, a2, a3⟩, b⟩ := wE_catches hT hn hd e
      rw [oc76 e]
      refine oGr.th (T1 := oT T (nA nt n)) (T2 := oT T n) (ih _ a1 a2 (by rcases a3 with z | z <;> rw [z] <;> unfold oSK <;> simp) s) ?_ (A ⟨by rw [e]; decide, nd_n1 a1⟩) (fun x q => q)
      rcases b with z | ⟨b1, b2, b3⟩
      · exact bx z _
      · simp only [if_neg (nd_n1 b1)]
        exact (ih _ b1 b2 (by rw [b3]; unfold oSK; simp) _).mono (B ⟨by rw [e]; decide, nd_n1 b1⟩)
    · obtain ⟨-, -, b⟩ := wE_catch hT hn hd e
      rw [oc77 e]
      exact (oGr.al (r := sp_sc nt f (nB nt n) _) (S _ b)).1.mono (B ⟨by rw [e]; decide, nd_n1 b.1⟩)
    · obtain ⟨a1, -, -, b1, b2, b3⟩ := wE_with hT hn hd e
      rw [oc78 e]
      refine (oGr.al (T1 := oT T n) (r := sp_sc nt f (nB nt n) (sp_fo s (nA nt n))) (((oGr.fo s (nA nt n)).tr (ih _ b1 b2 (by rw [b3]; unfold oSK; simp) _) (fun x q => ?_) (B ⟨by rw [e]; decide, nd_n1 b1⟩)))).1
      rw [List.mem_singleton.mp q]
      exact A ⟨by rw [e]; decide, nd_n1 a1⟩ _ (t.self hN a1)
    · obtain ⟨⟨a1, a2, a3⟩, b⟩ := wE_cases hT hn hd e
      rw [oc82 e]
      refine oGr.th (T1 := oT T (nA nt n)) (T2 := oT T n) (ih _ a1 a2 (by rcases a3 with z | z <;> rw [z] <;> unfold oSK <;> simp) s) ?_ (A ⟨by rw [e]; decide, nd_n1 a1⟩) (fun x q => q)
      rcases b with z | ⟨b1, b2, b3⟩
      · exact bx z _
      · simp only [if_neg (nd_n1 b1)]
        exact (ih _ b1 b2 (by rw [b3]; unfold oSK; simp) _).mono (B ⟨by rw [e]; decide, nd_n1 b1⟩)
    · have b := wE_case hT hn hd e
      rw [oc83 e]
      exact (oGr.al (r := sp_sc nt f (nB nt n) _) (S _ b)).1.mono (B ⟨by rw [e]; decide, nd_n1 b.1⟩)
    · have b := wE_dflt hT hn hd e
      rw [oc84 e]
      exact (oGr.al (r := sp_sc nt f (nB nt n) _) (S _ b)).1.mono (B ⟨by rw [e]; decide, nd_n1 b.1⟩)
end
