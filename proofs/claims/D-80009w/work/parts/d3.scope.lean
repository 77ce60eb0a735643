/-! scoping: one specification.  A state: how many are told, what is in force, who was told -/
abbrev sp_SS : Type := Nat × (Nat → Bool) × (Nat → Int32)
def sp_fo (s : sp_SS) (v : Int32) : sp_SS := (s.1 + 1, fun j => if j = v.toNatClampNeg then true else s.2.1 j, fun j => if j = s.1 then v else s.2.2 j)
def sp_pop1 (s : sp_SS) : sp_SS := (s.1 - 1, fun j => if j = (s.2.2 (s.1 - 1)).toNatClampNeg then false else s.2.1 j, s.2.2)
def sp_pop : Nat → sp_SS → sp_SS
  | 0, s => s
  | k + 1, s => sp_pop k (sp_pop1 s)
def sp_al (c : Nat) (r : Bool × sp_SS) : Bool × sp_SS := (r.1, sp_pop (r.2.1 - c) r.2)
def sp_th (r : Bool × sp_SS) (g : sp_SS → Bool × sp_SS) : Bool × sp_SS := bif r.1 then g r.2 else r
def sp_sb (rec : Int32 → sp_SS → Bool × sp_SS) (k a b : Int32) (s : sp_SS) : Bool × sp_SS :=
  if k = 1 ∨ k = 2 ∨ k = 3 ∨ k = 4 ∨ k = 51 ∨ k = 71 ∨ k = 72 then (true, s)
  else if k = 6 then (s.2.1 a.toNatClampNeg, s)
  else if k = 7 then sp_th (s.2.1 a.toNatClampNeg, s) (rec b)
  else if k = 22 ∨ k = 46 ∨ k = 85 then rec b s
  else if k = 48 then (if b = -1 then (true, s) else rec b s)
  else if k = 34 then rec a s
  else if k = 61 then sp_th (rec b s) fun s => (true, sp_fo s a)
  else if k = 62 then sp_th (rec a s) (rec b)
  else if k = 63 then sp_al s.1 (rec a s)
  else if k = 64 ∨ k = 67 ∨ k = 69 ∨ k = 70 ∨ k = 80 then sp_th (rec a s) fun s => sp_al s.1 (rec b s)
  else if k = 66 ∨ k = 79 then sp_th (sp_al s.1 (rec a s)) fun s => sp_al s.1 (rec b s)
  else if k = 68 ∨ k = 75 then sp_th (sp_al s.1 (rec a s)) (rec b)
  else if k = 73 then (if a = -1 then (true, s) else rec a s)
  else if k = 76 ∨ k = 82 then sp_th (rec a s) fun s => if b = -1 then (true, s) else rec b s
  else if k = 77 ∨ k = 83 ∨ k = 84 then sp_al s.1 (rec b s)
  else if k = 78 then sp_al s.1 (rec b (sp_fo s a))
  else sp_th (rec a s) fun s => if b = -1 then (true, s) else rec b s
def sp_sc (nt : sp_NT) : Nat → Int32 → sp_SS → Bool × sp_SS
  | 0, _, s => (false, s)
  | f + 1, n, s => sp_sb (sp_sc nt f) (nt 0 n.toNatClampNeg) (nt 1 n.toNatClampNeg) (nt 2 n.toNatClampNeg) s
theorem sp_sc_s (nt : sp_NT) (f : Nat) (n : Int32) (s : sp_SS) : sp_sc nt (f + 1) n s = sp_sb (sp_sc nt f) (nt 0 n.toNatClampNeg) (nt 1 n.toNatClampNeg) (nt 2 n.toNatClampNeg) s := rfl
def sp_SI (N : Nat) (s : sp_SS) : Prop := s.1 ≤ 4000 ∧ ∀ j, j < s.1 → sp_nd N (s.2.2 j) = true
theorem sp_pop_1 : ∀ (k : Nat) (s : sp_SS), (sp_pop k s).1 = s.1 - k ∧ (sp_pop k s).2.2 = s.2.2 := by
  intro k
  induction k with
  | zero => intro s; exact ⟨rfl, rfl⟩
  | succ k ih =>
    intro s
    obtain ⟨h1, h2⟩ := ih (sp_pop1 s)
    unfold sp_pop
    rw [h1, h2]
    unfold sp_pop1
    exact ⟨by simp only; omega, rfl⟩
theorem sp_SI.pop {N : Nat} {s : sp_SS} (h : sp_SI N s) (k : Nat) : sp_SI N (sp_pop k s) := by
  obtain ⟨h1, h2⟩ := sp_pop_1 k s
  refine ⟨by rw [h1]; have := h.1; omega, fun j hj => ?_⟩
  rw [h2]; rw [h1] at hj
  exact h.2 j (by omega)
theorem sp_SI.fo {N : Nat} {s : sp_SS} (h : sp_SI N s) (hc : s.1 < 4000) {v : Int32} (hv : sp_nd N v = true) : sp_SI N (sp_fo s v) := by
  refine ⟨by show s.1 + 1 ≤ 4000; omega, fun j hj => ?_⟩
  have hj : j < s.1 + 1 := hj
  show sp_nd N (if j = s.1 then v else s.2.2 j) = true
  by_cases q : j = s.1
  · rw [if_pos q]; exact hv
  · rw [if_neg q]; exact h.2 j (by omega)
/-- a well-behaved part: the count grows by at most w -/
def sp_SG (N w : Nat) (s : sp_SS) (r : Bool × sp_SS) : Prop := s.1 ≤ r.2.1 ∧ r.2.1 ≤ s.1 + w ∧ sp_SI N r.2
theorem sp_SG.al {N w : Nat} {s : sp_SS} {r : Bool × sp_SS} (h : sp_SG N w s r) (w' : Nat) : sp_SG N w' s (sp_al s.1 r) := by
  obtain ⟨h1, h2, h3⟩ := h
  have e := (sp_pop_1 (r.2.1 - s.1) r.2).1
  refine ⟨?_, ?_, h3.pop _⟩ <;> show _ ≤ _ <;> simp only [sp_al] <;> omega
theorem sp_SG.th {N w1 w2 w : Nat} {s : sp_SS} {r : Bool × sp_SS} {g : sp_SS → Bool × sp_SS} (h : sp_SG N w1 s r) (hg : r.1 = true → sp_SG N w2 r.2 (g r.2)) (hw : w1 + w2 ≤ w) : sp_SG N w s (sp_th r g) := by
  obtain ⟨h1, h2, h3⟩ := h
  unfold sp_th
  cases q : r.1
  · exact ⟨h1, by simp only [cond_false]; omega, h3⟩
  · obtain ⟨g1, g2, g3⟩ := hg q
    exact ⟨by simp only [cond_true]; omega, by simp only [cond_true]; omega, g3⟩
theorem sp_SG.mono {N w w' : Nat} {s : sp_SS} {r : Bool × sp_SS} (h : sp_SG N w s r) (hw : w ≤ w') : sp_SG N w' s r := ⟨h.1, by have := h.2.1; omega, h.2.2⟩
theorem sp_SG.rf {N : Nat} {s : sp_SS} (h : sp_SI N s) (b : Bool) (w : Nat) : sp_SG N w s (b, s) := ⟨Nat.le_refl _, Nat.le_add_right _ _, h⟩
theorem sp_ib {α : Type} (b : Bool) (p q : α) : (if sp_b b = 0 then p else q) = if b = false then p else q := by cases b <;> rfl
def sp_o (σ : sp_SS → mj_X) (r : Bool × sp_SS) : mj_R := some (some (.int (sp_b r.1)), σ r.2)
def sp_SC (K : Nat → Nat → List Value → mj_X → mj_R) (σ : sp_SS → mj_X) (N D m : Nat) (n : Int32) (w : Nat) (g : sp_SS → Bool × sp_SS) : Prop :=
  ∀ d, D ≤ d → ∀ s, sp_SI N s → s.1 + w ≤ 4000 → K d m [.ref 0, .int n] (σ s) = sp_o σ (g s) ∧ sp_SG N w s (g s)
theorem sp_and (σ : sp_SS → mj_X) (r : Bool × sp_SS) (g : sp_SS → Bool × sp_SS) (k : mj_X → mj_R) (hk : r.1 = true → k (σ r.2) = sp_o σ (g r.2)) : mj_rI (sp_o σ r) (fun v x1 => if v = 0 then some (some (.int (0 : Int32)), x1) else k x1) = sp_o σ (sp_th r g) := by
  unfold sp_o
  rw [mj_rI_k, sp_ib]
  unfold sp_th
  cases q : r.1
  · rw [if_pos rfl]; simp only [cond_false, q]; rfl
  · rw [if_neg (by decide), hk q]; rfl
theorem sp_ret (σ : sp_SS → mj_X) (r : Bool × sp_SS) : mj_rI (sp_o σ r) (fun v x1 => if v = 0 then some (some (.int (0 : Int32)), x1) else some (some (.int (1 : Int32)), x1)) = sp_o σ r := by
  unfold sp_o
  rw [mj_rI_k, sp_ib]
  cases q : r.1
  · rw [if_pos rfl]; rfl
  · rw [if_neg (by decide)]; rfl
theorem sp_retb (σ : sp_SS → mj_X) (r : Bool × sp_SS) : mj_rI (sp_o σ r) (fun v x1 => mj_gb v (some (some (.int v), x1))) = sp_o σ r := by
  unfold sp_o
  rw [mj_rI_k, mj_gb_b]
theorem sp_two {K : Nat → Nat → List Value → mj_X → mj_R} {σ : sp_SS → mj_X} {N D1 D2 d m1 m2 : Nat} {a b : Int32} {wa wb W : Nat} {ga gb : sp_SS → Bool × sp_SS} {s : sp_SS} (hA : sp_SC K σ N D1 m1 a wa ga) (hB : sp_SC K σ N D2 m2 b wb gb) (h1 : D1 ≤ d) (h2 : D2 ≤ d) (hs : sp_SI N s) (hW : s.1 + W ≤ 4000) (hw : wa + wb ≤ W) :
    (mj_rI (K d m1 [.ref 0, .int a] (σ s)) fun v2 x1 => if v2 = 0 then some (some (.int (0 : Int32)), x1) else mj_rI (K d m2 [.ref 0, .int b] x1) fun v4 x3 => if v4 = 0 then some (some (.int (0 : Int32)), x3) else some (some (.int (1 : Int32)), x3)) = sp_o σ (sp_th (ga s) gb) ∧ sp_SG N W s (sp_th (ga s) gb) := by
  obtain ⟨a1, a2⟩ := hA d h1 s hs (by omega)
  have hb := hB d h2 (ga s).2 a2.2.2 (by have := a2.2.1; omega)
  rw [a1]
  refine ⟨sp_and σ _ _ _ fun q => ?_, a2.th (fun q => hb.2) hw⟩
  rw [hb.1]; exact sp_ret σ _
theorem sp_twoq {K : Nat → Nat → List Value → mj_X → mj_R} {σ : sp_SS → mj_X} {N D1 D2 d m1 m2 : Nat} {a b : Int32} {wa wb W : Nat} {ga gb : sp_SS → Bool × sp_SS} {s : sp_SS} (hA : sp_SC K σ N D1 m1 a wa ga) (hB : ¬ b = -1 → sp_SC K σ N D2 m2 b wb gb) (h1 : D1 ≤ d) (h2 : D2 ≤ d) (hs : sp_SI N s) (hW : s.1 + W ≤ 4000) (hw : wa + wb ≤ W) :
    (mj_rI (K d m1 [.ref 0, .int a] (σ s)) fun v2 x1 => if v2 = 0 then some (some (.int (0 : Int32)), x1) else if b = (-1 : Int32) then some (some (.int (1 : Int32)), x1) else mj_rI (K d m2 [.ref 0, .int b] x1) fun v4 x3 => if v4 = 0 then some (some (.int (0 : Int32)), x3) else some (some (.int (1 : Int32)), x3)) = sp_o σ (sp_th (ga s) fun s => if b = -1 then (true, s) else gb s) ∧ sp_SG N W s (sp_th (ga s) fun s => if b = -1 then (true, s) else gb s) := by
  obtain ⟨a1, a2⟩ := hA d h1 s hs (by omega)
  rw [a1]
  by_cases e : b = -1
  · simp only [if_pos e]
    exact ⟨sp_and σ _ _ _ fun q => rfl, a2.th (fun q => .rf a2.2.2 true 0) (by omega)⟩
  · simp only [if_neg e]
    have hb := hB e d h2 (ga s).2 a2.2.2 (by have := a2.2.1; omega)
    refine ⟨sp_and σ _ _ _ fun q => ?_, a2.th (fun q => hb.2) hw⟩
    rw [hb.1]; exact sp_ret σ _
