/-! CodeWriter: following the code of a member -/
theorem w_tab_key (o : Nat) : ∀ (n : Nat) (v : Int) (ks : List (Int32 × Nat)) (j : Nat) (q : Int32 × Nat), (w_tab o n v ks)[j]? = some q → q.1 = Int32.ofInt (v + j) := by
  intro n
  induction n with
  | zero => intro v ks j q h; simp [w_tab] at h
  | succ n ih =>
    intro v ks j q h
    have fin : ∀ (e : Int32 × Nat) (ks' : List (Int32 × Nat)), e.1 = Int32.ofInt v → (e :: w_tab o n (v + 1) ks')[j]? = some q → q.1 = Int32.ofInt (v + j) := fun e ks' he hq => by
      cases j with
      | zero =>
        have : e = q := by simpa using hq
        rw [← this, he]; congr 1; omega
      | succ j =>
        rw [ih (v + 1) ks' j q (by simpa using hq)]; congr 1; omega
    cases ks with
    | nil => rw [w_tab_n] at h; exact fin _ _ rfl h
    | cons e r =>
      rw [w_tab_c] at h
      by_cases c : e.1.toInt = v
      · rw [if_pos c] at h; exact fin _ _ (by rw [← c, Int32.ofInt_toInt]) h
      · rw [if_neg c] at h; exact fin _ _ rfl h
theorem w_span_pos {ks : List (Int32 × Nat)} (hp : ks.Pairwise (fun a b => a.1.toInt < b.1.toInt)) (h : w_dense ks = true) : 1 ≤ w_span ks := by
  cases ks with
  | nil => cases h
  | cons a t =>
    unfold w_span
    rw [List.getLast?_cons]
    show 1 ≤ ((t.getLast?.getD a).1.toInt - a.1.toInt + 1).toNat
    cases q : t.getLast? with
    | none => show 1 ≤ (a.1.toInt - a.1.toInt + 1).toNat; omega
    | some b =>
      have := (List.pairwise_cons.mp hp).1 b (List.mem_of_getLast? q)
      show 1 ≤ (b.1.toInt - a.1.toInt + 1).toNat
      omega
theorem w_tab_hl {o n : Nat} {v : Int} {ks : List (Int32 × Nat)} (hn : 1 ≤ n) : (match (w_tab o n v ks).getLast? with | some q => q.1 | none => 0) - (match (w_tab o n v ks).head? with | some q => q.1 | none => 0) + 1 = nI (w_tab o n v ks).length := by
  have l := w_tab_len (o := o) n v ks
  have key := w_tab_key o n v ks
  rw [List.getLast?_eq_getElem?, List.head?_eq_getElem?]
  generalize w_tab o n v ks = r at *
  rw [l, List.getElem?_eq_getElem (show n - 1 < r.length by omega), List.getElem?_eq_getElem (show 0 < r.length by omega)]
  show r[n - 1].1 - r[0].1 + 1 = nI n
  rw [key (n - 1) _ (List.getElem?_eq_getElem (show n - 1 < r.length by omega)), key 0 _ (List.getElem?_eq_getElem (show 0 < r.length by omega)), ← Int32.ofInt_sub, show (1 : Int32) = Int32.ofInt 1 from rfl, ← Int32.ofInt_add]
  rw [show v + ((n - 1 : Nat) : Int) - (v + ((0 : Nat) : Int)) + 1 = (n : Int) by omega]
  exact Int32.ofInt_eq_ofNat
theorem nI_dl (a b r : Nat) : nI (b + r) + (nI a - nI b) = nI (a + r) := by
  rw [← nI_add, ← nI_add, Int32.add_comm (nI b), Int32.add_assoc, Int32.add_comm (nI b), Int32.sub_add_cancel, Int32.add_comm]
theorem y_po.bx {pf : Nat} {x : mj_X} (s : bS) : ∀ {po : List (Nat × Int64)}, y_po pf x po → y_po pf (b_x x s) po := by
  intro po
  induction po with
  | nil => intro _; trivial
  | cons e r ih =>
    intro h
    obtain ⟨⟨h1, h2, h3, h4⟩, h5⟩ := h
    exact ⟨⟨by rw [b_xk x s (by decide) (by decide) (by decide)]; exact h1, by rw [b_xk x s (by decide) (by decide) (by decide)]; exact h2, h3, h4⟩, ih h5⟩
section
variable {nt : sp_NT} {N M ret m cf pf : Nat} {res par : Nat → Int32} {G : wG} {w : Bool} {k : Nat} {i : wI} {F : wF} {x : mj_X} {s : bS}
theorem cw_T.bx (h : cw_T x nt N) (s : bS) : cw_T (b_x x s) nt N := by
  obtain ⟨h1, h2, h3⟩ := h
  refine ⟨by simpa [b_x] using h1, h2, ?_⟩
  simpa [b_xk] using h3
theorem cw_M.bx (h : cw_M x M res par) (s : bS) : cw_M (b_x x s) M res par := by
  obtain ⟨h1, h2, h3⟩ := h
  refine ⟨by simpa [b_x] using h1, h2, ?_⟩
  simpa [b_xk] using h3
theorem c_suA (hk : (g_it G).reverse[k]? = some (i, F)) (hw : ¬ cWb w i) {t : Nat} (h : cSU w G (cA w G k) t) : (oTerm i = false ∧ t = cA w G (k + 1)) ∨ ∃ q j, q ∈ i.2.2.2.2 ∧ g_lat G q.2 = some j ∧ t = cA w G j := by
  obtain ⟨k', i', F', hk', h⟩ := h
  rcases h with ⟨h1, h2, h3⟩ | ⟨h1, h2, h3⟩ | ⟨h1, h2, h3⟩
  · have := c_inj hk hk' h1
    subst this; rw [hk] at hk'; cases hk'; exact h3
  · have := c_inj hk hk' h2
    subst this; rw [hk] at hk'; cases hk'; exact absurd h1 hw
  · exact (c_mid hk hk' h1 h2).elim
theorem c_suB (hk : (g_it G).reverse[k]? = some (i, F)) (hw : cWb w i) {t : Nat} (h : cSU w G (cA w G k) t) : t = cA w G (k + 1) ∨ t = cA w G k + 3 := by
  obtain ⟨k', i', F', hk', h⟩ := h
  rcases h with ⟨h1, h2, h3⟩ | ⟨h1, h2, h3⟩ | ⟨h1, h2, h3⟩
  · have := c_inj hk hk' h1
    subst this; rw [hk] at hk'; cases hk'; exact absurd hw h2
  · have := c_inj hk hk' h2
    subst this; exact h3
  · exact (c_mid hk hk' h1 h2).elim
theorem c_suC (hk : (g_it G).reverse[k]? = some (i, F)) (hw : cWb w i) {t : Nat} (h : cSU w G (cA w G k + 3) t) : ∃ q j, q ∈ i.2.2.2.2 ∧ g_lat G q.2 = some j ∧ t = cA w G j := by
  obtain ⟨k', i', F', hk', h⟩ := h
  rcases h with ⟨h1, h2, h3⟩ | ⟨h1, h2, h3⟩ | ⟨h1, h2, h3⟩
  · exact (c_mid hk' hk hw h1.symm).elim
  · exact (c_mid hk' hk hw h2.symm).elim
  · have := c_mid2 (w := w) hk hk' h2
    subst this; rw [hk] at hk'; cases hk'; exact h3
/-- what lies in CodeWriter of a member's code -/
def cwK (nt : sp_NT) (N M : Nat) (res par : Nat → Int32) (G : wG) (w : Bool) (m cf pf : Nat) (x : mj_X) : Prop := cB cf (uBy (G, w)) x ∧ cw_T x nt N ∧ cw_M x M res par ∧ x.1 17 m = nI pf ∧ y_po pf x (g_po G) ∧ pf ≤ 7000 ∧ (g_po G).length ≤ 100 ∧ m ≤ 39
theorem cwK.bx (h : cwK nt N M res par G w m cf pf x) (s : bS) : cwK nt N M res par G w m cf pf (b_x x s) := by
  obtain ⟨h1, h2, h3, h4, h5, h6, h7, h8⟩ := h
  exact ⟨h1.bx s, h2.bx s, h3.bx s, by rw [b_xk x s (by decide) (by decide) (by decide)]; exact h4, h5.bx s, h6, h7, h8⟩
theorem w_pf_bd {t : Nat} {v : Int64} {po : List (Nat × Int64)} {i : Nat} (h : w_pf t v po = some i) (hpo : po.length ≤ 100) : i < 65536 := by
  obtain ⟨e, r, h1, h2⟩ := w_pf_at h
  have := w_pi_le r
  rw [h1, List.length_append, List.length_cons] at hpo
  omega
theorem oShp.lb (h : oShp i) (h16 : i.1 ≤ 16) : i.2.2.2.2 = [] := (h.1 (by omega)).1
theorem c_call {d : Nat} (hd : 2 ≤ d) (hT : wTb nt N M res par) (hx : cwK nt N M res par G w m cf pf x) {K : wF} (ht : oTy nt M res par ret (g_po G) i F K) (h15 : i.1 = 15) : ∃ c, kX0 (d + 2) 107 [.ref 0, .int (nI m), .int (nI i.2.2.1)] x = some (some (.int c), x) ∧ nI F.2.length + c = nI K.2.length := by
  obtain ⟨h1, h2, h3, h4, h5, h6, h7, h8⟩ := hx
  obtain ⟨t1, t2, t3, t4, t5, t6⟩ := ht
  have hpf := t2 (Or.inr h15)
  unfold w_ty at t1
  rw [h15] at t1
  obtain ⟨-, t1⟩ := t1
  rcases t1 with e | ⟨e, r, e1, e2⟩ | ⟨e, r, e1, e2⟩
  · obtain ⟨c, r, c1, c2, c3, c4⟩ := t4 h15 e
    obtain ⟨l, l1, l2⟩ := hT.chain (K := 86) (p := par c) (by simp) (hT.1.2 c c1).1
    rw [e, c2] at hpf
    have sm : ∀ l : List Int32, w_sum nt l = uPls nt l := fun l => by
      induction l with
      | nil => rfl
      | cons q r ih => show _ + w_sum nt r = _ + uPls nt r; rw [ih]
    refine ⟨_, k_call (d := d + 1) (by omega) hT h2 h3 (by omega) h4 h6 h7 h5 c1 hpf l1, ?_⟩
    rw [c3, c4, List.length_append, List.length_append, oAr_len, l2, sm]
    exact nI_dl _ _ _
  · refine ⟨_, k_call0 (d := d) (s := 71) (by decide) (by decide) (by omega) h4 h6 h7 h5 (by rw [← e]; exact hpf), ?_⟩
    rw [e1, e2, Int32.add_zero]; rfl
  · refine ⟨_, k_call0 (d := d) (s := 72) (by decide) (by decide) (by omega) h4 h6 h7 h5 (by rw [← e]; exact hpf), ?_⟩
    rw [e1, e2, Int32.add_zero]; rfl
end
