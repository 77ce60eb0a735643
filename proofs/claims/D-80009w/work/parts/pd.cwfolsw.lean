/-! CodeWriter: following a switch -/
theorem o32_len (v : Int32) : (o32 v).length = 4 := rfl
theorem w_ent_at (o : Nat → Int32) : ∀ (l : List (Int32 × Nat)) (k : Nat) (q : Int32 × Nat), l[k]? = some q → ∃ A R, w_ent o l = A ++ (o32 (o q.2) ++ R) ∧ A.length = 4 * k := by
  intro l
  induction l with
  | nil => intro k q h; simp at h
  | cons e l ih =>
    intro k q h
    cases k with
    | zero =>
      have h : e = q := by simpa using h
      subst h; exact ⟨[], w_ent o l, rfl, rfl⟩
    | succ k =>
      obtain ⟨A, R, h1, h2⟩ := ih k q (by simpa using h)
      exact ⟨o32 (o e.2) ++ A, R, by unfold w_ent; rw [h1, List.append_assoc], by rw [List.length_append, h2, o32_len]; omega⟩
theorem w_lke_at (o : Nat → Int32) : ∀ (l : List (Int32 × Nat)) (k : Nat) (q : Int32 × Nat), l[k]? = some q → ∃ A R, w_lke o l = A ++ (o32 q.1 ++ (o32 (o q.2) ++ R)) ∧ A.length = 8 * k := by
  intro l
  induction l with
  | nil => intro k q h; simp at h
  | cons e l ih =>
    intro k q h
    cases k with
    | zero =>
      have h : e = q := by simpa using h
      subst h; exact ⟨[], w_lke o l, by rw [w_lke, List.nil_append], rfl⟩
    | succ k =>
      obtain ⟨A, R, h1, h2⟩ := ih k q (by simpa using h)
      exact ⟨o32 e.1 ++ (o32 (o e.2) ++ A), R, by unfold w_lke; rw [h1]; simp only [List.append_assoc], by rw [List.length_append, List.length_append, h2, o32_len, o32_len]; omega⟩
section
variable {cf p q : Nat} {B enc A R : List Int32} {x : mj_X} {v : Int32}
/-- four bytes of an item -/
theorem k_s4E {d : Nat} (h : cB cf B x) (hs : ∀ j v, enc[j]? = some v → B[p + j]? = some v) (he : enc = A ++ (o32 v ++ R)) (hq : q = p + A.length) : kX0 (d + 3) 109 [.ref 0, .int (nI (cf + q))] x = some (some (.int v), x) := by
  have g : ∀ j u, (o32 v)[j]? = some u → B[q + j]? = some u := fun j u hu => by
    have := hs (A.length + j) u (by rw [he, List.getElem?_append_right (by omega), Nat.add_sub_cancel_left, List.getElem?_append_left (List.getElem?_eq_some_iff.mp hu).1]; exact hu)
    rw [hq, Nat.add_assoc]; exact this
  exact k_s4 h (g 0 _ rfl) (g 1 _ rfl) (g 2 _ rfl) (g 3 _ rfl)
end
section
variable {PL : Nat → Nat → Prop} {len MS : Nat} {m cf p q e : Nat} {x : mj_X}
theorem k_fol104 {d : Nat} {a4 : Int32} (hP : ∀ p e, PL p e → p < len ∧ e ≤ MS) (hf : ∀ p e e', PL p e → PL p e' → e = e') (hl : len ≤ 65535) (hM : MS < 10000) {ts : List Nat} (hts : ∀ t, t ∈ ts → PL t e) (he : e ≤ MS) (hn : ts.length ≤ 65535)
    (rd : ∀ j t, ts[j]? = some t → ∃ v, nI p + v = nI t ∧ ∀ s, kX0 (d + 3) 109 [.ref 0, .int (nI (cf + (q + 12 + 4 * j)))] (b_x x s) = some (some (.int v), b_x x s)) : ∀ (f j : Nat) (s : bS), ts.length - j = f → j ≤ ts.length → b_I PL len MS s →
    rX0_follow (d + 3) (104, [some (.ref 0), some (.int (nI m)), some (.int (nI cf)), some (.int (nI p)), some (.int a4), some (.int (nI e)), some (.int (nI q)), some (.int (nI ts.length)), some (.int (nI j))], [], b_x x s) = some (none, b_x x (((ts.drop j).map (fun t => (t, e))).foldl b_rc s)) := by
  intro f
  induction f with
  | zero =>
    intro j s hj hn2 h
    rw [bX0_follow_104, if_pos (by rw [Int32.le_iff_toInt_le, nI_toInt (by omega), nI_toInt (by omega)]; omega), List.drop_eq_nil_of_le (by omega)]
    rfl
  | succ f ih =>
    intro j s hj hn2 h
    have hjl : j < ts.length := by omega
    obtain ⟨v, v1, v2⟩ := rd j ts[j] (List.getElem?_eq_getElem hjl)
    have e1 : ((nI cf + nI q) + (12 : Int32)) + ((4 : Int32) * nI j) = nI (cf + (q + 12 + 4 * j)) := by
      rw [show (12 : Int32) = nI 12 from rfl, show (4 : Int32) = nI 4 from rfl, nI_add, nI_add, nI_mul, nI_add]; congr 1; omega
    have pt := hts ts[j] (List.getElem_mem hjl)
    have nn := h.n hP
    have m4 := h.2.2.2
    rw [bX0_follow_104, if_neg (by rw [Int32.le_iff_toInt_le, nI_toInt (by omega), nI_toInt (by omega)]; omega), e1, v2 s, mj_rI_k, v1, k_reach (by have := (hP _ _ pt).1; omega) (by omega) (by omega) (by omega), mj_rV_k, show nI j + (1 : Int32) = nI (j + 1) from nI_add j 1]
    obtain ⟨r1, -⟩ := h.rc (q := (ts[j], e)) hP hf hl hM pt
    rw [ih (j + 1) _ (by omega) (by omega) r1, List.drop_eq_getElem_cons hjl]
    rfl
theorem k_fol159 {d : Nat} {a4 : Int32} (hP : ∀ p e, PL p e → p < len ∧ e ≤ MS) (hf : ∀ p e e', PL p e → PL p e' → e = e') (hl : len ≤ 65535) (hM : MS < 10000) {ts : List Nat} (hts : ∀ t, t ∈ ts → PL t e) (he : e ≤ MS) (hn : ts.length ≤ 65535)
    (rd : ∀ j t, ts[j]? = some t → ∃ v, nI p + v = nI t ∧ ∀ s, kX0 (d + 3) 109 [.ref 0, .int (nI (cf + (q + 12 + 8 * j)))] (b_x x s) = some (some (.int v), b_x x s)) : ∀ (f j : Nat) (s : bS), ts.length - j = f → j ≤ ts.length → b_I PL len MS s →
    rX0_follow (d + 3) (159, [some (.ref 0), some (.int (nI m)), some (.int (nI cf)), some (.int (nI p)), some (.int a4), some (.int (nI e)), some (.int (nI q)), some (.int (nI ts.length)), some (.int (nI j))], [], b_x x s) = some (none, b_x x (((ts.drop j).map (fun t => (t, e))).foldl b_rc s)) := by
  intro f
  induction f with
  | zero =>
    intro j s hj hn2 h
    rw [bX0_follow_159, if_pos (by rw [Int32.le_iff_toInt_le, nI_toInt (by omega), nI_toInt (by omega)]; omega), List.drop_eq_nil_of_le (by omega)]
    rfl
  | succ f ih =>
    intro j s hj hn2 h
    have hjl : j < ts.length := by omega
    obtain ⟨v, v1, v2⟩ := rd j ts[j] (List.getElem?_eq_getElem hjl)
    have e1 : ((nI cf + nI q) + (12 : Int32)) + ((8 : Int32) * nI j) = nI (cf + (q + 12 + 8 * j)) := by
      rw [show (12 : Int32) = nI 12 from rfl, show (8 : Int32) = nI 8 from rfl, nI_add, nI_add, nI_mul, nI_add]; congr 1; omega
    have pt := hts ts[j] (List.getElem_mem hjl)
    have nn := h.n hP
    have m4 := h.2.2.2
    rw [bX0_follow_159, if_neg (by rw [Int32.le_iff_toInt_le, nI_toInt (by omega), nI_toInt (by omega)]; omega), e1, v2 s, mj_rI_k, v1, k_reach (by have := (hP _ _ pt).1; omega) (by omega) (by omega) (by omega), mj_rV_k, show nI j + (1 : Int32) = nI (j + 1) from nI_add j 1]
    obtain ⟨r1, -⟩ := h.rc (q := (ts[j], e)) hP hf hl hM pt
    rw [ih (j + 1) _ (by omega) (by omega) r1, List.drop_eq_getElem_cons hjl]
    rfl
/-- a switch begins: its code, where its words lie -/
theorem k_folS {d c : Nat} {B : List Int32} {s : bS} (hc : c = 170 ∨ c = 171) (h : cB cf B x) (hv : B[p]? = some (o8 (nI c))) (hp : p < 65536) (he0 : s.1 p = nI (e + 1)) :
    kX0 (d + 4) 100 [.ref 0, .int (nI m), .int (nI cf), .int (nI p)] (b_x x s) = rX0_follow (d + 3) (42, [some (.ref 0), some (.int (nI m)), some (.int (nI cf)), some (.int (nI p)), some (.int (nI c)), some (.int (nI e)), none, none, none], [], b_x x s) := by
  have h := cB_x (s' := s) (s := s) (show cB cf B (b_x x s) by unfold cB at h ⊢; rw [b_xk x s (by decide) (by decide) (by decide)]; exact h)
  have w : o8 (nI c) &&& 255 = nI c := d_u1 (by omega)
  have c0 : nI (e + 1) + chF (nI c) = nI e := by
    have : chF (nI c) = -1 := by rcases hc with rfl | rfl <;> decide
    rw [this]; exact pk_m1 e
  rw [eX0_follow, nI_add, k_u1 h hv, mj_rI_k, w, mj_g_k (mj_in_nI (by omega) (by decide)), k_chg (nI m) h hv w (nI_nq (by omega) (by decide) (show c ≠ 196 by omega)) (nI_nq (by omega) (by decide) (show c ≠ 184 by omega)), mj_rI_k, nI_clamp (by omega), b_x68, he0, c0]
  rcases hc with rfl | rfl
  · rw [if_pos (by rfl)]
  · rw [if_neg (by decide), if_pos (by rfl)]
theorem nI_al4 (hp : p < 65536) : (nI p + (4 : Int32)) - (nI p - nI p / (4 : Int32) * (4 : Int32)) = nI (p + 4 - p % 4) := by
  rw [nI_mod4 (by omega), show nI p + (4 : Int32) = nI (p + 4) from nI_add p 4, pk_sub (by omega)]
theorem cB.bx {B : List Int32} (h : cB cf B x) (s : bS) : cB cf B (b_x x s) := by unfold cB at h ⊢; rw [b_xk x s (by decide) (by decide) (by decide)]; exact h
/-- a table -/
theorem k_fol22 {d t0 : Nat} {B enc : List Int32} {s : bS} {v0 lo hi : Int32} {o : Nat → Int32} {tt : Nat → Nat} {r : List (Int32 × Nat)} (hP : ∀ p e, PL p e → p < len ∧ e ≤ MS) (hf : ∀ p e e', PL p e → PL p e' → e = e') (hl : len ≤ 65535) (hM : MS < 10000) (h : cB cf B x) (hs : ∀ j v, enc[j]? = some v → B[p + j]? = some v)
    (henc : enc = [o8 170] ++ (w_pad p ++ (o32 v0 ++ (o32 lo ++ (o32 hi ++ w_ent o r))))) (hlen : hi - lo + 1 = nI r.length) (hrl : r.length ≤ 65535) (hp : p < 65536) (h0 : nI p + v0 = nI t0) (ht : ∀ q, q ∈ r → nI p + o q.2 = nI (tt q.2)) (p0 : PL t0 e) (pt : ∀ q, q ∈ r → PL (tt q.2) e) (hI : b_I PL len MS s) (he0 : s.1 p = nI (e + 1)) :
    kX0 (d + 4) 100 [.ref 0, .int (nI m), .int (nI cf), .int (nI p)] (b_x x s) = some (none, b_x x (((t0, e) :: r.map (fun q => (tt q.2, e))).foldl b_rc s)) := by
  have hm := hP _ _ p0
  have nn := hI.n hP
  have m4 := hI.2.2.2
  have hv : B[p]? = some (o8 (nI 170)) := hs 0 _ (by rw [henc]; rfl)
  have A0l : ([o8 170] ++ w_pad p).length = 4 - p % 4 := by rw [List.length_append, w_pad_len]; simp only [List.length_cons, List.length_nil]; omega
  have q0 : p + 4 - p % 4 = p + ([o8 170] ++ w_pad p).length := by rw [A0l]; omega
  have e4 : ∀ k : Nat, ((nI cf + nI (p + 4 - p % 4)) + nI k) = nI (cf + (p + 4 - p % 4 + k)) := fun k => by rw [nI_add, nI_add]; congr 1; omega
  rw [k_folS (c := 170) (Or.inl rfl) h hv hp he0, bX0_follow_42, nI_al4 hp, nI_add,
    k_s4E (h.bx s) hs (A := [o8 170] ++ w_pad p) (v := v0) (by rw [henc, List.append_assoc]) q0, mj_rI_k, h0, k_reach (by omega) (by omega) (by omega) (by omega), mj_rV_k, if_pos (by rfl),
    show nI (cf + (p + 4 - p % 4)) + (8 : Int32) = nI (cf + (p + 4 - p % 4 + 8)) from nI_add _ 8, k_s4E (h.bx _) hs (A := [o8 170] ++ w_pad p ++ o32 v0 ++ o32 lo) (v := hi) (by rw [henc]; simp only [List.append_assoc]; rfl) (by simp only [List.length_append, o32_len] at q0 A0l ⊢; omega), mj_rI_k,
    show nI (cf + (p + 4 - p % 4)) + (4 : Int32) = nI (cf + (p + 4 - p % 4 + 4)) from nI_add _ 4, k_s4E (h.bx _) hs (A := [o8 170] ++ w_pad p ++ o32 v0) (v := lo) (by rw [henc]; simp only [List.append_assoc]; rfl) (by simp only [List.length_append, o32_len] at q0 A0l ⊢; omega), mj_rI_k, hlen]
  obtain ⟨r1, -⟩ := hI.rc (q := (t0, e)) hP hf hl hM p0
  have key := k_fol104 (d := d) (m := m) (cf := cf) (p := p) (q := p + 4 - p % 4) (e := e) (x := x) (a4 := nI 170) hP hf hl hM (ts := r.map (fun q => tt q.2)) (fun t h => by obtain ⟨q, q1, q2⟩ := List.mem_map.mp h; rw [← q2]; exact pt q q1) hm.2 (by rw [List.length_map]; exact hrl) (fun j t hj => by
    rw [List.getElem?_map] at hj
    obtain ⟨q, q1, q2⟩ := Option.map_eq_some_iff.mp hj
    obtain ⟨A, R, a1, a2⟩ := w_ent_at o r j q q1
    refine ⟨o q.2, by rw [← q2]; exact ht q (List.mem_of_getElem? q1), fun s' => ?_⟩
    exact k_s4E (h.bx s') hs (A := [o8 170] ++ w_pad p ++ o32 v0 ++ o32 lo ++ o32 hi ++ A) (R := R) (by rw [henc, a1]; simp only [List.append_assoc]) (by simp only [List.length_append, o32_len, a2] at q0 A0l ⊢; omega)) _ 0 (b_rc s (t0, e)) rfl (Nat.zero_le _) r1
  rw [List.length_map] at key
  rw [show (0 : Int32) = nI 0 from rfl, key, List.drop_zero, List.map_map]
  rfl
/-- keys and places -/
theorem k_fol23 {d t0 : Nat} {B enc : List Int32} {s : bS} {v0 : Int32} {o : Nat → Int32} {tt : Nat → Nat} {r : List (Int32 × Nat)} (hP : ∀ p e, PL p e → p < len ∧ e ≤ MS) (hf : ∀ p e e', PL p e → PL p e' → e = e') (hl : len ≤ 65535) (hM : MS < 10000) (h : cB cf B x) (hs : ∀ j v, enc[j]? = some v → B[p + j]? = some v)
    (henc : enc = [o8 171] ++ (w_pad p ++ (o32 v0 ++ (o32 (nI r.length) ++ w_lke o r)))) (hrl : r.length ≤ 65535) (hp : p < 65536) (h0 : nI p + v0 = nI t0) (ht : ∀ q, q ∈ r → nI p + o q.2 = nI (tt q.2)) (p0 : PL t0 e) (pt : ∀ q, q ∈ r → PL (tt q.2) e) (hI : b_I PL len MS s) (he0 : s.1 p = nI (e + 1)) :
    kX0 (d + 4) 100 [.ref 0, .int (nI m), .int (nI cf), .int (nI p)] (b_x x s) = some (none, b_x x (((t0, e) :: r.map (fun q => (tt q.2, e))).foldl b_rc s)) := by
  have hm := hP _ _ p0
  have nn := hI.n hP
  have m4 := hI.2.2.2
  have hv : B[p]? = some (o8 (nI 171)) := hs 0 _ (by rw [henc]; rfl)
  have A0l : ([o8 171] ++ w_pad p).length = 4 - p % 4 := by rw [List.length_append, w_pad_len]; simp only [List.length_cons, List.length_nil]; omega
  have q0 : p + 4 - p % 4 = p + ([o8 171] ++ w_pad p).length := by rw [A0l]; omega
  rw [k_folS (c := 171) (Or.inr rfl) h hv hp he0, bX0_follow_42, nI_al4 hp, nI_add,
    k_s4E (h.bx s) hs (A := [o8 171] ++ w_pad p) (v := v0) (by rw [henc, List.append_assoc]) q0, mj_rI_k, h0, k_reach (by omega) (by omega) (by omega) (by omega), mj_rV_k, if_neg (by decide),
    show nI (cf + (p + 4 - p % 4)) + (4 : Int32) = nI (cf + (p + 4 - p % 4 + 4)) from nI_add _ 4, k_s4E (h.bx _) hs (A := [o8 171] ++ w_pad p ++ o32 v0) (v := nI r.length) (by rw [henc]; simp only [List.append_assoc]; rfl) (by simp only [List.length_append, o32_len] at q0 A0l ⊢; omega), mj_rI_k]
  obtain ⟨r1, -⟩ := hI.rc (q := (t0, e)) hP hf hl hM p0
  have key := k_fol159 (d := d) (m := m) (cf := cf) (p := p) (q := p + 4 - p % 4) (e := e) (x := x) (a4 := nI 171) hP hf hl hM (ts := r.map (fun q => tt q.2)) (fun t h => by obtain ⟨q, q1, q2⟩ := List.mem_map.mp h; rw [← q2]; exact pt q q1) hm.2 (by rw [List.length_map]; exact hrl) (fun j t hj => by
    rw [List.getElem?_map] at hj
    obtain ⟨q, q1, q2⟩ := Option.map_eq_some_iff.mp hj
    obtain ⟨A, R, a1, a2⟩ := w_lke_at o r j q q1
    refine ⟨o q.2, by rw [← q2]; exact ht q (List.mem_of_getElem? q1), fun s' => ?_⟩
    exact k_s4E (h.bx s') hs (A := [o8 171] ++ w_pad p ++ o32 v0 ++ o32 (nI r.length) ++ A ++ o32 q.1) (R := R) (by rw [henc, a1]; simp only [List.append_assoc]) (by simp only [List.length_append, o32_len, a2] at q0 A0l ⊢; omega)) _ 0 (b_rc s (t0, e)) rfl (Nat.zero_le _) r1
  rw [List.length_map] at key
  rw [show (0 : Int32) = nI 0 from rfl, key, List.drop_zero, List.map_map]
  rfl
end
