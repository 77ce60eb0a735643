/-! values: steps behind steps, all well -/
theorem w_tl_c {t : Nat} (h1 : 1 ≤ t) (h8 : t ≤ 8) : (w_num t ∧ (w_tl t = [t] ∧ t ≠ 9 ∨ w_tl t = [9, t])) ∨ (w_arr5 t ∧ w_tl t = [t]) := by
  have : t = 1 ∨ t = 2 ∨ t = 3 ∨ t = 4 ∨ t = 5 ∨ t = 6 ∨ t = 7 ∨ t = 8 := by omega
  unfold w_num w_arr5
  rcases this with rfl | rfl | rfl | rfl | rfl | rfl | rfl | rfl
  · exact Or.inl ⟨by omega, Or.inl ⟨rfl, by decide⟩⟩
  · exact Or.inl ⟨by omega, Or.inr rfl⟩
  · exact Or.inl ⟨by omega, Or.inl ⟨rfl, by decide⟩⟩
  · exact Or.inl ⟨by omega, Or.inr rfl⟩
  · exact Or.inr ⟨by omega, rfl⟩
  · exact Or.inr ⟨by omega, rfl⟩
  · exact Or.inr ⟨by omega, rfl⟩
  · exact Or.inr ⟨by omega, rfl⟩
theorem w_tl_2l (t : Nat) : (w_tl t).length ≤ 2 := by
  unfold w_tl; split
  · exact Nat.zero_le _
  · split <;> simp
section
variable {nt : sp_NT} {N M : Nat} {res par : Nat → Int32} {ret : Nat} {E : wF} {f n : Nat} {s r : List Nat} {g h : wG}
def oP (nt : sp_NT) (N M : Nat) (res par : Nat → Int32) (ret : Nat) (E : wF) (f n : Nat) (s : List Nat) (g h : wG) : Prop := wP n s g h ∧ oQ nt N M res par ret E f g h
theorem oP.rf (a : oI nt N M res par ret E g) (hq : w_q g = false) (e : g_st g = s) : oP nt N M res par ret E f n s g g := ⟨wP_rf hq e, oQ.rf a⟩
theorem oP.cg {s' : List Nat} (a : oP nt N M res par ret E f n s g h) (e : s = s') : oP nt N M res par ret E f n s' g h := e ▸ a
theorem oP.tr {s' : List Nat} {k : wG} (a : oP nt N M res par ret E f n s g h) (b : oP nt N M res par ret E f n s' h k) : oP nt N M res par ret E f n s' g k := ⟨a.1.tr b.1, a.2.tr b.2⟩
theorem oP.okk (a : oP nt N M res par ret E f n s g h) {P : Prop} (hP : P) : oP nt N M res par ret E f n s g (s_ok P h) := ⟨a.1.ok P, a.2.okk hP⟩
theorem oP.em (hN : N ≤ 64) (a : oP nt N M res par ret E f n s g h) {i : wI} {off : Nat} {on : List Nat} (h0 : i.2.2.2.2 = []) (h1 : oTerm i = false) (t : ∀ po, oTy nt M res par ret po i (g_L g, s) (g_L g, on ++ s.drop off)) (h9 : (on ++ s.drop off).length < 3370) (ho : off ≤ s.length) : oP nt N M res par ret E f n (on ++ s.drop off) g (w_em i off on h) := by
  obtain ⟨w, q⟩ := a
  have eL := w.2.2.1
  have es := w.2.2.2
  refine ⟨w.em i off on, q.tr (oQ.em hN q.1.1 w.2.1 h0 h1 ?_ ?_ ?_)⟩
  · rw [eL, es]; exact t _
  · rw [es]; exact h9
  · rw [es]; exact ho
theorem oP.es (hN : N ≤ 64) (a : oP nt N M res par ret E f n s g h) {i : wI} {s' : List Nat} (h0 : i.2.2.2.2 = []) (h1 : oTerm i = false) (t : ∀ po, oTy nt M res par ret po i (g_L g, s) (g_L g, s')) (h9 : s'.length < 3370) : oP nt N M res par ret E f n s' g (w_es i (g_L h, s') h) := by
  obtain ⟨w, q⟩ := a
  have eL := w.2.2.1
  have es := w.2.2.2
  have hl := ((q.1.1.2.2 ((w_q_iff h).mp w.2.1).2).2.2.2.2.2 ((w_q_iff h).mp w.2.1).1).1
  refine ⟨w.tr (wP_es w.2.1), q.tr (oQ.es hN q.1.1 w.2.1 h0 h1 ?_ hl h9)⟩
  rw [eL, es]; exact t _
theorem oP.ld (hN : N ≤ 64) (a : oP nt N M res par ret E f n s g h) {t p : Nat} (h1 : 1 ≤ t) (h8 : t ≤ 8) (hp : (g_L g)[p]? = some t) (h9 : s.length + 4 ≤ 3370) : oP nt N M res par ret E f n (w_tl t ++ s) g (w_ld t p (w_tl t) h) := by
  have l2 := w_tl_2l t
  refine (oP.em hN a (i := (2, t, p, 0, [])) (off := 0) (on := w_tl t) rfl rfl (fun po => oTy.of ⟨rfl, ?_⟩ (by decide) (by decide) (by decide)) ?_ (Nat.zero_le _))
  · rcases w_tl_c h1 h8 with ⟨c, -⟩ | ⟨c, c2⟩
    · exact Or.inl ⟨c, hp, rfl⟩
    · refine Or.inr ⟨c, t, hp, Or.inl c, ?_⟩
      show w_tl t ++ s = t :: s
      rw [c2]; rfl
  · rw [List.length_append, List.drop_zero]; omega
theorem oP.st (hN : N ≤ 64) {t : Nat} (a : oP nt N M res par ret E f n (w_tl t ++ r) g h) {p : Nat} (h1 : 1 ≤ t) (h8 : t ≤ 8) (hp : (g_L g)[p]? = some t) (h9 : r.length + 4 ≤ 3370) : oP nt N M res par ret E f n r g (w_st t p h) := by
  have e : [] ++ (w_tl t ++ r).drop (w_tl t).length = r := by rw [List.drop_left]; rfl
  refine (oP.em hN a (i := (3, t, p, 0, [])) (off := (w_tl t).length) (on := []) rfl rfl (fun po => oTy.of ?_ (by decide) (by decide) (by decide)) ?_ (by rw [List.length_append]; omega)).cg e
  · rw [e]
    rcases w_tl_c h1 h8 with ⟨c, -⟩ | ⟨c, c2⟩
    · exact Or.inl ⟨c, rfl, Or.inl ⟨rfl, hp⟩⟩
    · refine Or.inr ⟨c, t, ?_, Or.inl ⟨c, rfl, hp⟩⟩
      show w_tl t ++ r = t :: r
      rw [c2]; rfl
  · rw [e]; omega
theorem w_ty_dup {L : List Nat} {t : Nat} (h1 : 1 ≤ t) (h8 : t ≤ 8) : w_ty (7, (if (w_tl t).length = 2 then 92 else 89), 0, 0, []) (L, w_tl t ++ r) (L, w_tl t ++ (w_tl t ++ r)) := by
  refine ⟨rfl, ?_⟩
  rcases w_tl_c h1 h8 with ⟨c, c2 | c2⟩ | ⟨c, c2⟩
  · rw [c2.1]; exact Or.inr (Or.inr (Or.inl ⟨rfl, t, r, rfl, c2.2, Or.inl rfl⟩))
  · rw [c2]; exact Or.inr (Or.inr (Or.inr (Or.inl ⟨rfl, 9, t, r, rfl, rfl⟩)))
  · rw [c2]; exact Or.inr (Or.inr (Or.inl ⟨rfl, t, r, rfl, by unfold w_arr5 at c; omega, Or.inl rfl⟩))
theorem oP.dup (hN : N ≤ 64) {t : Nat} (a : oP nt N M res par ret E f n (w_tl t ++ r) g h) (h1 : 1 ≤ t) (h8 : t ≤ 8) (h9 : r.length + 8 ≤ 3370) : oP nt N M res par ret E f n (w_tl t ++ (w_tl t ++ r)) g (w_dup t h) := by
  have l2 := w_tl_2l t
  have ty := fun L => w_ty_dup (r := r) (L := L) h1 h8
  have hl : (w_tl t ++ (w_tl t ++ r)).length < 3370 := by simp only [List.length_append]; omega
  have es := a.1.2.2.2
  unfold w_dup
  rcases w_tl_d t with c | c | c
  · unfold w_tl at c; split at c
    · omega
    · split at c <;> simp at c
  · have e1 : (g_st h).take 2 ++ g_st h = w_tl t ++ (w_tl t ++ r) := by rw [es, c]; rfl
    have b : Nat.beq (w_tl t).length 2 = true := by rw [c]; rfl
    rw [b]; simp only [cond_true]; rw [e1]
    refine oP.es hN a rfl rfl (fun po => oTy.of ?_ (by decide) (by decide) (by decide)) hl
    have := ty (g_L g)
    rw [if_pos (by rw [c]; rfl)] at this; exact this
  · have e1 : (g_st h).take 1 ++ g_st h = w_tl t ++ (w_tl t ++ r) := by rw [es, c]; rfl
    have b : Nat.beq (w_tl t).length 2 = false := by rw [c]; rfl
    rw [b]; simp only [cond_false]; rw [e1]
    refine oP.es hN a rfl rfl (fun po => oTy.of ?_ (by decide) (by decide) (by decide)) hl
    have := ty (g_L g)
    rw [if_neg (by rw [c]; simp)] at this; exact this
theorem oP.du (hN : N ≤ 64) {t x y : Nat} (a : oP nt N M res par ret E f n (w_tl t ++ x :: y :: r) g h) (h1 : 1 ≤ t) (h9 : r.length + 8 ≤ 3370) : oP nt N M res par ret E f n (w_tl t ++ x :: y :: (w_tl t ++ r)) g (w_du t h) := by
  have l2 := w_tl_2l t
  have hl : (w_tl t ++ x :: y :: (w_tl t ++ r)).length < 3370 := by simp only [List.length_append, List.length_cons]; omega
  have es := a.1.2.2.2
  unfold w_du
  rcases w_tl_d t with c | c | c
  · unfold w_tl at c; split at c
    · omega
    · split at c <;> simp at c
  · have e1 : (g_st h).take 4 ++ (g_st h).take 2 ++ (g_st h).drop 4 = w_tl t ++ x :: y :: (w_tl t ++ r) := by rw [es, c]; rfl
    have b : Nat.beq (w_tl t).length 2 = true := by rw [c]; rfl
    rw [b]; simp only [cond_true]; rw [e1]
    refine oP.es hN a rfl rfl (fun po => oTy.of ?_ (by decide) (by decide) (by decide)) hl
    rw [c]
    exact ⟨rfl, Or.inr (Or.inr (Or.inr (Or.inr (Or.inr ⟨rfl, 9, t, x, y, r, rfl, rfl⟩))))⟩
  · have e1 : (g_st h).take 3 ++ (g_st h).take 1 ++ (g_st h).drop 3 = w_tl t ++ x :: y :: (w_tl t ++ r) := by rw [es, c]; rfl
    have b : Nat.beq (w_tl t).length 2 = false := by rw [c]; rfl
    rw [b]; simp only [cond_false]; rw [e1]
    refine oP.es hN a rfl rfl (fun po => oTy.of ?_ (by decide) (by decide) (by decide)) hl
    rw [c]
    exact ⟨rfl, Or.inr (Or.inr (Or.inr (Or.inr (Or.inl ⟨rfl, t, x, y, r, rfl, rfl⟩))))⟩
theorem oP.d2 (hN : N ≤ 64) {x y : Nat} (a : oP nt N M res par ret E f n (x :: y :: r) g h) (h9 : r.length + 8 ≤ 3370) : oP nt N M res par ret E f n (x :: y :: x :: y :: r) g (w_d2 h) := by
  have es := a.1.2.2.2
  have e1 : (g_st h).take 2 ++ g_st h = x :: y :: x :: y :: r := by rw [es]; rfl
  unfold w_d2
  rw [e1]
  exact oP.es hN a rfl rfl (fun po => oTy.of ⟨rfl, Or.inr (Or.inr (Or.inr (Or.inl ⟨rfl, x, y, r, rfl, rfl⟩)))⟩ (by decide) (by decide) (by decide)) (by simp only [List.length_cons]; omega)
theorem oP.eld (hN : N ≤ 64) {c : Nat} (a : oP nt N M res par ret E f n (1 :: c :: r) g h) (hc : w_arr5 c) (h9 : r.length + 8 ≤ 3370) : oP nt N M res par ret E f n (w_tl (w_el c) ++ r) g (w_eld c h) := by
  have l2 := w_tl_2l (w_el c)
  exact oP.em hN a (i := (4, c, 0, 0, [])) (off := 2) (on := w_tl (w_el c)) rfl rfl (fun po => oTy.of ⟨rfl, hc, r, rfl, rfl⟩ (by decide) (by decide) (by decide)) (by show (w_tl (w_el c) ++ r).length < 3370; rw [List.length_append]; omega) (by simp)
theorem oP.est (hN : N ≤ 64) {c : Nat} (a : oP nt N M res par ret E f n (w_tl (w_el c) ++ 1 :: c :: r) g h) (hc : w_arr5 c) (h9 : r.length + 8 ≤ 3370) : oP nt N M res par ret E f n r g (w_est c h) := by
  have e : [] ++ (w_tl (w_el c) ++ 1 :: c :: r).drop (2 + (w_tl (w_el c)).length) = r := by
    rw [List.nil_append, show 2 + (w_tl (w_el c)).length = (w_tl (w_el c)).length + 2 by omega, ← List.drop_drop, List.drop_left]; rfl
  refine (oP.em hN a (i := (5, c, 0, 0, [])) (off := 2 + (w_tl (w_el c)).length) (on := []) rfl rfl (fun po => oTy.of ⟨rfl, hc, ?_⟩ (by decide) (by decide) (by decide)) (by rw [e]; omega) (by simp only [List.length_append, List.length_cons]; omega)).cg e
  rw [e]
theorem oP.bin (hN : N ≤ 64) {k t : Nat} {u : List Nat} (a : oP nt N M res par ret E f n (u ++ (w_tl t ++ r)) g h) (ht : w_num t) (hk : 10 ≤ k) (hk2 : k ≤ 20) (h15 : 15 ≤ k → t ≤ 2) (hu : u = if 18 ≤ k then [1] else w_tl t) (h9 : r.length + 8 ≤ 3370) : oP nt N M res par ret E f n (w_tl t ++ r) g (w_bin k t h) := by
  have l2 := w_tl_2l t
  have e : w_tl t ++ (u ++ (w_tl t ++ r)).drop (bif Nat.ble 18 k then (w_tl t).length + 1 else 2 * (w_tl t).length) = w_tl t ++ r := by
    rw [hu]
    by_cases q : 18 ≤ k
    · rw [if_pos q, show Nat.ble 18 k = true from Nat.ble_eq.mpr q]
      simp only [cond_true]
      rw [Nat.add_comm, ← List.drop_drop]
      show w_tl t ++ (w_tl t ++ r).drop _ = _
      rw [List.drop_left]
    · rw [if_neg q, show Nat.ble 18 k = false from Bool.eq_false_iff.mpr (fun z => q (Nat.ble_eq.mp z))]
      simp only [cond_false]
      rw [Nat.two_mul, ← List.drop_drop, List.drop_left, List.drop_left]
  refine (oP.em hN a (i := (8, k, t, 0, [])) (on := w_tl t) rfl rfl (fun po => oTy.of ⟨rfl, ht, hk, hk2, h15, r, ?_, ?_⟩ (by decide) (by decide) (by decide)) (by rw [e, List.length_append]; omega) ?_).cg e
  · show u ++ (w_tl t ++ r) = _; rw [hu]
  · exact e
  · rw [hu]
    by_cases q : 18 ≤ k
    · rw [if_pos q, show Nat.ble 18 k = true from Nat.ble_eq.mpr q]; simp only [cond_true, List.length_append, List.length_cons, List.length_nil]; omega
    · rw [if_neg q, show Nat.ble 18 k = false from Bool.eq_false_iff.mpr (fun z => q (Nat.ble_eq.mp z))]; simp only [cond_false, List.length_append]; omega
theorem oP.cut1 (hN : N ≤ 64) (a : oP nt N M res par ret E f n (1 :: r) g h) (c : Bool) (h9 : r.length + 8 ≤ 3370) : oP nt N M res par ret E f n (1 :: r) g (w_cut c h) := by
  unfold w_cut
  cases c
  · exact a
  · exact oP.em hN a (i := (11, 9, 0, 0, [])) (off := 1) (on := [1]) rfl rfl (fun po => oTy.of ⟨rfl, by decide, by decide, r, rfl⟩ (by decide) (by decide) (by decide)) (by show (1 :: r).length < 3370; simp only [List.length_cons]; omega) (by simp)
theorem oP.cut (hN : N ≤ 64) {c : Nat} (a : oP nt N M res par ret E f n (w_tl (w_el c) ++ r) g h) (h9 : r.length + 8 ≤ 3370) : oP nt N M res par ret E f n (w_tl (w_el c) ++ r) g (w_cut (Nat.beq c 5) h) := by
  by_cases e : c = 5
  · subst e; exact oP.cut1 hN a _ h9
  · have : Nat.beq c 5 = false := by apply Bool.eq_false_iff.mpr; intro q; exact e (Nat.eq_of_beq_eq_true q)
    rw [this]; exact a
theorem oP.inc (hN : N ≤ 64) (a : oP nt N M res par ret E f n s g h) {p : Nat} (v : Int64) (hp : (g_L g)[p]? = some 1) (h9 : s.length + 8 ≤ 3370) : oP nt N M res par ret E f n s g (w_inc p v h) :=
  oP.em hN a (i := (6, p, 0, v, [])) (off := 0) (on := []) rfl rfl (fun po => oTy.of ⟨rfl, hp⟩ (by decide) (by decide) (by decide)) (by show s.length < 3370; omega) (Nat.zero_le _)
/-- a constant -/
theorem oP.k (hN : N ≤ 64) (a : oP nt N M res par ret E f n s g h) {t : Nat} {v : Int64} (ht : w_num t) (he : w_sm t v = false → (t, v) ∈ oEnt nt N ∧ (t = 1 ∨ t = 3 → v = v.toInt32.toInt64)) (h9 : s.length + 8 ≤ 3370) : oP nt N M res par ret E f n (w_tl t ++ s) g (w_k t v h) := by
  have l2 := w_tl_2l t
  have hl : (w_tl t ++ s).length < 3370 := by rw [List.length_append]; omega
  refine ⟨a.1.k t v, ?_⟩
  obtain ⟨w, q⟩ := a
  have eL := w.2.2.1
  have es := w.2.2.2
  unfold w_k
  cases hs : w_sm t v
  · simp only [cond_false]
    obtain ⟨h1, h2⟩ := he hs
    refine q.tr (oQ.pe hN q.1.1 w.2.1 h1 rfl ⟨⟨rfl, ht, rfl⟩, fun _ => w_px_pf t v _, fun _ => h2, fun z => absurd z (by show ¬ (1 : Nat) = 15; decide), (fun z => absurd z (by show ¬ (1 : Nat) = 16; decide)), oShp0 rfl (by decide)⟩ ?_ (Nat.zero_le _))
    rw [es]; exact hl
  · simp only [cond_true]
    refine q.tr (oQ.em hN q.1.1 w.2.1 rfl rfl (oTy.of ⟨rfl, Or.inl ⟨ht, hs, rfl⟩⟩ (by decide) (by decide) (by decide)) ?_ (Nat.zero_le _))
    rw [es]; exact hl
theorem oP.one (hN : N ≤ 64) (a : oP nt N M res par ret E f n s g h) {t : Nat} (ht : w_num t) (h9 : s.length + 8 ≤ 3370) : oP nt N M res par ret E f n (w_tl t ++ s) g (w_one t h) := by
  refine oP.k hN a ht (fun z => ?_) h9
  have : t = 1 ∨ t = 2 ∨ t = 3 ∨ t = 4 := by unfold w_num at ht; omega
  rcases this with rfl | rfl | rfl | rfl <;> exact absurd z (by decide)
theorem oP.cast (hN : N ≤ 64) {c t : Nat} (a : oP nt N M res par ret E f n (w_tl c ++ r) g h) (hc : w_num c) (ht : (1 ≤ t ∧ t ≤ 4) ∨ (9 ≤ t ∧ t ≤ 11)) (h9 : r.length + 8 ≤ 3370) : oP nt N M res par ret E f n (w_tl (if 4 < t then 1 else t) ++ r) g (w_cast c t h) := by
  have h1 : oP nt N M res par ret E f n (w_tl (if 4 < t then 1 else t) ++ r) g (bif Nat.beq c (if 4 < t then 1 else t) then h else w_em (10, c, (if 4 < t then 1 else t), 0, []) (w_tl c).length (w_tl (if 4 < t then 1 else t)) h) := by
    cases hh : Nat.beq c (if 4 < t then 1 else t)
    · have l2 := w_tl_2l (if 4 < t then 1 else t)
      have nu : w_num (if 4 < t then 1 else t) := by unfold w_num; split <;> omega
      have ne : c ≠ (if 4 < t then 1 else t) := fun z => by rw [← z, Nat.beq_refl] at hh; exact absurd hh (by decide)
      generalize (if 4 < t then 1 else t) = u at *
      have e : w_tl u ++ (w_tl c ++ r).drop (w_tl c).length = w_tl u ++ r := by rw [List.drop_left]
      exact (oP.em hN a (i := (10, c, u, 0, [])) (on := w_tl u) rfl rfl (fun po => oTy.of ⟨rfl, hc, nu, ne, r, rfl, e⟩ (by decide) (by decide) (by decide)) (by rw [e, List.length_append]; omega) (by rw [List.length_append]; omega)).cg e
    · have := Nat.eq_of_beq_eq_true hh
      rw [← this]; exact a
  unfold w_cast
  simp only
  by_cases h4 : 4 < t
  · rw [show Nat.blt 4 t = true from Nat.ble_eq.mpr h4]
    rw [if_pos h4] at h1 ⊢
    simp only [cond_true]
    exact oP.em hN h1 (i := (11, t, 0, 0, [])) (off := 1) (on := [1]) rfl rfl (fun po => oTy.of ⟨rfl, by show 9 ≤ t; omega, by show t ≤ 11; omega, r, rfl⟩ (by decide) (by decide) (by decide)) (by show (1 :: r).length < 3370; simp only [List.length_cons]; omega) (by simp [w_tl])
  · rw [show Nat.blt 4 t = false from Bool.eq_false_iff.mpr (fun z => h4 (Nat.ble_eq.mp z))]
    exact h1
end
