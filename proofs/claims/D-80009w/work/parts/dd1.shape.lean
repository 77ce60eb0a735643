/-! what a value's writing leaves alone -/
def wX (n : Nat) (tg : List Nat) (g h : wG) : Prop :=
  (g_ov h = g_ov g ∧ g_nx h = g_nx g ∧ g_mx h = g_mx g ∧ g_ac h = g_ac g ∧ g_rg h = g_rg g ∧ g_cx h = g_cx g ∧ g_pl h = g_pl g)
  ∧ (∃ e, g_it h = e ++ g_it g) ∧ g_nl g ≤ g_nl h ∧ (∀ l, l < n → g_lat h l = g_lat g l ∧ g_lF h l = g_lF g l ∧ (l ∉ tg → g_goes h l = g_goes g l) ∧ (g_goes g l = true → g_goes h l = true))
  ∧ (g_pn h = g_pn g ∨ g_pn h = -1) ∧ (g_ln g).length ≤ (g_ln h).length ∧ g_ms g ≤ g_ms h ∧ ∃ e, g_po h = e ++ g_po g
theorem wX.rf (n : Nat) (tg : List Nat) (g : wG) : wX n tg g g := ⟨⟨rfl, rfl, rfl, rfl, rfl, rfl, rfl⟩, ⟨[], rfl⟩, Nat.le_refl _, fun l _ => ⟨rfl, rfl, fun _ => rfl, fun q => q⟩, Or.inl rfl, Nat.le_refl _, Nat.le_refl _, ⟨[], rfl⟩⟩
theorem wX.tr {n : Nat} {t1 t2 tg : List Nat} {g h k : wG} (a : wX n t1 g h) (b : wX n t2 h k) (h1 : ∀ l, l ∈ t1 → l ∈ tg) (h2 : ∀ l, l ∈ t2 → l < n → l ∈ tg) : wX n tg g k := by
  obtain ⟨⟨a1, a2, a3, a4, a5, a6, a7⟩, ⟨e1, a8⟩, a9, a10, a11, a12, a13, ⟨e2, a14⟩⟩ := a
  obtain ⟨⟨b1, b2, b3, b4, b5, b6, b7⟩, ⟨e3, b8⟩, b9, b10, b11, b12, b13, ⟨e4, b14⟩⟩ := b
  refine ⟨⟨b1.trans a1, b2.trans a2, b3.trans a3, b4.trans a4, b5.trans a5, b6.trans a6, b7.trans a7⟩, ⟨e3 ++ e1, by rw [b8, a8, List.append_assoc]⟩, Nat.le_trans a9 b9, fun l hl => ?_, ?_, Nat.le_trans a12 b12, Nat.le_trans a13 b13, ⟨e4 ++ e2, by rw [b14, a14, List.append_assoc]⟩⟩
  · obtain ⟨p1, p2, p3, p4⟩ := a10 l hl
    obtain ⟨q1, q2, q3, q4⟩ := b10 l hl
    refine ⟨q1.trans p1, q2.trans p2, fun hn => ?_, ?_⟩
    · rw [q3 (fun q => hn (h2 l q hl)), p3 (fun q => hn (h1 l q))]
    · exact fun q => q4 (p4 q)
  · rcases b11 with q | q
    · rw [q]; exact a11
    · exact Or.inr q
theorem wX.low {n m : Nat} {tg : List Nat} {g h : wG} (a : wX n tg g h) (hm : m ≤ n) : wX m tg g h := ⟨a.1, a.2.1, a.2.2.1, fun l hl => a.2.2.2.1 l (Nat.lt_of_lt_of_le hl hm), a.2.2.2.2⟩
theorem wX.mono {n : Nat} {t1 tg : List Nat} {g h : wG} (a : wX n t1 g h) (h1 : ∀ l, l ∈ t1 → l ∈ tg) : wX n tg g h := a.tr (wX.rf n [] h) h1 (fun l q => by simp at q)
theorem w_told_len (n : Nat) (p : Int32) (ln : List (Nat × Int32)) : ln.length ≤ (w_told n p ln).length := by
  unfold w_told
  split
  · exact Nat.le_refl _
  · split
    · simp
    · split <;> simp
theorem w_q_iff (g : wG) : w_q g = false ↔ g_al g = true ∧ g_ov g = false := by
  unfold w_q
  cases g_al g <;> cases g_ov g <;> simp
/-- alive, with the locals as before and such a stack -/
def wP (n : Nat) (st : List Nat) (g h : wG) : Prop := wX n [] g h ∧ w_q h = false ∧ g_L h = g_L g ∧ g_st h = st
theorem wP.low {n m : Nat} {s : List Nat} {g h : wG} (a : wP n s g h) (hm : m ≤ n) : wP m s g h := ⟨a.1.low hm, a.2⟩
theorem wP.tr {n : Nat} {s1 s2 : List Nat} {g h k : wG} (a : wP n s1 g h) (b : wP n s2 h k) : wP n s2 g k :=
  ⟨a.1.tr b.1 (fun _ q => q) (fun l q => by simp at q), b.2.1, b.2.2.1.trans a.2.2.1, b.2.2.2⟩
theorem wP.cg {n : Nat} {s1 s2 : List Nat} {g h : wG} (a : wP n s1 g h) (e : s1 = s2) : wP n s2 g h := e ▸ a
theorem wX_es {n : Nat} {i : wI} {F : wF} {g : wG} : wX n [] g (w_es i F g) := by
  unfold w_es
  cases hq : w_q g
  · exact ⟨⟨rfl, rfl, rfl, rfl, rfl, rfl, rfl⟩, ⟨[(i, (g_L g, g_st g))], rfl⟩, Nat.le_refl _, fun l _ => ⟨rfl, rfl, fun _ => rfl, fun q => q⟩, Or.inr rfl, w_told_len _ _ _, Nat.le_max_left _ _, ⟨[], rfl⟩⟩
  · exact wX.rf _ _ _
theorem wP_es {n : Nat} {i : wI} {st : List Nat} {g : wG} (hq : w_q g = false) : wP n st g (w_es i (g_L g, st) g) := by
  refine ⟨wX_es, ?_⟩
  unfold w_es
  rw [hq]
  exact ⟨hq, rfl, rfl⟩
theorem wP.ok {n : Nat} {st : List Nat} {g h : wG} (a : wP n st g h) (P : Prop) : wP n st g (s_ok P h) := ⟨a.1, a.2.1, a.2.2.1, a.2.2.2⟩
theorem wP_em {n : Nat} {i : wI} {off : Nat} {on : List Nat} {g : wG} (hq : w_q g = false) : wP n (on ++ (g_st g).drop off) g (w_em i off on g) := by
  unfold w_em
  rw [hq]
  exact (wP_es hq).ok _
theorem wP_pe {n : Nat} {tag s off : Nat} {v : Int64} {on : List Nat} {g : wG} (hq : w_q g = false) : wP n (on ++ (g_st g).drop off) g (w_pe tag s v off on g) := by
  unfold w_pe
  rw [hq]
  have h1 : wP n (g_st g) g (s_ok ((w_pn s v (g_po g)).length ≤ 100) (s_po (w_pn s v (g_po g)) g)) := by
    refine ⟨⟨⟨rfl, rfl, rfl, rfl, rfl, rfl, rfl⟩, ⟨[], rfl⟩, Nat.le_refl _, fun l _ => ⟨rfl, rfl, fun _ => rfl, fun q => q⟩, Or.inl rfl, Nat.le_refl _, Nat.le_refl _, ?_⟩, hq, rfl, rfl⟩
    show ∃ e, w_pn s v (g_po g) = e ++ g_po g
    unfold w_pn
    split
    · exact ⟨[], rfl⟩
    · exact ⟨[(s, v)], rfl⟩
  exact h1.tr (wP_em h1.2.1)
theorem wP_k {n : Nat} {t : Nat} {v : Int64} {g : wG} (hq : w_q g = false) : wP n (w_tl t ++ g_st g) g (w_k t v g) := by
  unfold w_k
  cases w_sm t v
  · exact (wP_pe hq).cg (by simp)
  · exact (wP_em hq).cg (by simp)
theorem wP_ld {n : Nat} {t p : Nat} {on : List Nat} {g : wG} (hq : w_q g = false) : wP n (on ++ g_st g) g (w_ld t p on g) := (wP_em hq).cg (by simp)
theorem wP_st {n : Nat} {t p : Nat} {g : wG} {r : List Nat} (hq : w_q g = false) (e : g_st g = w_tl t ++ r) : wP n r g (w_st t p g) := (wP_em hq).cg (by simp [e])
theorem w_tl_d (t : Nat) : w_tl t = [] ∨ w_tl t = [9, t] ∨ w_tl t = [t] := by
  unfold w_tl; split
  · exact Or.inl rfl
  · split
    · exact Or.inr (Or.inl rfl)
    · exact Or.inr (Or.inr rfl)
theorem wP_dup {n : Nat} {t : Nat} {g : wG} {r : List Nat} (ht : 0 < t) (hq : w_q g = false) (e : g_st g = w_tl t ++ r) : wP n (w_tl t ++ (w_tl t ++ r)) g (w_dup t g) := by
  unfold w_dup
  rcases w_tl_d t with h | h | h
  · unfold w_tl at h; split at h
    · omega
    · split at h <;> simp at h
  · rw [h]; exact (wP_es hq).cg (by rw [e, h]; rfl)
  · rw [h]; exact (wP_es hq).cg (by rw [e, h]; rfl)
theorem wP_du {n : Nat} {t a b : Nat} {g : wG} {r : List Nat} (ht : 0 < t) (hq : w_q g = false) (e : g_st g = w_tl t ++ a :: b :: r) : wP n (w_tl t ++ a :: b :: (w_tl t ++ r)) g (w_du t g) := by
  unfold w_du
  rcases w_tl_d t with h | h | h
  · unfold w_tl at h; split at h
    · omega
    · split at h <;> simp at h
  · rw [h]; exact (wP_es hq).cg (by rw [e, h]; rfl)
  · rw [h]; exact (wP_es hq).cg (by rw [e, h]; rfl)
theorem wP_d2 {n : Nat} {g : wG} {a b : Nat} {r : List Nat} (hq : w_q g = false) (e : g_st g = a :: b :: r) : wP n (a :: b :: a :: b :: r) g (w_d2 g) := by
  unfold w_d2; exact (wP_es hq).cg (by rw [e]; rfl)
theorem wP_eld {n : Nat} {a i b : Nat} {g : wG} {r : List Nat} (hq : w_q g = false) (e : g_st g = i :: b :: r) : wP n (w_tl (w_el a) ++ r) g (w_eld a g) := (wP_em hq).cg (by rw [e]; rfl)
theorem wP_est {n : Nat} {a i b : Nat} {g : wG} {r : List Nat} (hq : w_q g = false) (e : g_st g = w_tl (w_el a) ++ i :: b :: r) : wP n r g (w_est a g) := (wP_em hq).cg (by
  rw [e, List.nil_append, show 2 + (w_tl (w_el a)).length = (w_tl (w_el a)).length + 2 by omega, ← List.drop_drop, List.drop_left]; rfl)
theorem wP_bin {n : Nat} {k t : Nat} {g : wG} {r u : List Nat} (hq : w_q g = false) (e : g_st g = u ++ (w_tl t ++ r)) (hu : u.length = bif Nat.ble 18 k then 1 else (w_tl t).length) : wP n (w_tl t ++ r) g (w_bin k t g) := (wP_em hq).cg (by
  rw [e]
  cases h : Nat.ble 18 k
  · rw [h] at hu; simp only [cond_false] at hu ⊢
    rw [Nat.two_mul, ← List.drop_drop, show (w_tl t).length = u.length from hu.symm, List.drop_left, hu, List.drop_left]
  · rw [h] at hu; simp only [cond_true] at hu ⊢
    rw [Nat.add_comm, ← List.drop_drop, show (1 : Nat) = u.length from hu.symm, List.drop_left, List.drop_left])
theorem wP_cut {n : Nat} {c : Bool} {g : wG} {r : List Nat} (hq : w_q g = false) (e : g_st g = 1 :: r) : wP n (1 :: r) g (w_cut c g) := by
  unfold w_cut
  cases c
  · exact ⟨wX.rf _ _ _, hq, rfl, e⟩
  · exact (wP_em hq).cg (by rw [e]; rfl)
theorem wP_rf {n : Nat} {g : wG} {r : List Nat} (hq : w_q g = false) (e : g_st g = r) : wP n r g g := ⟨wX.rf _ _ _, hq, rfl, e⟩
theorem wP_inc {n : Nat} {p : Nat} {v : Int64} {g : wG} (hq : w_q g = false) : wP n (g_st g) g (w_inc p v g) := (wP_em hq).cg (by simp)
theorem wP_one {n : Nat} {t : Nat} {g : wG} (hq : w_q g = false) : wP n (w_tl t ++ g_st g) g (w_one t g) := wP_k hq
theorem wP_cast {n : Nat} {f t : Nat} {g : wG} {r : List Nat} (hq : w_q g = false) (e : g_st g = w_tl f ++ r) : wP n (w_tl (if 4 < t then 1 else t) ++ r) g (w_cast f t g) := by
  unfold w_cast
  simp only
  have h1 : wP n (w_tl (if 4 < t then 1 else t) ++ r) g (bif Nat.beq f (if 4 < t then 1 else t) then g else w_em (10, f, (if 4 < t then 1 else t), 0, []) (w_tl f).length (w_tl (if 4 < t then 1 else t)) g) := by
    cases h : Nat.beq f (if 4 < t then 1 else t)
    · exact (wP_em hq).cg (by rw [e, List.drop_left])
    · have := Nat.eq_of_beq_eq_true h
      exact wP_rf hq (by rw [e, this])
  by_cases h4 : 4 < t
  · have hb : Nat.blt 4 t = true := by rw [Nat.blt_eq]; exact h4
    rw [hb]
    refine h1.tr ((wP_em h1.2.1).cg ?_)
    rw [h1.2.2.2, if_pos h4]; rfl
  · have hb : Nat.blt 4 t = false := by rw [← Bool.not_eq_true, Nat.blt_eq]; exact h4
    rw [hb]; exact h1
