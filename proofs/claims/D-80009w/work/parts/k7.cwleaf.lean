/-! CodeWriter: single codes -/
section
variable {nt : sp_NT} {N : Nat} {P : yP} {X : List (Nat × Bool)} {b : Nat} {lm lm' : Nat → Nat} {lv lv' : Nat → Bool} {x y : mj_X} {g h G H : wG}
theorem w_tl_w {t : Nat} (ht : t ≤ 8) : sp_wide (nI t) = Nat.beq (w_tl t).length 2 := by
  have : t = 0 ∨ t = 1 ∨ t = 2 ∨ t = 3 ∨ t = 4 ∨ t = 5 ∨ t = 6 ∨ t = 7 ∨ t = 8 := by omega
  rcases this with rfl | rfl | rfl | rfl | rfl | rfl | rfl | rfl | rfl <;> rfl
theorem c_dup {d n t : Nat} (hd : 4 ≤ d) (ht : t ≤ 8) (a : Y1 nt N P X b lm lv x g) : KJ nt N P X b n g (kX0 d 36 [.ref 0, .int (nI t)] x) x lm lv (w_dup t g) := by
  obtain ⟨d, rfl⟩ : ∃ c, d = c + 1 := ⟨d - 1, by omega⟩
  rw [eX0_dup, sX0_isWide (by omega), mj_rI_k, w_tl_w ht]
  unfold w_dup
  cases Nat.beq (w_tl t).length 2
  · exact (c_es1 (by omega) a ⟨fun _ => rfl, fun _ _ => rfl⟩).end_
  · exact (c_es1 (by omega) a ⟨fun _ => rfl, fun _ _ => rfl⟩).end_
theorem c_du {d n t : Nat} (hd : 4 ≤ d) (ht : t ≤ 8) (a : Y1 nt N P X b lm lv x g) : KJ nt N P X b n g (kX0 d 44 [.ref 0, .int (nI t)] x) x lm lv (w_du t g) := by
  obtain ⟨d, rfl⟩ : ∃ c, d = c + 1 := ⟨d - 1, by omega⟩
  rw [eX0_dupUnder, sX0_isWide (by omega), mj_rI_k, w_tl_w ht]
  unfold w_du
  cases Nat.beq (w_tl t).length 2
  · exact (c_es1 (by omega) a ⟨fun _ => rfl, fun _ _ => rfl⟩).end_
  · exact (c_es1 (by omega) a ⟨fun _ => rfl, fun _ _ => rfl⟩).end_
theorem c_drop {d n t : Nat} (hd : 4 ≤ d) (ht : t ≤ 8) (a : Y1 nt N P X b lm lv x g) : KJ nt N P X b n g (kX0 d 55 [.ref 0, .int (nI t)] x) x lm lv (if t = 0 then g else w_em (7, 86 + (w_tl t).length, 0, 0, []) (w_tl t).length [] g) := by
  obtain ⟨d, rfl⟩ : ∃ c, d = c + 1 := ⟨d - 1, by omega⟩
  rw [eX0_drop]
  by_cases h0 : t = 0
  · rw [if_pos (by rw [h0]; rfl), if_pos h0]; exact KJ.id_ a
  · rw [if_neg (fun (z : nI t = (0 : Int32)) => h0 ((nI_eq (b := 0) (by omega) (by omega)).mp z)), if_neg h0, sX0_isWide (by omega), mj_rI_k]
    have : t = 1 ∨ t = 2 ∨ t = 3 ∨ t = 4 ∨ t = 5 ∨ t = 6 ∨ t = 7 ∨ t = 8 := by omega
    rcases this with rfl | rfl | rfl | rfl | rfl | rfl | rfl | rfl <;> exact (c_e1 (by omega) a ⟨fun _ => rfl, fun _ _ => rfl⟩).end_
theorem w_es_q2 {i : wI} {F : wF} (hq : w_q g = true) : w_es i F g = g := w_es_q hq
/-- load and store of a local -/
theorem c_accq {d : Nat} (hd : 3 ≤ d) (hl : yq x) (f0 n0 t0 p0 : Int32) : kX0 d 40 [.ref 0, .int f0, .int n0, .int t0, .int p0] x = some (none, x) := by
  obtain ⟨d, rfl⟩ : ∃ c, d = c + 1 := ⟨d - 1, by omega⟩
  obtain ⟨d', rfl⟩ : ∃ e, d = e + 1 := ⟨d - 1, by omega⟩
  have hL : ∃ v, kX0 (d' + 1) 41 [.int t0] x = some (some (.int v), x) := by
    rw [eX0_letterOf]; split
    · exact ⟨_, rfl⟩
    · exact ⟨_, rfl⟩
  obtain ⟨v, hv⟩ := hL
  rw [eX0_access, hv, mj_rI_k]
  have ce : ∀ cc, kX0 (d' + 1) 37 [.ref 0, .int cc] x = some (none, x) := fun cc => c_codeq (by omega) hl cc
  have em : ∀ u, kX0 (d' + 1) 38 [.ref 0, .int u] x = some (none, x) := fun u => e38 (d := d' + 1) (by omega) u x hl
  have tw : ∀ u, kX0 (d' + 1) 42 [.ref 0, .int u] x = some (none, x) := fun u => e42 (d := d' + 1) (by omega) u x hl
  split
  · split
    · rw [ce, mj_rV_k, em, mj_rV_k, tw, mj_rV_k]
    · rw [ce, mj_rV_k, em, mj_rV_k]
  · rw [ce, mj_rV_k]
theorem c_acc {d n tag far near t p off : Nat} {on : List Nat} (hd : 3 ≤ d) (ht : (tag = 2 ∧ far = 21 ∧ near = 26) ∨ (tag = 3 ∧ far = 54 ∧ near = 59)) (h1 : 1 ≤ t) (h8 : t ≤ 8) (hp : p < 256) (a : Y1 nt N P X b lm lv x g) : KJ nt N P X b n g (kX0 d 40 [.ref 0, .int (nI far), .int (nI near), .int (nI t), .int (nI p)] x) x lm lv (w_em (tag, t, p, 0, []) off on g) := by
  obtain ⟨d, rfl⟩ : ∃ c, d = c + 1 := ⟨d - 1, by omega⟩
  have he : ∀ w q, w_enc w w_z q (tag, t, p, 0, []) = w_loc far near t p := by
    intro w q
    rcases ht with ⟨rfl, rfl, rfl⟩ | ⟨rfl, rfl, rfl⟩ <;> rfl
  have hf : ∀ w q r, w_fx w q (tag, t, p, 0, []) r = r := by
    intro w q r
    rcases ht with ⟨rfl, rfl, rfl⟩ | ⟨rfl, rfl, rfl⟩ <;> rfl
  rw [eX0_access, sX0_letterOf (by omega) h1 h8, mj_rI_k]
  by_cases q : p ≤ 3
  · rw [if_neg (show ¬ (3 : Int32) < nI p from nI_nlt (b := p) (a := 3) q (by omega)), show (nI near + (4 : Int32) * nI (w_ltr t)) + nI p = nI (near + 4 * w_ltr t + p) by rw [show (4 : Int32) * nI (w_ltr t) = nI (4 * w_ltr t) from nI_mul 4 _, nI_add, nI_add]]
    exact (c_e1 (by omega) a ⟨fun s => by rw [he]; unfold w_loc; rw [if_pos q], fun _ _ => hf _ _ _⟩).end_
  · rw [if_pos (show (3 : Int32) < nI p from nI_lt (a := 3) (by omega) (by omega)), if_neg (show ¬ (256 : Int32) ≤ nI p from nI_ge (b := 256) (by omega) (by omega)), nI_add]
    exact c_em (by omega) a ⟨fun s => by rw [he]; unfold w_loc; rw [if_neg q, if_pos hp]; rfl, fun _ _ => hf _ _ _⟩ ((EK.emit (by omega) (nI p)).seq (EK.id_ _ _ _))
theorem c_ld {d n t p : Nat} {on : List Nat} (hd : 4 ≤ d) (h1 : 1 ≤ t) (h8 : t ≤ 8) (hp : p < 256) (a : Y1 nt N P X b lm lv x g) : KJ nt N P X b n g (kX0 d 47 [.ref 0, .int (nI t), .int (nI p)] x) x lm lv (w_ld t p on g) := by
  obtain ⟨d, rfl⟩ : ∃ c, d = c + 1 := ⟨d - 1, by omega⟩
  rw [eX0_load]
  exact (c_acc (far := 21) (near := 26) (by omega) (Or.inl ⟨rfl, rfl, rfl⟩) h1 h8 hp a).end_
theorem c_st {d n t p : Nat} (hd : 4 ≤ d) (h1 : 1 ≤ t) (h8 : t ≤ 8) (hp : p < 256) (a : Y1 nt N P X b lm lv x g) : KJ nt N P X b n g (kX0 d 39 [.ref 0, .int (nI t), .int (nI p)] x) x lm lv (w_st t p g) := by
  obtain ⟨d, rfl⟩ : ∃ c, d = c + 1 := ⟨d - 1, by omega⟩
  rw [eX0_store]
  exact (c_acc (far := 54) (near := 59) (by omega) (Or.inr ⟨rfl, rfl, rfl⟩) h1 h8 hp a).end_
theorem c_ldq {d : Nat} (hd : 4 ≤ d) (hl : yq x) (t0 p0 : Int32) : kX0 d 47 [.ref 0, .int t0, .int p0] x = some (none, x) := by
  obtain ⟨d, rfl⟩ : ∃ c, d = c + 1 := ⟨d - 1, by omega⟩
  rw [eX0_load, c_accq (by omega) hl, mj_rV_k]
theorem c_stq {d : Nat} (hd : 4 ≤ d) (hl : yq x) (t0 p0 : Int32) : kX0 d 39 [.ref 0, .int t0, .int p0] x = some (none, x) := by
  obtain ⟨d, rfl⟩ : ∃ c, d = c + 1 := ⟨d - 1, by omega⟩
  rw [eX0_store, c_accq (by omega) hl, mj_rV_k]
theorem c_dupq {d : Nat} (hd : 3 ≤ d) (hl : yq x) (t0 : Int32) : kX0 d 36 [.ref 0, .int t0] x = some (none, x) ∧ kX0 d 44 [.ref 0, .int t0] x = some (none, x) ∧ kX0 d 55 [.ref 0, .int t0] x = some (none, x) := by
  obtain ⟨d, rfl⟩ : ∃ c, d = c + 1 := ⟨d - 1, by omega⟩
  have ce : ∀ cc, kX0 d 37 [.ref 0, .int cc] x = some (none, x) := fun cc => c_codeq (by omega) hl cc
  refine ⟨?_, ?_, ?_⟩
  · rw [eX0_dup, sX0_isWide (by omega), mj_rI_k]
    split <;> rw [ce, mj_rV_k]
  · rw [eX0_dupUnder, sX0_isWide (by omega), mj_rI_k]
    split <;> rw [ce, mj_rV_k]
  · rw [eX0_drop]
    split
    · rfl
    · rw [sX0_isWide (by omega), mj_rI_k]
      split <;> rw [ce, mj_rV_k]
/-- a local grows -/
theorem c_growq {d : Nat} (hd : 3 ≤ d) (hl : yq x) (a1 a2 : Int32) : kX0 d 48 [.ref 0, .int a1, .int a2] x = some (none, x) := by
  obtain ⟨d, rfl⟩ : ∃ c, d = c + 1 := ⟨d - 1, by omega⟩
  have ce : ∀ cc, kX0 d 37 [.ref 0, .int cc] x = some (none, x) := fun cc => c_codeq (by omega) hl cc
  have em : ∀ u, kX0 d 38 [.ref 0, .int u] x = some (none, x) := fun u => e38 (d := d) (by omega) u x hl
  have tw : ∀ u, kX0 d 42 [.ref 0, .int u] x = some (none, x) := fun u => e42 (d := d) (by omega) u x hl
  have w41 : rX0_grow d (41, [some (.ref 0), some (.int a1), some (.int a2)], [], x) = some (none, x) := by
    rw [bX0_grow_41, ce, mj_rV_k, em, mj_rV_k, tw, mj_rV_k, tw, mj_rV_k]
  rw [eX0_grow]
  split
  · exact w41
  · rw [sX0_isIn' (by omega)]
    split
    · exact w41
    · rw [ce, mj_rV_k, em, mj_rV_k, em, mj_rV_k]
theorem c_inc {d n p : Nat} {v : Int32} (hd : 3 ≤ d) (hp : p < 256) (a : Y1 nt N P X b lm lv x g) : KJ nt N P X b n g (kX0 d 48 [.ref 0, .int (nI p), .int v] x) x lm lv (w_inc p v.toInt64 g) := by
  obtain ⟨d, rfl⟩ : ∃ c, d = c + 1 := ⟨d - 1, by omega⟩
  have hin : sp_in v.toInt64 (-128) 127 = (decide (-128 ≤ v.toInt64) && decide (v.toInt64 ≤ 127)) := rfl
  have henc : ∀ w q, w_enc w w_z q (6, p, 0, v.toInt64, []) = (if p < 256 ∧ -128 ≤ v.toInt64 ∧ v.toInt64 ≤ 127 then [o8 132, o8 (nI p), o8 v] else [o8 196, o8 132] ++ (o16 (nI p) ++ o16 v)) := by
    intro w q
    show (if p < 256 ∧ -128 ≤ v.toInt64 ∧ v.toInt64 ≤ 127 then [o8 132, o8 (nI p), o8 v.toInt64.toInt32] else [o8 196, o8 132] ++ (o16 (nI p) ++ o16 v.toInt64.toInt32)) = _
    rw [i64_i]
  rw [eX0_grow, if_neg (show ¬ (256 : Int32) ≤ nI p from nI_ge (b := 256) (by omega) (by omega)), sX0_isIn' (by omega), sp_bi, hin]
  by_cases q : -128 ≤ v.toInt64 ∧ v.toInt64 ≤ 127
  · rw [decide_eq_true q.1, decide_eq_true q.2, if_neg (by decide)]
    refine c_em (by omega) a ⟨fun s => by rw [henc, if_pos ⟨hp, q⟩]; rfl, fun _ _ => rfl⟩ (((EK.emit (d := d) (by omega) (nI p)).seq ((EK.emit (by omega) v).seq (EK.id_ _ _ _))))
  · have : (decide (-128 ≤ v.toInt64) && decide (v.toInt64 ≤ 127)) = false := by
      rw [Bool.and_eq_false_iff]
      by_cases z : -128 ≤ v.toInt64
      · exact Or.inr (decide_eq_false (fun w => q ⟨z, w⟩))
      · exact Or.inl (decide_eq_false z)
    rw [this, if_pos (by rfl), bX0_grow_41]
    have e2 := (EK.two (w := p_w P) (M := p_M P) (cf := p_cf P) (d := d) (by omega) v).seq (EK.id_ _ _ _)
    rw [List.append_nil] at e2
    exact c_em (by omega) a ⟨fun s => by rw [henc, if_neg (fun z => q z.2)]; rfl, fun _ _ => rfl⟩ ((EK.emit (d := d) (by omega) 132).seq ((EK.two (by omega) (nI p)).seq e2))
/-- casts -/
theorem c_castq {d : Nat} (hd : 3 ≤ d) (hl : yq x) (a1 a2 : Int32) : kX0 d 63 [.ref 0, .int a1, .int a2] x = some (none, x) := by
  obtain ⟨d, rfl⟩ : ∃ c, d = c + 1 := ⟨d - 1, by omega⟩
  have ce : ∀ cc, kX0 d 37 [.ref 0, .int cc] x = some (none, x) := fun cc => c_codeq (by omega) hl cc
  have c79 : ∀ s0 o4 o5, rX0_cast d (79, [some (.ref 0), some (.int a1), some (.int a2), some (.int s0), o4, o5], [], x) = some (none, x) := by
    intro s0 o4 o5
    rw [bX0_cast_79]; split
    · rfl
    · rw [ce, mj_rV_k]
  have c52 : ∀ s0 s1, rX0_cast d (52, [some (.ref 0), some (.int a1), some (.int a2), some (.int s0), none, none], [.int s1], x) = some (none, x) := by
    intro s0 s1
    rw [bX0_cast_52]; split
    · rw [ce, mj_rV_k]; exact c79 _ _ _
    · rw [ce, mj_rV_k]; exact c79 _ _ _
  have c10 : ∀ s0, rX0_cast d (10, [some (.ref 0), some (.int a1), some (.int a2), none, none, none], [.int s0], x) = some (none, x) := by
    intro s0
    rw [bX0_cast_10]
    repeat' split
    all_goals first | exact c79 _ _ _ | exact c52 _ _
  rw [eX0_cast]; split
  · exact c10 _
  · exact c10 _
theorem c_cast {d n f t : Nat} (hd : 4 ≤ d) (f1 : 1 ≤ f) (f4 : f ≤ 4) (ht : (1 ≤ t ∧ t ≤ 4) ∨ (9 ≤ t ∧ t ≤ 11)) (a : Y1 nt N P X b lm lv x g) (hn : n ≤ g_nl g) : KJ nt N P X b n g (kX0 d 63 [.ref 0, .int (nI f), .int (nI t)] x) x lm lv (w_cast f t g) := by
  obtain ⟨d, rfl⟩ : ∃ c, d = c + 1 := ⟨d - 1, by omega⟩
  -- behind the first code
  have c79 : ∀ (G : wG) (lm1 : Nat → Nat) (lv1 : Nat → Bool) (z : mj_X) (s0 : Int32) (o4 o5 : Option Value), Y1 nt N P X b lm1 lv1 z G → KJ nt N P X b n G (rX0_cast d (79, [some (.ref 0), some (.int (nI f)), some (.int (nI t)), some (.int s0), o4, o5], [], z)) z lm1 lv1 (bif Nat.blt 4 t then w_em (11, t, 0, 0, []) 1 [1] G else G) := by
    intro G lm1 lv1 z s0 o4 o5 q
    rw [bX0_cast_79]
    by_cases h : t ≤ 4
    · rw [if_pos (show nI t ≤ (4 : Int32) from nI_le (b := 4) h (by omega)), show Nat.blt 4 t = false by rw [← Bool.not_eq_true, Nat.blt_eq]; omega]
      exact KJ.id_ q
    · rw [if_neg (show ¬ nI t ≤ (4 : Int32) from nI_ge (a := 4) (by omega) (by omega)), show Nat.blt 4 t = true by rw [Nat.blt_eq]; omega]
      have : t = 9 ∨ t = 10 ∨ t = 11 := by omega
      rcases this with rfl | rfl | rfl <;> exact (c_e1 (by omega) q ⟨fun _ => rfl, fun _ _ => rfl⟩).end_
  have main : ∀ u : Nat, u = (if 4 < t then 1 else t) → KJ nt N P X b n g (rX0_cast d (10, [some (.ref 0), some (.int (nI f)), some (.int (nI t)), none, none, none], [.int (nI u)], x)) x lm lv (w_cast f t g) := by
    intro u hu
    have hu4 : 1 ≤ u ∧ u ≤ 4 := by
      rw [hu]
      by_cases z : 4 < t
      · rw [if_pos z]; omega
      · rw [if_neg z]; omega
    have E : w_cast f t g = bif Nat.blt 4 t then w_em (11, t, 0, 0, []) 1 [1] (bif Nat.beq f u then g else w_em (10, f, u, 0, []) (w_tl f).length (w_tl u) g) else (bif Nat.beq f u then g else w_em (10, f, u, 0, []) (w_tl f).length (w_tl u) g) := by
      unfold w_cast; rw [← hu]
    rw [E, bX0_cast_10]
    by_cases q : f = u
    · rw [if_pos (by rw [q]), show Nat.beq f u = true by rw [Nat.beq_eq]; exact q]
      exact c79 g lm lv x _ none none a
    · rw [if_neg (fun z => q ((nI_eq (by omega) (by omega)).mp z)), show Nat.beq f u = false by rw [← Bool.not_eq_true, Nat.beq_eq]; exact q]
      have c52 : ∀ s1 : Int32, (∀ w p, w_enc w w_z p (10, f, u, 0, []) = [o8 (if nI f ≤ nI u then s1 + (nI u - 2) else s1 + (nI u - 1))]) → KJ nt N P X b n g (rX0_cast d (52, [some (.ref 0), some (.int (nI f)), some (.int (nI t)), some (.int (nI u)), none, none], [.int s1], x)) x lm lv (bif Nat.blt 4 t then w_em (11, t, 0, 0, []) 1 [1] (w_em (10, f, u, 0, []) (w_tl f).length (w_tl u) g) else w_em (10, f, u, 0, []) (w_tl f).length (w_tl u) g) := by
        intro s1 he
        rw [bX0_cast_52]
        by_cases z : nI f ≤ nI u
        · rw [if_pos z]
          refine KJ.bi (Nat.le_refl _) (c_e1 (off := (w_tl f).length) (on := w_tl u) (by omega) a ⟨fun p => by rw [he, if_pos z], fun _ _ => rfl⟩) (fun lm1 lv1 x1 q1 l1 f1 t1 => c79 _ lm1 lv1 x1 _ _ _ q1)
        · rw [if_neg z]
          refine KJ.bi (Nat.le_refl _) (c_e1 (off := (w_tl f).length) (on := w_tl u) (by omega) a ⟨fun p => by rw [he, if_neg z], fun _ _ => rfl⟩) (fun lm1 lv1 x1 q1 l1 f1 t1 => c79 _ lm1 lv1 x1 _ _ _ q1)
      have hf : f = 1 ∨ f = 2 ∨ f = 3 ∨ f = 4 := by omega
      have hu5 : u = 1 ∨ u = 2 ∨ u = 3 ∨ u = 4 := by omega
      clear hu E
      rcases hf with rfl | rfl | rfl | rfl
      · rw [if_pos (by rfl)]
        refine c52 133 (fun w p => ?_)
        rcases hu5 with rfl | rfl | rfl | rfl <;> first | exact absurd rfl q | rfl
      · rw [if_neg (by decide), if_pos (by rfl)]
        refine c52 136 (fun w p => ?_)
        rcases hu5 with rfl | rfl | rfl | rfl <;> first | exact absurd rfl q | rfl
      · rw [if_neg (by decide), if_neg (by decide), if_pos (by rfl)]
        refine c52 139 (fun w p => ?_)
        rcases hu5 with rfl | rfl | rfl | rfl <;> first | exact absurd rfl q | rfl
      · rw [if_neg (by decide), if_neg (by decide), if_neg (by decide)]
        refine c52 142 (fun w p => ?_)
        rcases hu5 with rfl | rfl | rfl | rfl <;> first | exact absurd rfl q | rfl
  rw [eX0_cast]
  by_cases h : t ≤ 4
  · rw [if_pos (show nI t ≤ (4 : Int32) from nI_le (b := 4) h (by omega))]
    exact main t (by rw [if_neg (by omega)])
  · rw [if_neg (show ¬ nI t ≤ (4 : Int32) from nI_ge (a := 4) (by omega) (by omega))]
    exact main 1 (by rw [if_pos (by omega)])
/-- calls -/
theorem c_inv {d n s off : Nat} {v : Int64} {on : List Nat} (hd : 4 ≤ d) (hs : s < 100) (hn : n ≤ g_nl g) (a : Y1 nt N P X b lm lv x g) (hok : g_ok (w_pe 15 s v off on g)) : KJ nt N P X b n g (kX0 d 54 [.ref 0, .int (nI s), .long v] x) x lm lv (w_pe 15 s v off on g) := by
  obtain ⟨d, rfl⟩ : ∃ c, d = c + 1 := ⟨d - 1, by omega⟩
  rw [eX0_invoke]
  by_cases hl : yq x
  · by_cases h30 : x.1 0 30 = 0
    · rw [if_pos h30]
      exact KJ.quiet a (Or.inl h30) rfl ((wM.rf g).pe _ _ _ _ _) w_pe_n.2 (fun z => w_pe_q z) hn
    · have h29 : ¬ x.1 0 29 = 0 := hl.resolve_left h30
      rw [if_neg h30]
      obtain ⟨i, x1, e1, q1, f1, z1⟩ := c_poolM (d := d) (by omega) (s := nI s) (v := v) a h29
      have e : mj_rI (kX0 d 51 [.ref 0, .int (nI s), .long v] x) (fun v2 x1 => mj_rV (kX0 d 37 [.ref 0, .int (184 : Int32)] x1) fun x3 => mj_rV (kX0 d 42 [.ref 0, .int v2] x3) fun x4 => some (none, x4)) = some (none, x1) := by
        rw [e1, mj_rI_k, c_codeq (by omega) (Or.inr z1), mj_rV_k, e42 (d := d) (by omega) i x1 (Or.inr z1), mj_rV_k]
      obtain ⟨lm2, lv2, x2, e2, q2, l2, f2, t2⟩ := KJ.skip (n := n) q1 z1 ((wM.rf g).pe 15 s v off on) w_pe_n.2 hn
      injection e2 with e2
      injection e2 with e2 e3
      subst e3
      exact ⟨lm2, lv2, x1, e, q2, l2, f1, fun w => absurd w z1⟩
  · obtain ⟨h29, h30, hq⟩ := a.live hl
    rw [if_neg (by rw [h30]; decide)]
    refine c_pe (cc := 184) (bs := o16 (nI (w_px s v (g_po g)))) (by omega) a h29 hq hok hs (fun _ => ⟨_, fun z => rfl, ?_, ⟨fun p => rfl, fun _ _ => rfl⟩⟩)
    have := (EK.two (w := p_w P) (M := p_M P) (cf := p_cf P) (d := d) (by omega) (nI (w_px s v (g_po g)))).seq (EK.id_ _ _ _)
    rw [List.append_nil] at this; exact this
/-- what is put into bytes is cut -/
theorem c_cut {d n : Nat} {tg : Int32} (hd : 3 ≤ d) (hT : ∃ M res par, wTb nt N M res par) (h1 : sp_nd N tg = true) (h2 : sp_nd N (nA nt tg) = true) (a : Y1 nt N P X b lm lv x g) : KJ nt N P X b n g (kX0 d 43 [.ref 0, .int tg] x) x lm lv (w_cut (Nat.beq (nT nt (nA nt tg)) 5) g) := by
  obtain ⟨d, rfl⟩ : ∃ c, d = c + 1 := ⟨d - 1, by omega⟩
  obtain ⟨M, res, par, hT⟩ := hT
  rw [eX0_cutByte, a.nd h1, a.T.2.1, a.nd h2, a.T.2.2.2.1, hT.ty h2]
  have t8 := (hT.t h2).1
  by_cases q : nT nt (nA nt tg) = 5
  · rw [if_pos (by rw [q]; rfl), q]
    exact (c_e1 (by omega) a ⟨fun _ => rfl, fun _ _ => rfl⟩).end_
  · rw [if_neg (fun (z : nI (nT nt (nA nt tg)) = (5 : Int32)) => q ((nI_eq (b := 5) (by omega) (by omega)).mp z)), show Nat.beq (nT nt (nA nt tg)) 5 = false by rw [← Bool.not_eq_true, Nat.beq_eq]; exact q]
    exact KJ.id_ a
theorem c_cutq {d : Nat} {tg : Int32} (hd : 3 ≤ d) (h1 : sp_nd N tg = true) (h2 : sp_nd N (nA nt tg) = true) (a : Y1 nt N P X b lm lv x g) (hl : yq x) : kX0 d 43 [.ref 0, .int tg] x = some (none, x) := by
  obtain ⟨d, rfl⟩ : ∃ c, d = c + 1 := ⟨d - 1, by omega⟩
  rw [eX0_cutByte, a.nd h1, a.T.2.1, a.nd h2]
  split
  · rw [c_codeq (by omega) hl, mj_rV_k]
  · rfl
theorem c_bin {d n k t : Nat} {w1 w2 : Int32} {kk : mj_X → mj_R} {G : wG} {n1 : Nat} (hd : 2 ≤ d) (k1 : 10 ≤ k) (k2 : k ≤ 20) (t1 : 1 ≤ t) (t4 : t ≤ 4) (e1 : w1 = nI k) (e2 : w2 = nI t) (hn : n ≤ n1) (a : Y1 nt N P X b lm lv x g)
    (hk : ∀ lm' lv' x', Y1 nt N P X b lm' lv' x' (w_bin k t g) → (∀ l, l < n1 → lm' l = lm l ∧ lv' l = lv l) → yfr (yw (p_pf P) (p_lf P)) (p_pf P) x x' → (x'.1 0 29 = 0 → x.1 0 29 = 0) → KJ nt N P X b n (w_bin k t g) (kk x') x' lm' lv' G) :
    KJ nt N P X b n g (mj_rI (kX0 d 52 [.int w1, .int w2] x) fun v x1 => mj_rV (kX0 d 37 [.ref 0, .int v] x1) kk) x lm lv G := by
  rw [e1, e2, sX0_opOf (by omega) k1 k2 t1 t4, mj_rI_k]
  exact KJ.bi hn (c_e1 (n := n1) hd a ⟨fun _ => rfl, fun _ _ => rfl⟩) hk
end
