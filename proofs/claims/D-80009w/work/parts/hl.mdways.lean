/-! statements of CodeWriterModel: ways out -/
/-- the number of the context so many further out -/
def z_at (V : List wSl) (k : Nat) : Int32 := match V.drop k with | [] => -1 | s :: _ => nI s.1
theorem z_ch.at0 {V : List wSl} {hr : Int32} {k : Nat} (h : z_ch hr k V) : hr = z_at V 0 := by
  cases V with
  | nil => exact h
  | cons s r => exact h.1
theorem z_at_s (s : wSl) (r : List wSl) (k : Nat) : z_at (s :: r) (k + 1) = z_at r k := rfl
theorem nI_nm1 {n : Nat} (h : n < 2147483648) : ¬ nI n = (-1 : Int32) := fun e => by
  have := congrArg Int32.toInt e
  rw [nI_toInt h] at this
  have h2 : (-1 : Int32).toInt = -1 := rfl
  omega
theorem z_at_ne {s : wSl} {r : List wSl} {k : Nat} {hr : Int32} (h : z_ch hr s.1 r) (hs : s.1 < 4000) : ¬ nI s.1 = z_at r k := by
  intro e
  unfold z_at at e
  split at e
  · exact nI_nm1 (by omega) e
  · rename_i t q hd
    have ht : t ∈ r := List.mem_of_mem_drop (by rw [hd]; simp : t ∈ r.drop k)
    have := h.lt t ht
    have := (nI_eq (by omega) (by omega)).mp e
    omega
/-- the first so many contexts go on from a place -/
def zon : Nat → Nat → List wSl → List wSl
  | 0, _, B => B
  | _ + 1, _, [] => []
  | k + 1, n, s :: r => (s.1, s.2.1, w_from n s.2.2) :: zon k n r
theorem zon_c (n : Nat) : ∀ (k : Nat) (B : List wSl), (zon k n B).map (fun s => s.2.2) = w_on k n (B.map (fun s => s.2.2)) ∧ z_skl (zon k n B) = z_skl B := by
  intro k
  induction k with
  | zero => intro B; exact ⟨rfl, rfl⟩
  | succ k ih => intro B; cases B with
    | nil => exact ⟨rfl, rfl⟩
    | cons s r =>
      obtain ⟨a, b⟩ := ih r
      exact ⟨by show w_from n s.2.2 :: _ = w_from n s.2.2 :: _; rw [a], by show (s.1, s.2.1) :: z_skl (zon k n r) = (s.1, s.2.1) :: z_skl r; rw [b]⟩
def z67 (k _ : Nat) : Bool := match k with
  | 67 => true
  | _ => false
section
variable {nt : sp_NT} {N M : Nat} {w : Bool} {ba pf rf lf c hp : Nat} {H V : List wSl} {K u : Nat} {o : Option Int32} {lm lm' : Nat → Nat} {lv lv' : Nat → Bool} {x y : mj_X} {g G : wG}
theorem z67_zw2 (f : zfr z67 x y) : zfr (zw2 ba pf rf lf) x y := f.mono (fun k j h => by
  unfold zw2 at h
  rw [Bool.or_eq_false_iff] at h
  unfold z67
  split
  · simp at h
  · rfl)
theorem mem_mid {α : Type} {A B H : List α} {t a : α} (h : a ∈ H ++ (A ++ t :: B)) : a = t ∨ a ∈ H ++ (A ++ B) := by
  simp only [List.mem_append, List.mem_cons] at h ⊢
  rcases h with q | q | q | q
  · exact Or.inr (Or.inl q)
  · exact Or.inr (Or.inr (Or.inl q))
  · exact Or.inl q
  · exact Or.inr (Or.inr (Or.inr q))
theorem mem_mid2 {α : Type} {A B H : List α} (t : α) {a : α} (h : a ∈ H ++ (A ++ B)) : a ∈ H ++ (A ++ t :: B) := by
  simp only [List.mem_append, List.mem_cons] at h ⊢
  rcases h with q | q | q
  · exact Or.inl q
  · exact Or.inr (Or.inl q)
  · exact Or.inr (Or.inr (Or.inr q))
theorem pw_mid {H A B : List wSl} {s : wSl} (h : (H ++ (A ++ s :: B)).Pairwise (fun a b => a.1 ≠ b.1)) : ∀ t, t ∈ H ++ (A ++ B) → t.1 ≠ s.1 := by
  have p : (H ++ (A ++ s :: B)).Perm (s :: (H ++ (A ++ B))) := by rw [← List.append_assoc, ← List.append_assoc]; exact List.perm_middle
  have := (p.pairwise_iff (fun {a b} h => h.symm)).mp h
  exact fun t ht => ((List.pairwise_cons.mp this).1 t ht).symm
/-- one context goes on from here -/
theorem Q2.frm {A B : List wSl} {s : wSl} {cs : List wC} (h : Q2 nt N M w ba pf rf lf c hp H K u o (A ++ s :: B) lm lv x (s_cx cs g)) : Q2 nt N M w ba pf rf lf c hp H K u o (A ++ (s.1, s.2.1, w_from (g_it g).length s.2.2) :: B) lm lv (mj_wI x 67 s.1 (x.1 0 32)) (s_cx (A.map (fun s => s.2.2) ++ w_from (g_it g).length s.2.2 :: B.map (fun s => s.2.2)) g) := by
  obtain ⟨hlm, he, ⟨s1, s2, s3, s4, s5, s6, s7, s8, s9⟩, hX⟩ := h
  have f : zfr zo x (mj_wI x 67 s.1 (x.1 0 32)) := (zfr.rf _ x).w _ rfl
  have hcs : cs = A.map (fun s => s.2.2) ++ s.2.2 :: B.map (fun s => s.2.2) := by have s1 : _ = cs := s1; rw [← s1, List.map_append]; rfl
  have np : ∀ (P Q : List wC) (c d : wC), (c_ps d).length = (c_ps c).length → w_np (P ++ d :: Q) = w_np (P ++ c :: Q) := by
    intro P
    induction P with
    | nil => intro Q c d e; show (c_ps d).length + _ = (c_ps c).length + _; rw [e]
    | cons a P ih => intro Q c d e; show (c_ps a).length + w_np (P ++ d :: Q) = (c_ps a).length + w_np (P ++ c :: Q); rw [ih Q c d e]
  have hph : w_ph (s_cx (A.map (fun s => s.2.2) ++ w_from (g_it g).length s.2.2 :: B.map (fun s => s.2.2)) g) = w_ph (s_cx cs g) := by
    show (g_rg g).length + w_np _ = (g_rg g).length + w_np cs
    have e := np (A.map (fun s : wSl => s.2.2)) (B.map (fun s : wSl => s.2.2)) s.2.2 (w_from (g_it g).length s.2.2) rfl
    rw [hcs]
    show (g_rg g).length + w_np (A.map (fun s => s.2.2) ++ w_from (g_it g).length s.2.2 :: B.map (fun s => s.2.2)) = _
    rw [e]
  have ix : (A ++ (s.1, s.2.1, w_from (g_it g).length s.2.2) :: B).map (fun s => s.1) = (A ++ s :: B).map (fun s => s.1) := by rw [List.map_append, List.map_append]; rfl
  have sk : z_skl (A ++ (s.1, s.2.1, w_from (g_it g).length s.2.2) :: B) = z_skl (A ++ s :: B) := by unfold z_skl; rw [List.map_append, List.map_append]; rfl
  have hmem : s ∈ H ++ (A ++ s :: B) := by simp
  refine ⟨hlm, he.ofzo f, ⟨by rw [List.map_append]; rfl, s2, s3, s4, s5, s6.skl sk, ?_, fun t ht => ?_, s9⟩, ?_⟩
  · exact pw_ne (by simp) s7
  · rcases mem_mid ht with rfl | q
    · exact s8 s hmem
    · exact s8 t (mem_mid2 s q)
  · rcases hX with ⟨h0, q, a1, a2, a3, a4, n, ps, b1, b2, b3, b4⟩ | ⟨h0, hm, ho⟩
    · have q1 := q.2.2.resolve_right (fun p => absurd h0 (by rw [p.1.1]; decide))
      have h32 : x.1 0 32 = nI (w_by_ w w_z (g_it g)).length := q1.2.2.1.2.2.1
      refine Or.inl ⟨h0, q.ext f ⟨rfl, rfl, rfl, rfl, rfl, rfl, rfl, rfl, rfl, rfl⟩ (Nat.le_of_eq hph.symm), a1, a2, a3, fun t ht => ?_, n, ps, b1, by rw [hph]; exact b2, fun t ht => ?_, fun a b ha hb hab => ?_⟩
      · rcases mem_mid ht with rfl | q
        · exact a4 s hmem
        · exact a4 t (mem_mid2 s q)
      · rcases mem_mid ht with rfl | q
        · obtain ⟨⟨c1, c2, c3⟩, c4⟩ := b3 s hmem
          refine ⟨⟨?_, Nat.le_refl _, c3⟩, c4⟩
          show upd (x.1 67) s.1 (x.1 0 32) s.1 = nI (w_at w (g_it g) (g_it g).length)
          rw [pk_us, h32, w_at_len]
        · obtain ⟨⟨c1, c2, c3⟩, c4⟩ := b3 t (mem_mid2 s q)
          refine ⟨⟨?_, c2, c3⟩, c4⟩
          show upd (x.1 67) s.1 (x.1 0 32) t.1 = _
          rw [pk_un (pw_mid s7 t q)]; exact c1
      · have r : ∀ t, t ∈ H ++ (A ++ (s.1, s.2.1, w_from (g_it g).length s.2.2) :: B) → ∃ t', t' ∈ H ++ (A ++ s :: B) ∧ t'.1 = t.1 := by
          intro t ht
          rcases mem_mid ht with rfl | q
          · exact ⟨s, hmem, rfl⟩
          · exact ⟨t, mem_mid2 s q, rfl⟩
        obtain ⟨a', ha', ea⟩ := r a ha
        obtain ⟨b', hb', eb⟩ := r b hb
        rw [← ea, ← eb]
        exact b4 a' b' ha' hb' (by rw [ea, eb]; exact hab)
    · refine Or.inr ⟨h0, hm.ofzo f, ?_⟩
      unfold w_over at *
      rw [hph]; exact ho
theorem Q2.sk (h : Q2 nt N M w ba pf rf lf c hp H K u o V lm lv x g) {s : wSl} (hs : s ∈ H ++ V) : z_sk x s := (h.2.2.1.2.2.2.2.2.2.2.1 s hs).2
theorem m_goOn {d : Nat} (hd : 1 ≤ d) {k : Nat} (h : Q2 nt N M w ba pf rf lf c hp H K u none V lm lv x g) (hk : k ≤ V.length) :
    ∃ x', kX1 d 88 [.ref 0, .int (z_at V k)] x = some (none, x') ∧ Q2 nt N M w ba pf rf lf c hp H K u none (zon k (g_it g).length V) lm lv x' (w_gon k g) ∧ zfr z67 x x' := by
  obtain ⟨d, rfl⟩ : ∃ c, d = c + 1 := ⟨d - 1, by omega⟩
  have h58 := h.2.2.1.2.2.2.2.2.1
  rw [eX1_goOn, show x.1 0 59 = z_at V 0 from h58.at0]
  have loop : ∀ (B A : List wSl) (k : Nat) (hr : Int32) (kk : Nat) (y : mj_X), z_ch hr kk B → k ≤ B.length → zfr z67 x y → Q2 nt N M w ba pf rf lf c hp H K u none (A ++ B) lm lv y (s_cx (A.map (fun s => s.2.2) ++ B.map (fun s => s.2.2)) g) →
      ∃ x', rX1_goOn d (5, [some (.ref 0), some (.int (z_at B k)), some (.int (z_at B 0))], [], y) = some (none, x') ∧ Q2 nt N M w ba pf rf lf c hp H K u none (A ++ zon k (g_it g).length B) lm lv x' (s_cx (A.map (fun s => s.2.2) ++ w_on k (g_it g).length (B.map (fun s => s.2.2))) g) ∧ zfr z67 x x' := by
    intro B
    induction B with
    | nil =>
      intro A k hr kk y hch hk f q
      have : k = 0 := by simpa using hk
      subst this
      rw [bX1_goOn_5, if_pos rfl]
      exact ⟨y, rfl, q, f⟩
    | cons s r ih =>
      intro A k hr kk y hch hk f q
      cases k with
      | zero =>
        rw [bX1_goOn_5, if_pos rfl]
        exact ⟨y, rfl, q, f⟩
      | succ k =>
        have hlt := q.lt (s := s) (by simp)
        rw [z_at_s, bX1_goOn_5]
        show ∃ x', (if nI s.1 = z_at r k then _ else _) = _ ∧ _
        have ndz : ∀ R, mj_g (z_at (s :: r) 0) 4000 R = R := fun R => nI_nd (by omega) R
        rw [if_neg (z_at_ne hch.2.2 (by omega)), ndz, ndz, show (z_at (s :: r) 0).toNatClampNeg = s.1 from nI_cl (by omega), (q.sk (s := s) (by simp)).2.1, hch.2.2.at0]
        have q2 := q.frm
        have e : (A ++ (s.1, s.2.1, w_from (g_it g).length s.2.2) :: r) = (A ++ [(s.1, s.2.1, w_from (g_it g).length s.2.2)]) ++ r := by simp
        obtain ⟨x', e1, q1, f1⟩ := ih (A ++ [(s.1, s.2.1, w_from (g_it g).length s.2.2)]) k s.2.1 s.1 _ hch.2.2 (by simpa using hk) (f.w _ rfl) (by rw [← e, List.map_append, List.append_assoc]; exact q2)
        refine ⟨x', e1, ?_, f1⟩
        rw [List.append_assoc, List.map_append, List.append_assoc] at q1
        exact q1
  have s1 := h.2.2.1.1
  have := loop V [] k _ _ x h58 hk (zfr.rf _ x) (by rw [List.map_nil, List.nil_append, List.nil_append, s1]; exact h)
  rw [List.map_nil, List.nil_append, List.nil_append, s1] at this
  exact this
theorem nI_dec (e : Nat) : nI (e + 1) + (-1 : Int32) = nI e := by
  rw [← nI_pred e, Int32.sub_eq_add_neg]
theorem w_tg_c (lp : Bool) (e : Nat) (c : wC) (r : List wC) : w_tg lp e (c :: r) = if c.1 = 0 ∨ (c.1 = 1 ∧ lp = false) then (match e with | 0 => 0 | e + 1 => 1 + w_tg lp e r) else 1 + w_tg lp e r := by cases e <;> rfl
theorem m_target {d : Nat} (hd : 1 ≤ d) {e : Nat} (he : e < 2147483648) (lp : Bool) (h : Q2 nt N M w ba pf rf lf c hp H K u none V lm lv x g) :
    kX1 d 83 [.ref 0, .int (nI e), .int (sp_b lp)] x = some (some (.int (z_at V (w_tg lp e (g_cx g)))), x) := by
  obtain ⟨d, rfl⟩ : ∃ c, d = c + 1 := ⟨d - 1, by omega⟩
  have h58 := h.2.2.1.2.2.2.2.2.1
  have s1 := h.2.2.1.1
  rw [eX1_target, show x.1 0 59 = z_at V 0 from h58.at0, ← s1]
  have loop : ∀ (B : List wSl) (e : Nat) (hr : Int32) (kk : Nat) (a1 : Int32), e < 2147483648 → z_ch hr kk B → (∀ s, s ∈ B → s ∈ V) → rX1_target d (8, [some (.ref 0), some (.int a1), some (.int (sp_b lp)), some (.int (nI e)), some (.int (z_at B 0))], [], x) = some (some (.int (z_at B (w_tg lp e (B.map (fun s => s.2.2))))), x) := by
    intro B
    induction B with
    | nil => intro e hr kk a1 _ _ _; rw [bX1_target_8]; rfl
    | cons s r ih =>
      intro e hr kk a1 he hch hB
      have hs : s ∈ H ++ V := List.mem_append.mpr (Or.inr (hB s (by simp)))
      have hlt := h.lt hs
      obtain ⟨k1, k2, k3, -⟩ := h.sk hs
      have hr' : ∀ t, t ∈ r → t ∈ V := fun t ht => hB t (List.mem_cons_of_mem _ ht)
      have ndz : ∀ R, mj_g (z_at (s :: r) 0) 4000 R = R := fun R => nI_nd (by omega) R
      rw [bX1_target_8]
      show (if nI s.1 < 0 then _ else mj_g (nI s.1) 4000 _) = _
      rw [if_neg (Int32.not_lt.mpr (nI_nneg (by omega))), nI_nd (by omega), show (z_at (s :: r) 0).toNatClampNeg = s.1 from nI_cl (by omega), k1, k2]
      have go : rX1_target d (8, [some (.ref 0), some (.int a1), some (.int (sp_b lp)), some (.int (nI e)), some (.int s.2.1)], [], x) = some (some (.int (z_at (s :: r) (1 + w_tg lp e (r.map (fun s => s.2.2))))), x) := by
        rw [hch.2.2.at0, ih e s.2.1 s.1 a1 he hch.2.2 hr', Nat.add_comm, z_at_s]
      have hit : (s.2.2.1 = 0 ∨ (s.2.2.1 = 1 ∧ lp = false)) → rX1_target d (38, [some (.ref 0), some (.int a1), some (.int (sp_b lp)), some (.int (nI e)), some (.int (z_at (s :: r) 0))], [], x) = some (some (.int (z_at (s :: r) (w_tg lp e ((s :: r).map (fun s => s.2.2))))), x) := by
        intro hq
        have hw : w_tg lp e ((s :: r).map (fun s => s.2.2)) = (match e with | 0 => 0 | e + 1 => 1 + w_tg lp e (r.map (fun s => s.2.2))) := by
          show w_tg lp e (s.2.2 :: r.map (fun s => s.2.2)) = _
          rw [w_tg_c, if_pos hq]
        rw [hw, bX1_target_38]
        cases e with
        | zero => rw [if_pos (by rfl)]
        | succ e =>
          rw [if_neg (fun q => by have := (nI_eq (b := 0) (by omega) (by omega)).mp q; omega)]
          show mj_g (nI s.1) 4000 _ = _
          rw [nI_nd (by omega), show (z_at (s :: r) 0).toNatClampNeg = s.1 from nI_cl (by omega), k2, nI_dec e, hch.2.2.at0, ih e s.2.1 s.1 a1 (by omega) hch.2.2 hr']
          show _ = some (some (Value.int (z_at (s :: r) (1 + w_tg lp e (r.map (fun s => s.2.2))))), x)
          rw [Nat.add_comm 1, z_at_s]
      have miss : ¬ (s.2.2.1 = 0 ∨ (s.2.2.1 = 1 ∧ lp = false)) → w_tg lp e ((s :: r).map (fun s => s.2.2)) = 1 + w_tg lp e (r.map (fun s => s.2.2)) := by
        intro hq
        show w_tg lp e (s.2.2 :: r.map (fun s => s.2.2)) = _
        rw [w_tg_c, if_neg hq]
      by_cases q0 : s.2.2.1 = 0
      · rw [if_pos (by rw [q0]; rfl)]; exact hit (Or.inl q0)
      · rw [if_neg (show ¬ nI s.2.2.1 = (0 : Int32) from fun e => q0 ((nI_eq (b := 0) (by omega) (by omega)).mp e)), ndz]
        by_cases q1 : s.2.2.1 = 1
        · rw [if_pos (by rw [q1]; rfl)]
          cases lp
          · rw [if_pos (by rfl)]; exact hit (Or.inr ⟨q1, rfl⟩)
          · rw [if_neg (by decide), ndz, go, miss (fun q => by rcases q with q | q; exact q0 q; simp at q)]
        · rw [if_neg (show ¬ nI s.2.2.1 = (1 : Int32) from fun e => q1 ((nI_eq (b := 1) (by omega) (by omega)).mp e)), ndz, go, miss (fun q => by rcases q with q | q; exact q0 q; exact q1 q.1)]
  exact loop V e _ _ _ he h58 (fun s hs => hs)
theorem m_leavesEnds {d : Nat} (hd : 1 ≤ d) (h : Q2 nt N M w ba pf rf lf c hp H K u none V lm lv x g) :
    kX1 d 90 [.ref 0, .int (-1)] x = some (some (.int (sp_b ((g_cx g).any (fun c => Nat.ble 3 c.1)))), x) := by
  obtain ⟨d, rfl⟩ : ∃ c, d = c + 1 := ⟨d - 1, by omega⟩
  have h58 := h.2.2.1.2.2.2.2.2.1
  have s1 := h.2.2.1.1
  rw [eX1_leavesEnds, show x.1 0 59 = z_at V 0 from h58.at0, ← s1]
  have loop : ∀ (B : List wSl) (b : Bool) (hr : Int32) (kk : Nat), z_ch hr kk B → (∀ s, s ∈ B → s ∈ V) → rX1_leavesEnds d (7, [some (.ref 0), some (.int (-1)), some (.int (sp_b b)), some (.int (z_at B 0))], [], x) = some (some (.int (sp_b (b || (B.map (fun s => s.2.2)).any (fun c => Nat.ble 3 c.1)))), x) := by
    intro B
    induction B with
    | nil => intro b hr kk _ _; rw [bX1_leavesEnds_7]; show (if (-1 : Int32) = -1 then _ else _) = _; rw [if_pos rfl, mj_gb_b]; cases b <;> rfl
    | cons s r ih =>
      intro b hr kk hch hB
      have hs : s ∈ H ++ V := List.mem_append.mpr (Or.inr (hB s (by simp)))
      have hlt := h.lt hs
      obtain ⟨k1, k2, k3, -⟩ := h.sk hs
      have hr' : ∀ t, t ∈ r → t ∈ V := fun t ht => hB t (List.mem_cons_of_mem _ ht)
      have ndz : ∀ R, mj_g (z_at (s :: r) 0) 4000 R = R := fun R => nI_nd (by omega) R
      have any : ((s :: r).map (fun s => s.2.2)).any (fun c => Nat.ble 3 c.1) = (Nat.ble 3 s.2.2.1 || (r.map (fun s => s.2.2)).any (fun c => Nat.ble 3 c.1)) := rfl
      have one : rX1_leavesEnds d (26, [some (.ref 0), some (.int (-1)), some (.int (sp_b b)), some (.int (z_at (s :: r) 0))], [], x) = some (some (.int (sp_b true)), x) := by
        rw [bX1_leavesEnds_26]
        show mj_g (nI s.1) 4000 _ = _
        rw [nI_nd (by omega), show (z_at (s :: r) 0).toNatClampNeg = s.1 from nI_cl (by omega), k2, hch.2.2.at0]
        have := ih true s.2.1 s.1 hch.2.2 hr'
        rw [Bool.true_or] at this
        exact this
      rw [bX1_leavesEnds_7]
      show (if nI s.1 = (-1 : Int32) then _ else _) = _
      rw [if_neg (nI_nm1 (by omega)), any]
      cases b
      · rw [if_pos (by rfl)]
        show mj_g (nI s.1) 4000 _ = _
        rw [nI_nd (by omega), show (z_at (s :: r) 0).toNatClampNeg = s.1 from nI_cl (by omega), k1]
        by_cases q : 3 ≤ s.2.2.1
        · rw [if_neg (show ¬ nI s.2.2.1 < (3 : Int32) from nI_nlt (b := 3) q (by omega)), one, Nat.ble_eq_true_of_le q]; rfl
        · rw [if_pos (show nI s.2.2.1 < (3 : Int32) from nI_lt (b := 3) (by omega) (by omega)), ndz, k2, hch.2.2.at0]
          have := ih false s.2.1 s.1 hch.2.2 hr'
          rw [show Nat.ble 3 s.2.2.1 = false by rw [← Bool.not_eq_true, Nat.ble_eq]; exact q]
          exact this
      · rw [if_neg (by decide), one]; rfl
  have := loop V false _ _ h58 (fun s hs => hs)
  exact this
end
