/-! statements of CodeWriterModel: pieces and ranges -/
theorem z_lnk.mono {nxt nxt' : Nat → Int32} : ∀ {ps : List Nat} {v : Int32}, z_lnk nxt v ps → (∀ p, p ∈ ps → nxt' p = nxt p) → z_lnk nxt' v ps := by
  intro ps
  induction ps with
  | nil => intro v _ _; trivial
  | cons p r ih => intro v h e; exact ⟨by rw [e p (by simp)]; exact h.1, ih h.2 (fun q hq => e q (List.mem_cons_of_mem _ hq))⟩
theorem z_pcs.mono {w : Bool} {its : List (wI × wF)} {a70 a71 b70 b71 : Nat → Int32} : ∀ {ps : List Nat} {qs : List (Nat × Nat)}, z_pcs w its a70 a71 ps qs → (∀ p, p ∈ ps → b70 p = a70 p ∧ b71 p = a71 p) → z_pcs w its b70 b71 ps qs := by
  intro ps
  induction ps with
  | nil => intro qs h _; cases qs with
    | nil => trivial
    | cons q r => exact h
  | cons p r ih => intro qs h e; cases qs with
    | nil => exact h
    | cons q s =>
      have := e p (by simp)
      exact ⟨by rw [this.1, this.2]; exact h.1, ih h.2 (fun a ha => e a (List.mem_cons_of_mem _ ha))⟩
theorem z_fst_cons (n : Nat) (ps : List Nat) : z_fst (n :: ps) = match ps with | [] => nI n | _ :: _ => z_fst ps := by cases ps <;> rfl
theorem z_fst_mem : ∀ (ps : List Nat), ps ≠ [] → ∃ p, p ∈ ps ∧ z_fst ps = nI p := by
  intro ps
  induction ps with
  | nil => intro h; exact absurd rfl h
  | cons p r ih =>
    intro _
    rw [z_fst_cons]
    cases r with
    | nil => exact ⟨p, by simp, rfl⟩
    | cons q s => obtain ⟨a, b, e⟩ := ih (by simp); exact ⟨a, List.mem_cons_of_mem _ b, e⟩
theorem nI_nneg {n : Nat} (h : n < 2147483648) : (0 : Int32) ≤ nI n := by rw [Int32.le_iff_toInt_le, nI_toInt h]; show (0 : Int) ≤ _; omega
/-- what a piece changes -/
def zpc (k j : Nat) : Bool := match k with
  | 0 => [34, 72].elem j
  | 67 => true
  | 68 => true
  | 69 => true
  | 70 => true
  | 71 => true
  | 72 => true
  | _ => false
section
variable {nt : sp_NT} {N M : Nat} {w : Bool} {ba pf rf lf c hp : Nat} {H V : List wSl} {K u : Nat} {o : Option Int32} {lm lm' : Nat → Nat} {lv lv' : Nat → Bool} {x y : mj_X} {g G : wG}
theorem zpc_zw2 (f : zfr zpc x y) : zfr (zw2 ba pf rf lf) x y := f.mono (fun k j h => by
  unfold zw2 at h
  rw [Bool.or_eq_false_iff] at h
  unfold zpc
  split
  · have h2 := h.1; have h1 := h.2; simp [zw] at h1 h2 ⊢; omega
  all_goals first | (simp at h; done) | rfl)
theorem m_piece {d : Nat} (hd : 1 ≤ d) {s : wSl} (hs2 : 2 ≤ s.2.2.1) (h : Q2 nt N M w ba pf rf lf c hp H K u o (s :: V) lm lv x g) :
    ∃ x', kX1 d 86 [.ref 0, .int (nI s.1)] x = some (none, x') ∧ Q2 nt N M w ba pf rf lf c hp H K u o ((s.1, s.2.1, w_pc (g_it g).length s.2.2) :: V) lm lv x' (s_cx (w_pc (g_it g).length s.2.2 :: (g_cx g).tail) g) ∧ zfr zpc x x' ∧ (¬ x.1 0 34 = 0 → ¬ x'.1 0 34 = 0) := by
  obtain ⟨d, rfl⟩ : ∃ c, d = c + 1 := ⟨d - 1, by omega⟩
  have hlt := h.lt (s := s) (by simp)
  have h4 : s.1 < 4000 := by omega
  obtain ⟨hlm, he, ⟨s1, s2, s3, s4, s5, s6, s7, s8, ⟨n0, n0a, n0b⟩, s10⟩, hX⟩ := h
  have hcx : g_cx g = s.2.2 :: V.map (fun s => s.2.2) := s1.symm
  have tl : (g_cx g).tail = V.map (fun s => s.2.2) := by rw [hcx]; rfl
  -- what holds of the contexts in both modes
  have str : ∀ y : mj_X, zfr zpc x y → (∃ n, n ≤ 30000 ∧ y.1 0 72 = nI n) → (y.1 68 s.1 < 0 ∨ ∃ p, p < 30000 ∧ y.1 69 s.1 = nI p) → (∀ t, t ∈ H ++ V → y.1 68 t.1 = x.1 68 t.1 ∧ y.1 69 t.1 = x.1 69 t.1) → zS M rf H ((s.1, s.2.1, w_pc (g_it g).length s.2.2) :: V) K u o y (w_pc (g_it g).length s.2.2 :: (g_cx g).tail) := by
    intro y f hn h68 ho
    have e := f.2
    refine ⟨by show _ :: V.map (fun s => s.2.2) = _; rw [tl], by rw [e 0 58 rfl]; exact s2, s3, s4, by rw [e 0 41 rfl]; exact s5, by rw [e 0 59 rfl]; exact s6, ?_, fun t ht => ?_, hn, by rw [e 0 44 rfl]; exact s10.1, by rw [e 17 M rfl]; exact s10.2.1, fun k => by rw [e 74 k rfl]; exact s10.2.2 k⟩
    · exact pw_ne (by rw [List.map_append, List.map_append]; rfl) s7
    · have : t = (s.1, s.2.1, w_pc (g_it g).length s.2.2) ∨ t ∈ H ++ V := by
        simp only [List.mem_append, List.mem_cons] at ht ⊢
        rcases ht with q | q | q
        · exact Or.inr (Or.inl q)
        · exact Or.inl q
        · exact Or.inr (Or.inr q)
      rcases this with rfl | q
      · obtain ⟨p1, p2, p3, p4, p5⟩ := s8 s (by simp)
        exact ⟨p1, by rw [e 61 _ rfl]; exact p2, by rw [e 62 _ rfl]; exact p3, p4, h68⟩
      · have hm : t ∈ H ++ s :: V := by
          simp only [List.mem_append, List.mem_cons] at q ⊢
          rcases q with q | q
          · exact Or.inl q
          · exact Or.inr (Or.inr q)
        obtain ⟨p1, p2, p3, p4, p5⟩ := s8 t hm
        have := ho t q
        exact ⟨p1, by rw [e 61 _ rfl]; exact p2, by rw [e 62 _ rfl]; exact p3, p4, by rw [this.1, this.2]; exact p5⟩
  have ne : ∀ t, t ∈ H ++ V → t.1 ≠ s.1 := by
    intro t ht
    have p : (H ++ s :: V).Perm (s :: (H ++ V)) := List.perm_middle
    have := (p.pairwise_iff (fun {a b} h => h.symm)).mp s7
    exact ((List.pairwise_cons.mp this).1 t ht).symm
  have hzo : ∀ y : mj_X, zfr zpc x y → y.1 0 34 = x.1 0 34 → zfr zo x y := fun y f h34 => ⟨f.1, fun k j hz => by
    by_cases q : k = 0 ∧ j = 34
    · rw [q.1, q.2]; exact h34
    · refine f.2 k j ?_
      unfold zpc
      split
      · simp [zo] at hz q ⊢; omega
      all_goals first | (simp [zo] at hz; done) | rfl⟩
  rw [eX1_piece, nI_nd h4, nI_cl h4, n0b]
  rcases hX with ⟨h0, q, hx⟩ | ⟨h0, hm, ho⟩
  · -- exact
    obtain ⟨a1, a2, a3, a4, n, ps, b1, b2, b3, b4⟩ := hx
    have hn : n = n0 := by
      have n0b := n0b
      rw [b1.1] at n0b
      have := b1.2
      exact (nI_eq (by omega) (by omega)).mp n0b
    subst hn
    obtain ⟨⟨c1, c2, c3, c4, c5, c6, c7⟩, c8⟩ := b3 s (by simp)
    have q1 := q.2.2.resolve_right (fun p => absurd h0 (by rw [p.1.1]; decide))
    have h32 : x.1 0 32 = nI (w_by_ w w_z (g_it g)).length := q1.2.2.1.2.2.1
    have hB : (w_by_ w w_z (g_it g)).length ≤ 65535 := q1.2.2.1.2.2.2.1
    have hph : w_ph (s_cx (w_pc (g_it g).length s.2.2 :: (g_cx g).tail) g) = w_ph g + (if s.2.2.2.2.2.2.2.1 < (g_it g).length then 1 else 0) := by
      show (g_rg g).length + ((c_ps (w_pc (g_it g).length s.2.2)).length + w_np (g_cx g).tail) = (g_rg g).length + w_np (g_cx g) + _
      rw [hcx]
      show (g_rg g).length + ((if s.2.2.2.2.2.2.2.1 < (g_it g).length then (s.2.2.2.2.2.2.2.1, (g_it g).length) :: s.2.2.2.2.2.2.2.2 else s.2.2.2.2.2.2.2.2).length + w_np (V.map (fun s => s.2.2))) = (g_rg g).length + ((c_ps s.2.2).length + w_np (V.map (fun s => s.2.2))) + _
      split
      · show (g_rg g).length + (s.2.2.2.2.2.2.2.2.length + 1 + _) = (g_rg g).length + (s.2.2.2.2.2.2.2.2.length + _) + 1; omega
      · show _ = (g_rg g).length + (s.2.2.2.2.2.2.2.2.length + _) + 0; omega
    rw [c1, h32]
    by_cases qf : s.2.2.2.2.2.2.2.1 < (g_it g).length
    · have hat := w_at_lt w (g_it g) qf (Nat.le_refl _)
      rw [w_at_len] at hat
      rw [if_neg (nI_ge hat (by omega))]
      by_cases q3 : n = 30000
      · rw [if_pos (by rw [q3]; rfl)]
        have f : zfr zpc x (mj_wI x 0 34 1) := (zfr.rf _ x).w _ rfl
        refine ⟨_, rfl, ⟨hlm, he.fr2 (rf := rf) (zpc_zw2 f), str _ f ⟨n, n0a, n0b⟩ ?_ (fun t _ => ⟨rfl, rfl⟩), Or.inr ⟨by show ¬ (1 : Int32) = 0; decide, q1.2.much, ?_⟩⟩, f, fun _ => by show ¬ (1 : Int32) = 0; decide⟩
        · exact (s8 s (by simp)).2.2.2.2
        · right; right; left
          rw [hph, if_pos qf]; omega
      · rw [if_neg (show ¬ nI n = (30000 : Int32) from fun e => q3 ((nI_eq (b := 30000) (by omega) (by omega)).mp e)), nI_nd h4, mj_g_k (mj_in_nI (by omega) (by omega)), mj_g_k (mj_in_nI (by omega) (by omega)), mj_g_k (mj_in_nI (by omega) (by omega)), nI_nd h4, nI_clamp (by omega)]
        -- the new piece, whatever was written before
        have fin : ∀ (a68 a72 : Nat → Int32), (∀ t, t ∈ H ++ V → a68 t.1 = x.1 68 t.1) → a68 s.1 = z_fst (n :: ps s.1) → z_lnk a72 (-1) (n :: ps s.1) → (∀ t, t ∈ H ++ V → ∀ p, p ∈ ps t.1 → a72 p = x.1 72 p) →
            ∀ y : mj_X, zfr zpc x y → y.1 0 34 = x.1 0 34 → y.1 68 = a68 → y.1 72 = a72 → y.1 70 = upd (x.1 70) n (nI (w_at w (g_it g) s.2.2.2.2.2.2.2.1)) → y.1 71 = upd (x.1 71) n (nI (w_by_ w w_z (g_it g)).length) → y.1 69 = upd (x.1 69) s.1 (nI n) → y.1 0 72 = nI (n + 1) → y.1 67 = upd (x.1 67) s.1 (nI (w_by_ w w_z (g_it g)).length) →
            Q2 nt N M w ba pf rf lf c hp H K u o ((s.1, s.2.1, w_pc (g_it g).length s.2.2) :: V) lm lv y (s_cx (w_pc (g_it g).length s.2.2 :: (g_cx g).tail) g) := by
          intro a68 a72 k68 k68s k72s k72 y f y34 y68 y72 y70 y71 y69 yn y67
          have fz := hzo y f y34
          refine ⟨hlm, he.ofzo fz, str y f ⟨n + 1, by omega, yn⟩ (Or.inr ⟨n, by omega, by rw [y69, pk_us]⟩) (fun t ht => ⟨by rw [y68]; exact k68 t ht, by rw [y69, pk_un (ne t ht)]⟩), Or.inl ⟨by rw [y34]; exact h0, q.ext fz ⟨rfl, rfl, rfl, rfl, rfl, rfl, rfl, rfl, rfl, rfl⟩ (by rw [hph]; omega), ?_⟩⟩
          have e := f.2
          refine ⟨?_, ?_, fun j l hj => ?_, fun t ht => ?_, n + 1, (fun j => if j = s.1 then n :: ps s.1 else ps j), ⟨yn, by omega⟩, by rw [hph, if_pos qf]; omega, fun t ht => ?_, fun a b ha hb hab => ?_⟩
          · unfold zN at *; rw [e 0 38 rfl, e 0 39 rfl, e 0 40 rfl]; exact a1
          · rw [e 0 44 rfl, show y.1 24 = x.1 24 from funext fun j => e 24 j rfl]; exact a2
          · rw [e 74 j rfl]; exact a3 j l hj
          · have key : z_sb (g_nl g) lm lv x t := by
              simp only [List.mem_append, List.mem_cons] at ht
              rcases ht with p | p | p
              · exact a4 t (by simp [p])
              · subst p; exact a4 s (by simp)
              · exact a4 t (by simp [p])
            unfold z_sb at *; rw [e 63 _ rfl, e 64 _ rfl, e 65 _ rfl, e 66 _ rfl]; exact key
          · have : t = (s.1, s.2.1, w_pc (g_it g).length s.2.2) ∨ t ∈ H ++ V := by
              simp only [List.mem_append, List.mem_cons] at ht ⊢
              rcases ht with q | q | q
              · exact Or.inr (Or.inl q)
              · exact Or.inl q
              · exact Or.inr (Or.inr q)
            rcases this with rfl | p
            · show z_sx w (g_it g) y _ (if s.1 = s.1 then n :: ps s.1 else ps s.1) ∧ ∀ p, p ∈ (if s.1 = s.1 then n :: ps s.1 else ps s.1) → p < n + 1
              rw [if_pos rfl]
              refine ⟨⟨?_, Nat.le_refl _, by rw [y68]; exact k68s, by rw [y69]; exact pk_us, by rw [y72]; exact k72s, ?_, List.pairwise_cons.mpr ⟨fun p hp => c8 p hp, c7⟩⟩, fun p hp => ?_⟩
              · show y.1 67 s.1 = nI (w_at w (g_it g) (g_it g).length)
                rw [y67, pk_us, w_at_len]
              · show z_pcs w (g_it g) (y.1 70) (y.1 71) (n :: ps s.1) (if s.2.2.2.2.2.2.2.1 < (g_it g).length then (s.2.2.2.2.2.2.2.1, (g_it g).length) :: s.2.2.2.2.2.2.2.2 else s.2.2.2.2.2.2.2.2)
                rw [if_pos qf]
                refine ⟨⟨by rw [y70, pk_us], by rw [y71, pk_us, w_at_len], c2, Nat.le_refl _⟩, c6.mono (fun p hp => ?_)⟩
                have := c8 p hp
                rw [y70, y71, pk_un (by omega), pk_un (by omega)]; exact ⟨rfl, rfl⟩
              · rcases List.mem_cons.mp hp with rfl | hp
                · omega
                · have := c8 p hp; omega
            · show z_sx w (g_it g) y t (if t.1 = s.1 then n :: ps s.1 else ps t.1) ∧ ∀ p, p ∈ (if t.1 = s.1 then n :: ps s.1 else ps t.1) → p < n + 1
              rw [if_neg (ne t p)]
              have hm : t ∈ H ++ s :: V := by
                simp only [List.mem_append, List.mem_cons] at p ⊢
                rcases p with q | q
                · exact Or.inl q
                · exact Or.inr (Or.inr q)
              obtain ⟨⟨d1, d2, d3, d4, d5, d6, d7⟩, d8⟩ := b3 t hm
              refine ⟨⟨by rw [y67, pk_un (ne t p)]; exact d1, d2, by rw [y68, k68 t p]; exact d3, by rw [y69, pk_un (ne t p)]; exact d4, by rw [y72]; exact d5.mono (fun r hr => k72 t p r hr), d6.mono (fun r hr => ?_), d7⟩, fun r hr => by have := d8 r hr; omega⟩
              have := d8 r hr
              rw [y70, y71, pk_un (by omega), pk_un (by omega)]; exact ⟨rfl, rfl⟩
          · have cls : ∀ t, t ∈ H ++ (s.1, s.2.1, w_pc (g_it g).length s.2.2) :: V → (t.1 = s.1 ∨ (t ∈ H ++ s :: V ∧ t.1 ≠ s.1)) := by
              intro t ht
              by_cases p : t.1 = s.1
              · exact Or.inl p
              · right
                refine ⟨?_, p⟩
                simp only [List.mem_append, List.mem_cons] at ht ⊢
                rcases ht with q | q | q
                · exact Or.inl q
                · exact absurd (by rw [q]) p
                · exact Or.inr (Or.inr q)
            show ∀ p, p ∈ (if a.1 = s.1 then n :: ps s.1 else ps a.1) → p ∉ (if b.1 = s.1 then n :: ps s.1 else ps b.1)
            rcases cls a ha with pa | ⟨pa, pa'⟩
            · have pb' : ¬ b.1 = s.1 := fun e => hab (pa.trans e.symm)
              have pb := (cls b hb).resolve_left pb'
              rw [if_pos pa, if_neg pb']
              intro p hp
              rcases List.mem_cons.mp hp with rfl | hp
              · intro hp2; have := (b3 b pb.1).2 p hp2; omega
              · exact b4 s b (by simp) pb.1 (fun e => pb' e.symm) p hp
            · rw [if_neg pa']
              rcases cls b hb with pb | ⟨pb, pb'⟩
              · rw [if_pos pb]
                intro p hp hp2
                rcases List.mem_cons.mp hp2 with rfl | hp2
                · have := (b3 a pa).2 p hp; omega
                · exact b4 a s pa (by simp) pa' p hp hp2
              · rw [if_neg pb']; exact b4 a b pa pb hab
        have n1 : nI n + (1 : Int32) = nI (n + 1) := nI_add n 1
        cases hps : ps s.1 with
        | nil =>
          rw [hps] at c3 c4
          rw [c3, if_neg (by decide), nI_nd h4, bX1_piece_104, nI_nd h4, nI_nd h4, nI_cl h4]
          refine ⟨_, rfl, fin (upd (x.1 68) s.1 (nI n)) (upd (x.1 72) n (-1)) (fun t ht => pk_un (ne t ht)) (by rw [hps, pk_us]; rfl) (by rw [hps]; exact ⟨pk_us, trivial⟩) (fun t ht p hp => ?_) _ ((((((((zfr.rf _ x).w _ rfl).w _ rfl).w _ rfl).w _ rfl).w _ rfl).w _ rfl).w _ rfl) rfl rfl rfl rfl ?_ ?_ ?_ ?_, (((((((zfr.rf _ x).w _ rfl).w _ rfl).w _ rfl).w _ rfl).w _ rfl).w _ rfl).w _ rfl, fun q => q⟩
          · have hm : t ∈ H ++ s :: V := by
              simp only [List.mem_append, List.mem_cons] at ht ⊢
              rcases ht with q | q
              · exact Or.inl q
              · exact Or.inr (Or.inr q)
            have := (b3 t hm).2 p hp
            exact pk_un (by omega)
          · rfl
          · show upd (x.1 69) s.1 (x.1 0 72) = _; rw [n0b]
          · show x.1 0 72 + 1 = _; rw [n0b, n1]
          · show upd (x.1 67) s.1 (x.1 0 32) = _; rw [h32]
        | cons p0 r0 =>
          rw [hps] at c3 c4 c5 c7 c8
          obtain ⟨pf_, pf1, pf2⟩ := z_fst_mem (p0 :: r0) (by simp)
          have hp0 := c8 p0 (by simp)
          have hpf := c8 pf_ pf1
          have hh := List.pairwise_cons.mp c7
          rw [c3, pf2, if_pos (nI_nneg (by omega)), nI_nd h4, c4]
          show ∃ x', mj_g (nI p0) 30000 _ = _ ∧ _
          rw [mj_g_k (mj_in_nI (by omega) (by omega)), show (z_hd (p0 :: r0)).toNatClampNeg = p0 from nI_clamp (by omega), bX1_piece_104, nI_nd h4, nI_nd h4, nI_cl h4]
          have k72s : z_lnk (upd (upd (x.1 72) n (-1)) p0 (nI n)) (-1) (n :: p0 :: r0) := ⟨by rw [pk_un (by omega), pk_us], pk_us, c5.2.mono (fun p hp => by
            have q1 := hh.1 p hp
            have q2 := c8 p (List.mem_cons_of_mem _ hp)
            rw [pk_un (by omega), pk_un (by omega)])⟩
          refine ⟨_, rfl, fin (x.1 68) (upd (upd (x.1 72) n (-1)) p0 (nI n)) (fun t ht => rfl) (by rw [hps, c3]; rfl) (by rw [hps]; exact k72s) (fun t ht p hp => ?_) _ ((((((((zfr.rf _ x).w _ rfl).w _ rfl).w _ rfl).w _ rfl).w _ rfl).w _ rfl).w _ rfl) rfl rfl rfl rfl ?_ ?_ ?_ ?_, (((((((zfr.rf _ x).w _ rfl).w _ rfl).w _ rfl).w _ rfl).w _ rfl).w _ rfl).w _ rfl, fun q => q⟩
          · have hm : t ∈ H ++ s :: V := by
              simp only [List.mem_append, List.mem_cons] at ht ⊢
              rcases ht with q | q
              · exact Or.inl q
              · exact Or.inr (Or.inr q)
            have := (b3 t hm).2 p hp
            have hd := b4 t s hm (by simp) (ne t ht) p hp
            rw [hps] at hd
            rw [pk_un (fun e => hd (by rw [e]; simp)), pk_un (by omega)]
          · rfl
          · show upd (x.1 69) s.1 (x.1 0 72) = _; rw [n0b]
          · show x.1 0 72 + 1 = _; rw [n0b, n1]
          · show upd (x.1 67) s.1 (x.1 0 32) = _; rw [h32]
    · have hfe : s.2.2.2.2.2.2.2.1 = (g_it g).length := by omega
      rw [if_pos (by rw [hfe, w_at_len]; exact Int32.le_refl _), nI_nd h4]
      have f : zfr zpc x (mj_wI x 67 s.1 (nI (w_by_ w w_z (g_it g)).length)) := (zfr.rf _ x).w _ rfl
      have hpc : w_pc (g_it g).length s.2.2 = s.2.2 := by
        unfold w_pc; rw [if_neg qf, ← hfe]
      have hy : mj_wI x 67 s.1 (nI (w_by_ w w_z (g_it g)).length) = x := by
        have : nI (w_by_ w w_z (g_it g)).length = x.1 67 s.1 := by rw [c1, hfe, w_at_len]
        rw [this]
        refine Prod.ext ?_ rfl
        funext a b
        rw [mj_wI_1]
        by_cases q1 : a = 67
        · by_cases q2 : b = s.1
          · rw [if_pos q1, if_pos q2, q1, q2]
          · rw [if_pos q1, if_neg q2]
        · rw [if_neg q1]
      refine ⟨_, rfl, ?_, f, fun q => q⟩
      rw [hy, hpc]
      have : s_cx (s.2.2 :: (g_cx g).tail) g = g := by
        rw [show s.2.2 :: (g_cx g).tail = g_cx g by rw [hcx]; rfl]; rfl
      rw [this]
      exact ⟨hlm, he, ⟨s1, s2, s3, s4, s5, s6, s7, s8, ⟨n, n0a, n0b⟩, s10⟩, Or.inl ⟨h0, q, a1, a2, a3, a4, n, ps, b1, b2, b3, b4⟩⟩
  · -- much
    have mk : ∀ y : mj_X, zfr zpc x y → y.1 0 34 = 1 → (∃ n, n ≤ 30000 ∧ y.1 0 72 = nI n) → (y.1 68 s.1 < 0 ∨ ∃ p, p < 30000 ∧ y.1 69 s.1 = nI p) → (∀ t, t ∈ H ++ V → y.1 68 t.1 = x.1 68 t.1 ∧ y.1 69 t.1 = x.1 69 t.1) → Q2 nt N M w ba pf rf lf c hp H K u o ((s.1, s.2.1, w_pc (g_it g).length s.2.2) :: V) lm lv y (s_cx (w_pc (g_it g).length s.2.2 :: (g_cx g).tail) g) ∧ zfr zpc x y ∧ (¬ x.1 0 34 = 0 → ¬ y.1 0 34 = 0) := by
      intro y f y34 hn h68 ho'
      have fz := hzo y f (by rw [y34, hm.1])
      refine ⟨⟨hlm, he.ofzo fz, str y f hn h68 ho', Or.inr ⟨by rw [y34]; decide, hm.ofzo fz, ?_⟩⟩, f, fun _ => by rw [y34]; decide⟩
      refine ho.mono ((wM.rf g).cx _ ?_)
      rw [hcx]
      exact ⟨w_pc_k _ _ hs2, wK.rf _⟩
    have h68 := (s8 s (by simp)).2.2.2.2
    split
    · rw [nI_nd h4]
      exact ⟨_, rfl, mk _ ((zfr.rf _ x).w _ rfl) hm.1 ⟨n0, n0a, n0b⟩ h68 (fun t _ => ⟨rfl, rfl⟩)⟩
    · by_cases q3 : n0 = 30000
      · rw [if_pos (by rw [q3]; rfl)]
        exact ⟨_, rfl, mk _ ((zfr.rf _ x).w _ rfl) rfl ⟨n0, n0a, n0b⟩ h68 (fun t _ => ⟨rfl, rfl⟩)⟩
      · rw [if_neg (show ¬ nI n0 = (30000 : Int32) from fun e => q3 ((nI_eq (b := 30000) (by omega) (by omega)).mp e)), nI_nd h4, mj_g_k (mj_in_nI (by omega) (by omega)), mj_g_k (mj_in_nI (by omega) (by omega)), mj_g_k (mj_in_nI (by omega) (by omega)), nI_nd h4, nI_clamp (by omega)]
        have n1 : nI n0 + (1 : Int32) = nI (n0 + 1) := nI_add n0 1
        by_cases q4 : (0 : Int32) ≤ x.1 68 s.1
        · obtain ⟨p, p1, p2⟩ := h68.resolve_left (Int32.not_lt.mpr q4)
          rw [if_pos q4, nI_nd h4, p2, mj_g_k (mj_in_nI (by omega) (by omega)), bX1_piece_104, nI_nd h4, nI_nd h4, nI_cl h4]
          refine ⟨_, rfl, mk _ ((((((((zfr.rf _ x).w _ rfl).w _ rfl).w _ rfl).w _ rfl).w _ rfl).w _ rfl).w _ rfl) hm.1 ⟨n0 + 1, by omega, ?_⟩ (Or.inr ⟨n0, by omega, ?_⟩) (fun t ht => ⟨rfl, pk_un (ne t ht)⟩)⟩
          · show x.1 0 72 + 1 = _; rw [n0b, n1]
          · show upd (x.1 69) s.1 (x.1 0 72) s.1 = _; rw [pk_us, n0b]
        · rw [if_neg q4, nI_nd h4, bX1_piece_104, nI_nd h4, nI_nd h4, nI_cl h4]
          refine ⟨_, rfl, mk _ ((((((((zfr.rf _ x).w _ rfl).w _ rfl).w _ rfl).w _ rfl).w _ rfl).w _ rfl).w _ rfl) hm.1 ⟨n0 + 1, by omega, ?_⟩ (Or.inr ⟨n0, by omega, ?_⟩) (fun t ht => ⟨pk_un (ne t ht), pk_un (ne t ht)⟩)⟩
          · show x.1 0 72 + 1 = _; rw [n0b, n1]
          · show upd (x.1 69) s.1 (x.1 0 72) s.1 = _; rw [pk_us, n0b]
end
