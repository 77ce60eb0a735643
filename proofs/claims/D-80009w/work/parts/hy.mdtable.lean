/-! a switch of CodeWriterModel -/
theorem w_lke_snoc (o : Nat → Int32) (q : Int32 × Nat) : ∀ l : List (Int32 × Nat), w_lke o (l ++ [q]) = w_lke o l ++ (o32 q.1 ++ o32 (o q.2)) := by
  intro l
  induction l with
  | nil => show o32 q.1 ++ (o32 (o q.2) ++ []) = [] ++ (o32 q.1 ++ o32 (o q.2)); rw [List.append_nil, List.nil_append]
  | cons a l ih => rw [List.cons_append, w_lke, w_lke, ih, List.append_assoc, List.append_assoc]
theorem w_ent_snoc (o : Nat → Int32) (q : Int32 × Nat) : ∀ l : List (Int32 × Nat), w_ent o (l ++ [q]) = w_ent o l ++ o32 (o q.2) := by
  intro l
  induction l with
  | nil => show o32 (o q.2) ++ [] = _; rw [List.append_nil]; rfl
  | cons a l ih => show o32 (o a.2) ++ w_ent o (l ++ [q]) = (o32 (o a.2) ++ w_ent o l) ++ _; rw [ih]; simp only [List.append_assoc]
theorem w_fes_snoc (p : Nat) (q : Int32 × Nat) : ∀ (l : List (Int32 × Nat)) (a s : Nat) (r : List (Nat × Nat × Nat × Bool)), w_fes p a s (l ++ [q]) r = (a + s * l.length, p, q.2, true) :: w_fes p a s l r := by
  intro l
  induction l with
  | nil => intro a s r; show (a, p, q.2, true) :: r = _; simp [w_fes]
  | cons b l ih => intro a s r; show w_fes p (a + s) s (l ++ [q]) ((a, p, b.2, true) :: r) = _ :: w_fes p (a + s) s l ((a, p, b.2, true) :: r); rw [ih]; simp only [List.length_cons]; congr 2; rw [Nat.mul_succ]; omega
theorem w_comes_snoc (q : Int32 × Nat) : ∀ (l : List (Int32 × Nat)) (g : wG), w_comes (l ++ [q]) g = w_come q.2 (w_comes l g) := by
  intro l
  induction l with
  | nil => intro g; rfl
  | cons a l ih => intro g; exact ih _
section
variable {nt : sp_NT} {N M : Nat} {w : Bool} {ba pf rf lf c : Nat} {lm : Nat → Nat} {lv : Nat → Bool} {x : mj_X} {g G : wG}
/-- one comes to a label within an item -/
theorem Z1.come {d l : Nat} (hd : 1 ≤ d) {B : List Int32} {F : List (Nat × Nat × Nat × Bool)} (h : Z1 nt N M w ba pf rf lf c lm lv B F x g G) (hq : w_q g = false) (hl : l < g_nl G) (hv : lv l = true) (hfit : w_fit (g_L G, g_st G) (g_lF G l)) :
    ∃ x', kX1 d 50 [.ref 0, .int (nI (lm l))] x = some (none, x') ∧ zfr (zw ba pf lf) x x' ∧ Z1 nt N M w ba pf rf lf c lm lv B F x' g (w_come l G) := by
  obtain ⟨d, rfl⟩ : ∃ c, d = c + 1 := ⟨d - 1, by omega⟩
  obtain ⟨⟨he, hlm⟩, h⟩ := Z1.pk (B' := B) (F' := F) h hq
  have hk := hlm l hl
  rw [eX1_come, nI_clamp (by omega), mj_g_k (mj_in_nI (by omega) (by omega))]
  have f := (zfr.rf (zw ba pf lf) x).w (k := 50) (j := lm l) (x.1 0 36) rfl
  refine ⟨_, rfl, f, he.fr f, hlm, ?_⟩
  rcases h with ⟨ha, hov, h⟩ | ⟨h, ho⟩
  · left
    obtain ⟨h1, h2, h3, ⟨fr, l1, l2, l3, l4, l5, l6, l7, l8, l9, l10, l11, l12, l13⟩, h5, h6, ⟨s1, s2, s3, s4⟩⟩ := h
    refine ⟨hq, ha, hov, h1, h2, h3, ⟨fr, l1, l2, l3, l4, l5, l6, l7, l8, fun k hk hkv => ?_, l10, fun k hk hg => ?_, l12, l13⟩, h5, h6, ⟨s1, s2, s3, s4⟩⟩
    · obtain ⟨q1, q2, q3, q4⟩ := l9 k hk hkv
      refine ⟨q1, q2, q3, ?_⟩
      show upd (x.1 50) (lm l) (x.1 0 36) (lm k) = (bif (if k = l then true else g_goes G k) then nI (g_lF G k).2.length else -1)
      by_cases q : k = l
      · rw [if_pos q, q, pk_us, s2 ha]
        show nI _ = nI _
        rw [← hfit.2]
      · rw [if_neg q, pk_un (fun e => q (l10 k l hk hl hkv hv e))]; exact q4
    · have hg : (if k = l then true else g_goes G k) = true := hg
      by_cases q : k = l
      · rw [q]; exact hv
      · rw [if_neg q] at hg; exact l11 k hk hg
  · exact Or.inr (Or.inl ⟨h, ho.mono ((wM.rf G).come l)⟩)
theorem nI_mod4 {n : Nat} (h : n < 70000) : nI n - nI n / (4 : Int32) * (4 : Int32) = nI (n % 4) := by
  have h1 : nI n / (4 : Int32) = nI (n / 4) := by
    apply Int32.toInt_inj.mp
    rw [Int32.toInt_div, nI_toInt (by omega), nI_toInt (by omega)]
    show ((n : Int).tdiv 4).bmod _ = _
    rw [show ((n : Int).tdiv 4) = ((n / 4 : Nat) : Int) from rfl]
    exact Int.bmod_eq_of_le (by omega) (by omega)
  rw [h1, show (4 : Int32) = nI 4 from rfl, nI_mul, nI_sub (by omega)]
  congr 1; omega
/-- the gap behind a switch's code -/
theorem m_pad {d : Nat} (hd : 1 ≤ d) {a1 a2 a3 a4 a7 a8 : Int32} {a5 : Int64} {F : List (Nat × Nat × Nat × Bool)} (hq : w_q g = false) : ∀ (m : Nat) (B : List Int32) (x : mj_X), m ≤ 3 → (B.length + m) % 4 = 0 → (m ≠ 0 → B.length % 4 ≠ 0) → (∀ i, i < m → (B.length + i) % 4 ≠ 0) → Z1 nt N M w ba pf rf lf c lm lv B F x g G → B.length + m < (w_by_ w w_z (g_it G)).length →
    ∃ x', rX1_table d (219, [some (.ref 0), some (.int a1), some (.int a2), some (.int a3), some (.int a4), some (.long a5), none, some (.int a7), some (.int a8), none, none, none, none, none], [], x) = rX1_table d (243, [some (.ref 0), some (.int a1), some (.int a2), some (.int a3), some (.int a4), some (.long a5), none, some (.int a7), some (.int a8), none, none, none, none, none], [], x') ∧ zfr (zw ba pf lf) x x' ∧ Z1 nt N M w ba pf rf lf c lm lv (B ++ List.replicate m 0) F x' g G := by
  intro m
  induction m with
  | zero =>
    intro B x _ hm _ _ h hB
    rw [bX1_table_219, List.replicate_zero, List.append_nil]
    by_cases q : (x.1 0 32 - x.1 0 32 / 4 * 4) = 0
    · rw [if_pos q]; exact ⟨x, rfl, zfr.rf _ x, h⟩
    · rw [if_neg q]
      obtain ⟨-, p⟩ := Z1.pk (B' := B) (F' := F) h hq
      rcases p with ⟨_, _, p⟩ | p
      · exfalso
        apply q
        rw [p.2.1.2.2.1, nI_mod4 (by have := p.2.1.2.2.2.1; omega)]
        rw [show B.length % 4 = 0 by omega]; rfl
      · rw [if_neg (by rw [p.1.1]; decide)]; exact ⟨x, rfl, zfr.rf _ x, h⟩
  | succ m ih =>
    intro B x h3 hm _ hi h hB
    obtain ⟨-, p⟩ := Z1.pk (B' := B) (F' := F) h hq
    rcases p with ⟨pa, pb, p⟩ | p
    · rw [bX1_table_219, p.2.1.2.2.1, nI_mod4 (by have := p.2.1.2.2.2.1; omega), if_neg (fun e => by
        have := (nI_eq (b := 0) (by omega) (by omega)).mp e
        exact hi 0 (by omega) (by simpa using this)), if_pos p.1]
      obtain ⟨x1, e1, f1, -, r1⟩ := m_byte (d := d) hd 0 h (Or.inr hq) (fun _ => by omega)
      rw [e1, mj_rV_k]
      have e0 : o8 0 = 0 := rfl
      rw [e0] at r1
      obtain ⟨x2, e2, f2, r2⟩ := ih (B ++ [0]) x1 (by omega) (by rw [List.length_append]; simp only [List.length_cons, List.length_nil]; omega) (fun h0 => by have := hi 1 (by omega); rw [List.length_append]; exact this) (fun i hi2 => by have := hi (i + 1) (by omega); rw [List.length_append]; simp only [List.length_cons, List.length_nil]; rw [show B.length + (0 + 1) + i = B.length + (i + 1) by omega]; exact this) r1 (by rw [List.length_append]; simp only [List.length_cons, List.length_nil]; omega)
      refine ⟨x2, e2, f1.tr f2, ?_⟩
      rw [List.append_assoc] at r2
      exact r2
    · have fin : rX1_table d (219, [some (.ref 0), some (.int a1), some (.int a2), some (.int a3), some (.int a4), some (.long a5), none, some (.int a7), some (.int a8), none, none, none, none, none], [], x) = rX1_table d (243, [some (.ref 0), some (.int a1), some (.int a2), some (.int a3), some (.int a4), some (.long a5), none, some (.int a7), some (.int a8), none, none, none, none, none], [], x) := by
        rw [bX1_table_219, if_neg (show ¬ x.1 0 34 = 0 by rw [p.1.1]; decide)]
        split <;> rfl
      refine ⟨x, fin, zfr.rf _ x, h.1, h.2.1, Or.inr (Or.inl p)⟩
end
/-- the entries of a search -/
theorem m_lkL {d n : Nat} {I : Nat → mj_X → Prop} {a1 a3 a4 a7 a8 : Int32} {a5 : Int64} {key lab : Nat → Int32} (hn : n < 4000) (hR : ∀ j x, I j x → j < n → mj_g (x.1 75 j) 4000 = id ∧ x.1 3 (x.1 75 j).toNatClampNeg = key j)
    (hS : ∀ j x, j < n → I j x → ∃ x1 x2 x3, kX1 d 49 [.ref 0, .int (key j), .int 4] x = some (none, x1) ∧ (mj_g (x1.1 75 j) 4000 = id ∧ x1.1 74 (x1.1 75 j).toNatClampNeg = lab j) ∧ kX1 d 50 [.ref 0, .int (lab j)] x1 = some (none, x2) ∧ (mj_g (x2.1 75 j) 4000 = id ∧ x2.1 74 (x2.1 75 j).toNatClampNeg = lab j) ∧ kX1 d 48 [.ref 0, .int a8, .int (lab j), .int 1] x2 = some (none, x3) ∧ I (j + 1) x3) :
    ∀ (m j : Nat) (x : mj_X), j + m = n → I j x → ∃ x', rX1_table d (432, [some (.ref 0), some (.int a1), some (.int (nI n)), some (.int a3), some (.int a4), some (.long a5), none, some (.int a7), some (.int a8), some (.int (nI j)), none, none, none, none], [], x) = some (none, mj_wI x' 0 35 0) ∧ I n x' := by
  intro m
  induction m with
  | zero =>
    intro j x hj h
    have : j = n := by omega
    subst this
    rw [bX1_table_432, if_pos (Int32.le_refl _)]
    exact ⟨x, rfl, h⟩
  | succ m ih =>
    intro j x hj h
    obtain ⟨r1, r2⟩ := hR j x h (by omega)
    obtain ⟨x1, x2, x3, e1, ⟨g1, g2⟩, e2, ⟨g3, g4⟩, e3, h3⟩ := hS j x (by omega) h
    rw [bX1_table_432, if_neg (nI_ge (show j < n by omega) (by omega)), nI_nd (by omega), nI_cl (by omega), r1, r2]
    show ∃ x', mj_rV (kX1 d 49 [.ref 0, .int (key j), .int 4] x) _ = _ ∧ _
    rw [e1, mj_rV_k, nI_nd (by omega), g1, g2]
    show ∃ x', mj_rV (kX1 d 50 [.ref 0, .int (lab j)] x1) _ = _ ∧ _
    rw [e2, mj_rV_k, nI_nd (by omega), g3, g4]
    show ∃ x', mj_rV (kX1 d 48 [.ref 0, .int a8, .int (lab j), .int 1] x2) _ = _ ∧ _
    rw [e3, mj_rV_k, show nI j + (1 : Int32) = nI (j + 1) from nI_add j 1]
    exact ih (j + 1) x3 (by omega) h3
