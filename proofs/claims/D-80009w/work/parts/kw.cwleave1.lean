/-! CodeWriter: statements: ways out, what the relation bears -/
/-- so many pieces of contexts that are put aside -/
def yhp : List wSl → Nat
  | [] => 0
  | s :: r => (c_ps s.2.2).length + yhp r
/-- a context goes on behind -/
def y_fr (n : Nat) (s : wSl) : wSl := (s.1, s.2.1, w_from n s.2.2)
theorem y_fr_skl (n : Nat) (A B : List wSl) : z_skl (A.map (y_fr n) ++ B) = z_skl (A ++ B) := by
  unfold z_skl
  rw [List.map_append, List.map_append, List.map_map]; rfl
theorem w_on_app (n : Nat) : ∀ (A B : List wC), w_on A.length n (A ++ B) = A.map (w_from n) ++ B := by
  intro A
  induction A with
  | nil => intro B; cases B <;> rfl
  | cons c r ih => intro B; show w_from n c :: w_on r.length n (r ++ B) = _; rw [ih]; rfl
/-- only where contexts' code goes on -/
def y58 (k j : Nat) : Bool := match k with
  | 58 => true
  | _ => false
theorem yvo58 : yvo y58 := yvo_of (elem_12 (Z := y58 0) rfl rfl rfl rfl rfl rfl rfl rfl rfl rfl rfl rfl) (fun _ => rfl) (fun _ => rfl) (fun _ => rfl) (fun _ => rfl) (fun _ => rfl) (fun _ => rfl) (fun _ => rfl) (fun _ => rfl) (fun _ => rfl)
theorem y58_w {P : yP} {K : Nat} {x y : mj_X} (f : yfr y58 (p_pf P) x y) : yfr (yw2 P K) (p_pf P) x y := f.mono (fun k j h => by
  unfold y58
  split
  · exfalso; unfold yw2 at h; simp at h
  · rfl)
section
variable {nt : sp_NT} {N M : Nat} {P : yP} {hp : Nat} {H V : List wSl} {O : List (Int32 × List (Nat × Nat))} {K u sb : Nat} {C : Nat → Prop} {o : Option Int32} {lm lm' lm1 : Nat → Nat} {lv lv' lv1 ct ct' : Nat → Bool} {x y x1 : mj_X} {g G : wG} {res par : Nat → Int32} {f : Nat} {n : Int32}
/-- a value's method, while all is exact, whatever is the innermost context -/
theorem Y2.kj {r : mj_R} {b : Nat} (hm : wM g G) (h : Y2 nt N P hp H O K u sb C o V lm lv ct x g) (h0 : x.1 0 29 = 0) (Cx : KJ nt N (pH P hp) [] b (g_nl g) g r x lm lv G) (hb : b ≤ 49600) (hs : wU g G) :
    ∃ lm1 lv1 ct1 x1, r = some (none, x1) ∧ Y2 nt N P hp H O K u sb C o V lm1 lv1 ct1 x1 G ∧ (∀ l, l < g_nl g → lm1 l = lm l ∧ lv1 l = lv l ∧ ct1 l = ct l) ∧ yfr (yw (p_pf P) (p_lf P)) (p_pf P) x x1 ∧ (x1.1 0 29 = 0 → yT x g x1 G) := by
  obtain ⟨he, hS, hC, hX⟩ := h
  have hct : ∀ l, l < g_nl g → (fun l => if l < g_nl g then ct l else false) l = ct l := fun l hl => if_pos hl
  rcases hX with ⟨-, h1, h2, h3, h4⟩ | ⟨q, -⟩
  · obtain ⟨lm1, lv1, x1, e1, q1, l1, f1, t1⟩ := Cx
    have f1 : yfr (yw (p_pf P) (p_lf P)) (p_pf P) x x1 := f1
    have eU := yU.of f1
    have hlab : ∀ l, l < g_nl g → lm1 l = lm l ∧ lv1 l = lv l ∧ (fun l => if l < g_nl g then ct l else false) l = ct l := fun l hl => ⟨(l1 l hl).1, (l1 l hl).2, hct l hl⟩
    refine ⟨lm1, lv1, (fun l => if l < g_nl g then ct l else false), x1, e1, ⟨he.fr2 (K := K) f1.up, ?_, hC.eq (eU.2 35 rfl) hlab hm.nl, ?_⟩, hlab, f1, fun w => (t1 w).2⟩
    · rw [hs.2.2.2.2.1]; exact hS.eq eU
    · rcases q1.2.2.2 with ⟨z0, zL, z1⟩ | ⟨zM, zL, zo⟩
      · refine Or.inl ⟨z0, fun v p hv hp' => ⟨(q1.1.2.2.2.2.2.2.2.2.2 v p hv hp').1, (q1.1.2.2.2.2.2.2.2.2.2 v p hv hp').2, (h1 v p hv (by rw [hs.2.2.2.2.2] at hp'; exact hp')).2.2⟩, ?_, z1, ?_⟩
        · simpa using zL
        · exact h4.eq eU hlab hm.2.1 hm.nl hs.2.2.2.1 hs.2.2.2.2.1 (fun k => by rw [hs.2.2.2.2.2]) (h4.1.eq eU hs)
      · exact Or.inr ⟨by rw [zM.1]; decide, zM, zL.mono hb, zo⟩
  · exact absurd h0 q
/-- the chain of those that are seen -/
theorem Y2.oo {hr : Int32} (h : Y2 nt N P hp H O K u sb C o V lm lv ct x g) (hch : z_ch hr K V) : Y2 nt N P hp H O K u sb C (some hr) V lm lv ct x g := by
  obtain ⟨he, ⟨s1, s2, s3, s4, s5, s6, s7⟩, hX⟩ := h
  exact ⟨he, ⟨s1, s2, s3, s4, s5, hch, s7⟩, hX⟩
theorem Y2.cho (h : Y2 nt N P hp H O K u sb C o V lm lv ct x g) : z_ch (o.getD (x.1 0 59)) K V := h.2.1.2.2.2.2.2.1
/-- where hidden contexts' code goes on is not read -/
theorem Y2.w58 (h : Y2 nt N P hp H O K u sb C o V lm lv ct x g) (f : yfr y58 (p_pf P) x y) (h2 : y.2 = x.2) (hV : x.1 0 29 = 0 → ∀ s, s ∈ V → 2 ≤ s.2.2.1 → y.1 58 s.1 = x.1 58 s.1) : Y2 nt N P hp H O K u sb C o V lm lv ct y g := by
  have e0 := yV0.of f yvo58 h2
  have e := f.1
  have E : ∀ a, (∀ j, y58 a j = false) → y.1 a = x.1 a := fun a ha => funext fun j => e a j (ha j)
  obtain ⟨he, ⟨s1, s2, s3, s4, s5, s6, s7, s8, s9, s10, s11, s12, s13⟩, hC, hX⟩ := h
  refine ⟨he.fr2 (y58_w (K := K) f), ⟨s1, by rw [e 0 58 rfl]; exact s2, s3, s4, by rw [e 0 61 rfl]; exact s5, by rw [e 0 59 rfl]; exact s6, s7, by rw [E 50 (fun _ => rfl), E 51 (fun _ => rfl)]; exact s8, by rw [e 0 65 rfl]; exact s9, by rw [e 0 45 rfl]; exact s10, by rw [E 21 (fun _ => rfl)]; exact s11, by rw [e 0 66 rfl, e 0 60 rfl]; exact s12, s13⟩, hC.eq (E 35 (fun _ => rfl)) (fun _ _ => ⟨rfl, rfl, rfl⟩) (Nat.le_refl _), ?_⟩
  rw [e 0 29 rfl]
  rcases hX with ⟨h0, h5, h6, h7, r1, r2, r3, r4, L, t', q1, q2, q3, q4, q5, q6, q7, q8, q9, q10, q11⟩ | ⟨h0, m1, m2, m3⟩
  · refine Or.inl ⟨h0, by rw [E 35 (fun _ => rfl)]; exact h5, h6.v0 e0, h7.v0 e0, ?_, ?_, ?_, fun t ht => ?_, L, t', by rw [e 0 66 rfl]; exact q1, q2, by rw [e 0 65 rfl]; exact q3, q4, q5, ?_, q7, ?_, q9, ?_, fun s hs hs2 => ?_⟩
    · unfold yNn at *; rw [e 0 32 rfl, e 0 33 rfl, e 0 60 rfl]; exact r1
    · rw [e 0 45 rfl, E 22 (fun _ => rfl)]; exact r2
    · rw [E 35 (fun _ => rfl)]; exact r3
    · have := r4 t ht
      unfold y_sb at *
      rw [E 53 (fun _ => rfl), E 54 (fun _ => rfl), E 55 (fun _ => rfl), E 56 (fun _ => rfl), E 57 (fun _ => rfl)]; exact this
    · rw [E 63 (fun _ => rfl), E 64 (fun _ => rfl), E 65 (fun _ => rfl)]; exact q6
    · rw [E 52 (fun _ => rfl)]; exact q8
    · rw [E 52 (fun _ => rfl)]; exact q10
    · rw [hV h0 s hs hs2]; exact q11 s hs hs2
  · exact Or.inr ⟨h0, m1.v0 e0, m2.v0 e0, m3⟩
/-- a hidden context is told from where it goes on -/
theorem Y2.hfrom {s : wSl} {m : Nat} (h : Y2 nt N P hp (s :: H) O K u sb C o V lm lv ct x g) : Y2 nt N P hp (y_fr m s :: H) O K u sb C o V lm lv ct x g := by
  obtain ⟨he, ⟨s1, s2, s3, s4, s5, s6, s7, s8, s9⟩, hC, hX⟩ := h
  have ms : s ∈ (s :: H) ++ V := by simp
  have mem : ∀ t, t ∈ (y_fr m s :: H) ++ V → t = y_fr m s ∨ t ∈ (s :: H) ++ V := by
    intro t ht
    rcases List.mem_cons.mp ht with q | q
    · exact Or.inl q
    · exact Or.inr (List.mem_cons_of_mem _ q)
  refine ⟨he, ⟨s1, s2, s3, s4, s5, s6, pw_ne (A := s :: H ++ V) rfl s7, fun t ht => ?_, s9⟩, hC, ?_⟩
  · rcases mem t ht with rfl | q
    · exact s8 s ms
    · exact s8 t q
  · rcases hX with ⟨h0, h5, h6, h7, r1, r2, r3, r4, L, t', q1, q2, q3, q4, q5, q6, q7, q8, q9, q10, q11⟩ | hm
    · refine Or.inl ⟨h0, h5, h6, h7, r1, r2, r3, fun t ht => ?_, L, t', q1, q2, q3, q4, q5, q6, q7, fun t ht => ?_, q9, q10, q11⟩
      · rcases mem t ht with rfl | q
        · exact r4 s ms
        · exact r4 t q
      · rcases mem t ht with rfl | q
        · exact q8 s ms
        · exact q8 t q
    · exact Or.inr hm
/-- all that was put aside is there again -/
theorem Y2.seenA {m : Nat} : ∀ (A : List wSl) (hp : Nat) (H : List wSl) (o : Option Int32) (hr : Int32), Y2 nt N P (hp + yhp A) (A.reverse ++ H) O K u sb C o V lm lv ct x g → z_ch hr K (A ++ V) → (x.1 0 29 = 0 → (∀ s, s ∈ A → 2 ≤ s.2.2.1 → x.1 58 s.1 = nI (w_at (p_w P) (g_it g) m)) ∧ m ≤ (g_it g).length) →
    Y2 nt N P hp H O K u sb C (some hr) (A.map (y_fr m) ++ V) lm lv ct x (s_cx (A.map (fun s => w_from m s.2.2) ++ g_cx g) g) := by
  intro A
  induction A with
  | nil => intro hp H o hr h hch _; exact h.oo hch
  | cons s r ih =>
    intro hp H o hr h hch h58
    have hch : z_ch hr K (s :: (r ++ V)) := hch
    obtain ⟨c1, c2, c3⟩ := hch
    have e : (s :: r).reverse ++ H = r.reverse ++ (s :: H) := by simp
    rw [e, show hp + yhp (s :: r) = (hp + (c_ps s.2.2).length) + yhp r by show hp + ((c_ps s.2.2).length + yhp r) = _; omega] at h
    have q := ih (hp + (c_ps s.2.2).length) (s :: H) o s.2.1 h (c3.le (by omega)) (fun z => ⟨fun t ht => (h58 z).1 t (List.mem_cons_of_mem _ ht), (h58 z).2⟩)
    have q1 := q.hfrom (m := m)
    have q2 := Y2.seen (s := y_fr m s) q1 (c3.skl (y_fr_skl m r V)) (fun z hs => ⟨(h58 z).1 s (by simp) hs, (h58 z).2⟩)
    rw [c1]; exact q2
/-- once it was much, any contexts of the same sorts will do -/
theorem Y2.cxM {V2 : List wSl} {g2 : wG} (h : Y2 nt N P hp H O K u sb C o V lm lv ct x g) (h0 : ¬ x.1 0 29 = 0) (hV : V2.map (fun s => s.2.2) = g_cx g2) (e : V2.map (fun s => (s.1, s.2.1, s.2.2.1)) = V.map (fun s => (s.1, s.2.1, s.2.2.1))) (hn : g_nl g2 = g_nl g) (ho : c_over (pH P hp) g2) : Y2 nt N P hp H O K u sb C o V2 lm lv ct x g2 := by
  obtain ⟨m1, m2, m3⟩ := h.mc h0
  obtain ⟨he, ⟨s1, s2, s3, s4, s5, s6, s7, s8, s9⟩, hC, -⟩ := h
  have hsk : z_skl V2 = z_skl V := by
    have := congrArg (List.map (fun q : Nat × Int32 × Nat => (q.1, q.2.1))) e
    rw [List.map_map, List.map_map] at this; exact this
  refine ⟨he, ⟨hV, s2, s3, s4, s5, s6.skl hsk, ?_, fun t ht => ?_, s9⟩, by rw [hn]; exact hC, Or.inr ⟨h0, m1, by rw [hn]; exact m2, ho⟩⟩
  · refine pw_ne ?_ s7
    rw [List.map_append, List.map_append, pw_skl hsk]
  · rcases List.mem_append.mp ht with q | q
    · exact s8 t (List.mem_append.mpr (Or.inl q))
    · have : (t.1, t.2.1, t.2.2.1) ∈ V.map (fun s => (s.1, s.2.1, s.2.2.1)) := by rw [← e]; exact List.mem_map.mpr ⟨t, q, rfl⟩
      obtain ⟨s, hs, es⟩ := List.mem_map.mp this
      have e1 : s.1 = t.1 := by have := congrArg (fun q : Nat × Int32 × Nat => q.1) es; exact this
      have e2 : s.2.1 = t.2.1 := by have := congrArg (fun q : Nat × Int32 × Nat => q.2.1) es; exact this
      have e3 : s.2.2.1 = t.2.2.1 := by have := congrArg (fun q : Nat × Int32 × Nat => q.2.2) es; exact this
      have := s8 s (List.mem_append.mpr (Or.inr hs))
      rw [e1, e2, e3] at this; exact this
/-- a piece ends, when it was much: nothing is seen of it -/
theorem Y2.cutM {s : wSl} {d : Nat} (hd : 1 ≤ d) (h : Y2 nt N P hp H O K u sb C o V lm lv ct x g) (hs : s ∈ V) (h0 : ¬ x.1 0 29 = 0) : ∃ y, kX0 d 82 [.ref 0, .int (nI s.1)] x = some (none, y) ∧ Y2 nt N P hp H O K u sb C o V lm lv ct y g ∧ yfr (yw2 P K) (p_pf P) x y ∧ ¬ y.1 0 29 = 0 := by
  obtain ⟨d, rfl⟩ : ∃ e, d = e + 1 := ⟨d - 1, by omega⟩
  have hlo := h.low (s := s) (List.mem_append.mpr (Or.inr hs))
  have hs2k : s.1 < 2000 := by omega
  obtain ⟨m1, m2, m3⟩ := h.mc h0
  obtain ⟨he, ⟨s1, s2, s3, s4, s5, s6, s7, s8, s9, s10, s11, s12, s13⟩, hC, -⟩ := h
  obtain ⟨n, n1, n2'⟩ := s9
  have h29 : x.1 0 29 = 1 := m1.1
  have done : ∀ y : mj_X, yfr (yc0 s.1) (p_pf P) x y → y.2 = x.2 → (∃ n, n ≤ 20000 ∧ y.1 0 65 = nI n) → ∃ z, (some (none, y) : mj_R) = some (none, z) ∧ Y2 nt N P hp H O K u sb C o V lm lv ct z g ∧ yfr (yw2 P K) (p_pf P) x z ∧ ¬ z.1 0 29 = 0 := by
    intro y f h2 h65
    have e0 := yV0.of f (yvoc s.1) h2
    have f' := yc0_yc f
    have e := f'.1
    have E : ∀ a, (∀ j, yc s.1 a j = false) → y.1 a = x.1 a := fun a ha => funext fun j => e a j (ha j)
    refine ⟨y, rfl, ⟨he.fr2 (yc_w (K := K) f'), ⟨s1, by rw [e 0 58 rfl]; exact s2, s3, s4, by rw [e 0 61 rfl]; exact s5, by rw [e 0 59 rfl]; exact s6, s7, by rw [E 50 (fun _ => rfl), E 51 (fun _ => rfl)]; exact s8, h65, by rw [e 0 45 rfl]; exact s10, by rw [E 21 (fun _ => rfl)]; exact s11, by rw [e 0 66 rfl, e 0 60 rfl]; exact s12, s13⟩, hC.eq (E 35 (fun _ => rfl)) (fun _ _ => ⟨rfl, rfl, rfl⟩) (Nat.le_refl _), Or.inr ⟨by rw [f.1 0 29 rfl]; exact h0, m1.v0 e0, m2.v0 e0, m3⟩⟩, yc_w f', by rw [f.1 0 29 rfl]; exact h0⟩
  have f58 : yfr (yc0 s.1) (p_pf P) x (mj_wI x 58 s.1 (-1)) := (yfr.rf _ _ x).w _ (by show Nat.beq s.1 s.1 = true; exact Nat.beq_refl _)
  have k20 : ¬ n = 20000 → ∀ r : mj_R, mj_g (nI n) 20000 r = r := fun q r => mj_g_k (mj_in_nI (by omega) (by omega)) r
  rw [eX0_cut, n2 hs2k, n2 hs2k, n2 hs2k, nI_clamp (by omega)]
  split
  · exact done _ f58 rfl ⟨n, n1, n2'⟩
  · split
    · exact done _ f58 rfl ⟨n, n1, n2'⟩
    · rw [n2']
      by_cases q20 : n = 20000
      · rw [if_pos (show nI n = 20000 by rw [q20]; rfl)]
        have e1 : mj_wI x 0 29 1 = x := by
          refine Prod.ext (funext fun k => funext fun j => ?_) rfl
          rw [mj_wI_1]
          by_cases z1 : k = 0
          · by_cases z2 : j = 29
            · rw [if_pos z1, if_pos z2, z1, z2, h29]
            · rw [if_pos z1, if_neg z2, z1]
          · rw [if_neg z1]
        rw [e1]
        exact done x (yfr.rf _ _ _) rfl ⟨n, n1, n2'⟩
      · rw [if_neg (show ¬ nI n = 20000 from fun z => q20 ((nI_eq (b := 20000) (by omega) (by omega)).mp z)), n2 hs2k, k20 q20, n2 hs2k, k20 q20, k20 q20, n2 hs2k, nI_clamp (by omega), show nI n + (1 : Int32) = nI (n + 1) from nI_add _ 1]
        exact done _ ((((((yfr.rf _ _ x).w _ rfl).w _ rfl).w _ rfl).w _ rfl).w _ (by show Nat.beq s.1 s.1 = true; exact Nat.beq_refl _)) rfl ⟨n + 1, by omega, rfl⟩
end
