/-! CodeWriterModel.isScopedStatement -/
theorem sp_th_id (r : Bool × sp_SS) : sp_th r (fun s => (true, s)) = r := by
  obtain ⟨r1, r2⟩ := r
  cases r1 <;> rfl
theorem sp_th_as (r : Bool × sp_SS) (g h : sp_SS → Bool × sp_SS) : sp_th (sp_th r g) h = sp_th r fun s => sp_th (g s) h := by
  obtain ⟨r1, r2⟩ := r
  cases r1 <;> rfl
theorem sp_al_id {N w : Nat} {s : sp_SS} {r : Bool × sp_SS} (h : sp_SG N w s r) : sp_al s.1 (sp_al s.1 r) = sp_al s.1 r := by
  have e := (sp_pop_1 (r.2.1 - s.1) r.2).1
  have h1 := h.1
  show (r.1, sp_pop ((sp_pop (r.2.1 - s.1) r.2).1 - s.1) (sp_pop (r.2.1 - s.1) r.2)) = _
  rw [e, show r.2.1 - (r.2.1 - s.1) - s.1 = 0 by omega]; rfl
/-- statements less deep than f0 -/
def md_S (y : mj_X) (nt : sp_NT) (N D : Nat) (w : Nat → Nat) (f0 : Nat) : Prop := ∀ (f : Nat) (n : Int32), f < f0 → sp_nd N n = true → sp_Sk (nt 0 n.toNatClampNeg) = true → (nt 4 n.toNatClampNeg).toInt ≤ f → sp_SC kX1 (md_sc y) N D 27 n (w n.toNatClampNeg) (sp_sc nt f n)
theorem sp_WF.fa {nt : sp_NT} {N M : Nat} {res par : Nat → Int32} (h : sp_WF nt N M res par) (hN : N ≤ 4000) {w : Nat → Nat} (hw : sp_WT nt N w) {n : Int32} (hn : sp_nd N n = true) (hk : sp_hA (nt 0 n.toNatClampNeg) = true) (ha : sp_nd n.toNatClampNeg (nt 1 n.toNatClampNeg) = true) :
    sp_nd N (nt 1 n.toNatClampNeg) = true ∧ (nt 4 (nt 1 n.toNatClampNeg).toNatClampNeg).toInt < (nt 4 n.toNatClampNeg).toInt ∧ w (nt 1 n.toNatClampNeg).toNatClampNeg < w n.toNatClampNeg := by
  have hi := sp_nd_lt hN hn
  have q4 : sp_pa (nt 0 n.toNatClampNeg) (nt 1 n.toNatClampNeg) = true := by unfold sp_pa; rw [hk]; simp [sp_nd_n1 ha]
  have e := hw _ hi
  rw [q4] at e
  exact ⟨sp_nd_mono (Nat.le_of_lt hi) hN ha, (h.da hN hi).1 q4, by rw [e]; simp only [cond_true]; omega⟩
theorem sp_WF.fb {nt : sp_NT} {N M : Nat} {res par : Nat → Int32} (h : sp_WF nt N M res par) (hN : N ≤ 4000) {w : Nat → Nat} (hw : sp_WT nt N w) {n : Int32} (hn : sp_nd N n = true) (hk : sp_hB (nt 0 n.toNatClampNeg) = true) (hb : sp_nd n.toNatClampNeg (nt 2 n.toNatClampNeg) = true) :
    sp_nd N (nt 2 n.toNatClampNeg) = true ∧ (nt 4 (nt 2 n.toNatClampNeg).toNatClampNeg).toInt < (nt 4 n.toNatClampNeg).toInt ∧ w (nt 2 n.toNatClampNeg).toNatClampNeg < w n.toNatClampNeg := by
  have hi := sp_nd_lt hN hn
  have q4 : sp_pb (nt 0 n.toNatClampNeg) (nt 2 n.toNatClampNeg) = true := by unfold sp_pb; rw [hk]; simp [sp_nd_n1 hb]
  have e := hw _ hi
  rw [q4] at e
  exact ⟨sp_nd_mono (Nat.le_of_lt hi) hN hb, (h.da hN hi).2 q4, by rw [e]; simp only [cond_true]; omega⟩
theorem sp_WF.fab {nt : sp_NT} {N : Nat} {w : Nat → Nat} (hN : N ≤ 4000) (hw : sp_WT nt N w) {n : Int32} (hn : sp_nd N n = true) (hk : sp_hA (nt 0 n.toNatClampNeg) = true) (ha : sp_nd n.toNatClampNeg (nt 1 n.toNatClampNeg) = true) (hk2 : sp_hB (nt 0 n.toNatClampNeg) = true) (hb : sp_nd n.toNatClampNeg (nt 2 n.toNatClampNeg) = true) :
    w (nt 1 n.toNatClampNeg).toNatClampNeg + w (nt 2 n.toNatClampNeg).toNatClampNeg < w n.toNatClampNeg := by
  have hi := sp_nd_lt hN hn
  have q3 : sp_pa (nt 0 n.toNatClampNeg) (nt 1 n.toNatClampNeg) = true := by unfold sp_pa; rw [hk]; simp [sp_nd_n1 ha]
  have q4 : sp_pb (nt 0 n.toNatClampNeg) (nt 2 n.toNatClampNeg) = true := by unfold sp_pb; rw [hk2]; simp [sp_nd_n1 hb]
  have e := hw _ hi
  rw [q3, q4] at e
  rw [e]; simp only [cond_true]; omega
theorem sp_dp1 {nt : sp_NT} {N M : Nat} {res par : Nat → Int32} (h : sp_WF nt N M res par) (hN : N ≤ 4000) {n : Int32} (hn : sp_nd N n = true) : 1 ≤ (nt 4 n.toNatClampNeg).toInt ∧ (nt 4 n.toNatClampNeg).toInt ≤ 40 := by
  have := h.dp hN N (Nat.le_refl _) n hn
  simp only [Int32.le_iff_toInt_le] at this
  have e1 : (1 : Int32).toInt = 1 := by decide
  have e2 : (40 : Int32).toInt = 40 := by decide
  omega
theorem md_cases {y : mj_X} {nt : sp_NT} {N M D f0 : Nat} {res par : Nat → Int32} (hy : md_T y nt N) (hF : sp_WF nt N M res par) (hM : M ≤ 40) {w : Nat → Nat} (hw : sp_WT nt N w) (hD : 1 ≤ D) (hS : md_S y nt N D w f0) : ∀ f, f ≤ f0 → ∀ q, sp_nd N q = true → nt 0 q.toNatClampNeg = 82 → (nt 4 q.toNatClampNeg).toInt ≤ f → ∀ d, D + 1 ≤ d → ∀ (n a b0 : Int32) (s : sp_SS), sp_SI N s → s.1 + w q.toNatClampNeg ≤ 4000 →
    rX1_isScopedStatement d (388, [some (.ref 0), some (.int n), some (.int a), some (.int b0), some (.int 1), some (.int q)], [], md_sc y s) = sp_o (md_sc y) (sp_sc nt f q s) ∧ sp_SG N (w q.toNatClampNeg) s (sp_sc nt f q s) := by
  have hN := hy.2.1
  intro f
  induction f with
  | zero => intro _ q hq _ h4; have := sp_dp1 hF hN hq; omega
  | succ f ih =>
    intro hf q hq e h4 d hd n a b0 s hs hW
    have hi := sp_nd_lt hN hq
    obtain ⟨⟨a1, a2⟩, b3⟩ := sp_k82 (hF.1 _ hi) (hF.ty hM hN _ (Nat.le_of_lt hi)) e
    obtain ⟨a4, a5, a6⟩ := hF.fa hN hw hq (by rw [e]; rfl) a1
    have ai := sp_nd_lt hN a4
    obtain ⟨f, rfl⟩ : ∃ c, f = c + 1 := ⟨f - 1, by have := sp_dp1 hF hN a4; omega⟩
    have hbd : sp_nd (nt 1 q.toNatClampNeg).toNatClampNeg (nt 2 (nt 1 q.toNatClampNeg).toNatClampNeg) = true ∧ sp_Sk (nt 0 (nt 2 (nt 1 q.toNatClampNeg).toNatClampNeg).toNatClampNeg) = true := by
      rcases a2 with z | z
      · exact sp_k83 (hF.1 _ ai) (hF.ty hM hN _ (Nat.le_of_lt ai)) z
      · exact (sp_k84 (hF.1 _ ai) (hF.ty hM hN _ (Nat.le_of_lt ai)) z).2
    obtain ⟨c1, c2⟩ := hbd
    obtain ⟨c4, c5, c6⟩ := hF.fb hN hw a4 (by rcases a2 with z | z <;> rw [z] <;> rfl) c1
    have body := md_place hN (hS f _ (by omega) c4 c2 (by omega)) hD d (by omega) s hs (by omega)
    dsimp only at body
    have ea : sp_sc nt (f + 1) (nt 1 q.toNatClampNeg) s = sp_al s.1 (sp_sc nt f (nt 2 (nt 1 q.toNatClampNeg).toNatClampNeg) s) := by
      rw [sp_sc_s nt f _ s]; rcases a2 with z | z <;> rw [z] <;> rfl
    have eq : sp_sc nt (f + 1 + 1) q s = sp_th (sp_sc nt (f + 1) (nt 1 q.toNatClampNeg) s) fun s => if nt 2 q.toNatClampNeg = -1 then (true, s) else sp_sc nt (f + 1) (nt 2 q.toNatClampNeg) s := by
      rw [sp_sc_s nt (f + 1) q s, e]; rfl
    have hg := fun r => mj_g_k (sp_nd_in hN hq (Nat.le_refl _)) r
    rw [bX1_isScopedStatement_388, if_neg (sp_nd_n1 hq), if_neg (by decide), hg, (md_sc_T hy s).2.2.2.1, mj_g_k (sp_nd_in hN a4 (Nat.le_refl _)), (md_sc_T hy s).2.2.2.2.1, body.1, eq, ea]
    generalize sp_al s.1 (sp_sc nt f (nt 2 (nt 1 q.toNatClampNeg).toNatClampNeg) s) = r at body
    unfold sp_o
    rw [mj_rI_k, hg, (md_sc_T hy r.2).2.2.2.2.1]
    have hr := body.2
    cases q1 : r.1
    · unfold sp_th
      rw [q1, bX1_isScopedStatement_388]
      refine ⟨?_, hr.mono (by omega)⟩
      by_cases q2 : nt 2 q.toNatClampNeg = -1
      · rw [if_pos q2]; simp only [cond_false, q1]; rfl
      · rw [if_neg q2, if_pos (show sp_b false = 0 from rfl)]; simp only [cond_false, q1]; rfl
    · unfold sp_th
      rw [q1]
      simp only [cond_true]
      by_cases q2 : nt 2 q.toNatClampNeg = -1
      · rw [if_pos q2, bX1_isScopedStatement_388, if_pos q2]
        exact ⟨rfl, hr.1, by have := hr.2.1; show r.2.1 ≤ _; omega, hr.2.2⟩
      · rw [if_neg q2]
        obtain ⟨b4, b5⟩ := b3.resolve_left q2
        obtain ⟨b6, b7, b8⟩ := hF.fb hN hw hq (by rw [e]; rfl) b4
        have hab := sp_WF.fab hN hw hq (by rw [e]; rfl) a1 (by rw [e]; rfl) b4
        have i := ih (by omega) _ b6 b5 (by omega) d hd n a b0 r.2 hr.2.2 (by have := hr.2.1; omega)
        exact ⟨i.1, Nat.le_trans hr.1 i.2.1, by have := hr.2.1; have := i.2.2.1; omega, i.2.2.2⟩
theorem md_hands {y : mj_X} {nt : sp_NT} {N M D f0 : Nat} {res par : Nat → Int32} (hy : md_T y nt N) (hF : sp_WF nt N M res par) (hM : M ≤ 40) {w : Nat → Nat} (hw : sp_WT nt N w) (hD : 1 ≤ D) (hS : md_S y nt N D w f0) : ∀ f, f ≤ f0 → ∀ q, sp_nd N q = true → nt 0 q.toNatClampNeg = 76 → (nt 4 q.toNatClampNeg).toInt ≤ f → ∀ d, D + 1 ≤ d → ∀ (c : Int32) (o4 o5 : Option Value) (s : sp_SS), sp_SI N s → s.1 + w q.toNatClampNeg ≤ 4000 →
    rX1_isScopedHandlers d (4, [some (.ref 0), some (.int c), some (.int 1), some (.int q), o4, o5], [], md_sc y s) = sp_o (md_sc y) (sp_sc nt f q s) ∧ sp_SG N (w q.toNatClampNeg) s (sp_sc nt f q s) := by
  have hN := hy.2.1
  intro f
  induction f with
  | zero => intro _ q hq _ h4; have := sp_dp1 hF hN hq; omega
  | succ f ih =>
    intro hf q hq e h4 d hd c o4 o5 s hs hW
    have hi := sp_nd_lt hN hq
    obtain ⟨⟨a1, a2⟩, b3⟩ := sp_k76 (hF.1 _ hi) (hF.ty hM hN _ (Nat.le_of_lt hi)) e
    obtain ⟨a4, a5, a6⟩ := hF.fa hN hw hq (by rw [e]; rfl) a1
    have ai := sp_nd_lt hN a4
    have eq : sp_sc nt (f + 1) q s = sp_th (sp_sc nt f (nt 1 q.toNatClampNeg) s) fun s => if nt 2 q.toNatClampNeg = -1 then (true, s) else sp_sc nt f (nt 2 q.toNatClampNeg) s := by
      rw [sp_sc_s nt f q s, e]; rfl
    have hg := fun r => mj_g_k (sp_nd_in hN hq (Nat.le_refl _)) r
    have ha := fun r => mj_g_k (sp_nd_in hN a4 (Nat.le_refl _)) r
    -- what comes after the handler
    have next : ∀ (r : Bool × sp_SS) (p4 p5 : Option Value), sp_SG N (w (nt 1 q.toNatClampNeg).toNatClampNeg) s r →
        rX1_isScopedHandlers d (4, [some (.ref 0), some (.int c), some (.int (sp_b r.1)), some (.int (nt 2 q.toNatClampNeg)), p4, p5], [], md_sc y r.2) = sp_o (md_sc y) (sp_th r fun s => if nt 2 q.toNatClampNeg = -1 then (true, s) else sp_sc nt f (nt 2 q.toNatClampNeg) s) ∧ sp_SG N (w q.toNatClampNeg) s (sp_th r fun s => if nt 2 q.toNatClampNeg = -1 then (true, s) else sp_sc nt f (nt 2 q.toNatClampNeg) s) := by
      intro r p4 p5 hr
      unfold sp_th
      cases q1 : r.1
      · rw [bX1_isScopedHandlers_4]
        refine ⟨?_, hr.mono (by omega)⟩
        by_cases q2 : nt 2 q.toNatClampNeg = -1
        · rw [if_pos q2]; unfold sp_o; simp only [cond_false, q1]; rfl
        · rw [if_neg q2, if_pos (show sp_b false = 0 from rfl)]; unfold sp_o; simp only [cond_false, q1]; rfl
      · simp only [cond_true]
        by_cases q2 : nt 2 q.toNatClampNeg = -1
        · rw [if_pos q2, bX1_isScopedHandlers_4, if_pos q2]
          exact ⟨rfl, hr.1, by have := hr.2.1; show r.2.1 ≤ _; omega, hr.2.2⟩
        · rw [if_neg q2]
          obtain ⟨b4, b5⟩ := b3.resolve_left q2
          obtain ⟨b6, b7, b8⟩ := hF.fb hN hw hq (by rw [e]; rfl) b4
          have hab := sp_WF.fab hN hw hq (by rw [e]; rfl) a1 (by rw [e]; rfl) b4
          have i := ih (by omega) _ b6 b5 (by omega) d hd c p4 p5 r.2 hr.2.2 (by have := hr.2.1; omega)
          exact ⟨i.1, Nat.le_trans hr.1 i.2.1, by have := hr.2.1; have := i.2.2.1; omega, i.2.2.2⟩
    -- one handler
    have one : ∀ (h : Int32) (s1 : sp_SS) (f1 w1 : Nat), sp_nd N h = true → sp_SI N s1 → s.1 ≤ s1.1 → s1.1 + w1 ≤ 4000 → s1.1 + w1 ≤ s.1 + w (nt 1 q.toNatClampNeg).toNatClampNeg → sp_SC kX1 (md_sc y) N D 27 (nt 2 h.toNatClampNeg) w1 (sp_sc nt f1 (nt 2 h.toNatClampNeg)) →
        rX1_isScopedHandlers d (59, [some (.ref 0), some (.int c), some (.int 1), some (.int q), some (.int h), some (.int (nI s.1))], [], md_sc y s1) = sp_o (md_sc y) (sp_th (sp_al s.1 (sp_al s1.1 (sp_sc nt f1 (nt 2 h.toNatClampNeg) s1))) fun s => if nt 2 q.toNatClampNeg = -1 then (true, s) else sp_sc nt f (nt 2 q.toNatClampNeg) s) ∧ sp_SG N (w q.toNatClampNeg) s (sp_th (sp_al s.1 (sp_al s1.1 (sp_sc nt f1 (nt 2 h.toNatClampNeg) s1))) fun s => if nt 2 q.toNatClampNeg = -1 then (true, s) else sp_sc nt f (nt 2 q.toNatClampNeg) s) := by
      intro h s1 f1 w1 hh hs1 h1 h2 h3 hc
      have body := md_place hN hc hD d (by omega) s1 hs1 (by omega)
      dsimp only at body
      rw [bX1_isScopedHandlers_59, mj_g_k (sp_nd_in hN hh (Nat.le_refl _)), (md_sc_T hy s1).2.2.2.2.1, body.1]
      generalize sp_al s1.1 (sp_sc nt f1 (nt 2 h.toNatClampNeg) s1) = r at body
      obtain ⟨z1, z2, z3⟩ := body.2
      unfold sp_o at *
      rw [mj_rI_k, sX1_undeclare (by omega) hN y z3 (by omega), mj_rV_k, hg, (md_sc_T hy _).2.2.2.2.1]
      have g : sp_SG N (w (nt 1 q.toNatClampNeg).toNatClampNeg) s r := ⟨by omega, by omega, z3⟩
      exact next (sp_al s.1 r) _ _ (g.al _)
    rw [bX1_isScopedHandlers_4, if_neg (sp_nd_n1 hq), if_neg (by decide), hg, (md_sc_T hy s).2.2.2.1, (md_sc_T hy s).2.2.1, ha, md_sc_c, eq]
    obtain ⟨f, rfl⟩ : ∃ c, f = c + 1 := ⟨f - 1, by have := sp_dp1 hF hN a4; omega⟩
    rcases a2 with z | z
    · rw [if_neg (by rw [z]; decide)]
      obtain ⟨-, -, c1, c2⟩ := sp_k77 (hF.1 _ ai) (hF.ty hM hN _ (Nat.le_of_lt ai)) z
      obtain ⟨c4, c5, c6⟩ := hF.fb hN hw a4 (by rw [z]; rfl) c1
      have hc := hS f _ (by omega) c4 c2 (by omega)
      have o := one (nt 1 q.toNatClampNeg) s f _ a4 hs (Nat.le_refl _) (by omega) (by omega) hc
      have ea : sp_sc nt (f + 1) (nt 1 q.toNatClampNeg) s = sp_al s.1 (sp_sc nt f (nt 2 (nt 1 q.toNatClampNeg).toNatClampNeg) s) := by
        rw [sp_sc_s nt f _ s, z]; rfl
      rw [sp_al_id (hc D (Nat.le_refl _) s hs (by omega)).2] at o
      rw [ea]; exact o
    · rw [if_pos z]
      obtain ⟨v1, -, v2⟩ := sp_k78 (hF.1 _ ai) (hF.ty hM hN _ (Nat.le_of_lt ai)) z
      obtain ⟨u1, u2, u3⟩ := hF.fa hN hw a4 (by rw [z]; rfl) v1.1
      obtain ⟨t1, t2, t3⟩ := hF.fb hN hw a4 (by rw [z]; rfl) v2.1
      have hab := sp_WF.fab hN hw a4 (by rw [z]; rfl) v1.1 (by rw [z]; rfl) v2.1
      have ti := sp_nd_lt hN t1
      obtain ⟨-, -, c1, c2⟩ := sp_k77 (hF.1 _ ti) (hF.ty hM hN _ (Nat.le_of_lt ti)) v2.2
      obtain ⟨c4, c5, c6⟩ := hF.fb hN hw t1 (by rw [v2.2]; rfl) c1
      obtain ⟨f, rfl⟩ : ∃ c, f = c + 1 := ⟨f - 1, by have := sp_dp1 hF hN t1; omega⟩
      rw [ha, sX1_declare (by omega) hN y hs.1 u1, mj_rV_k, ha, (md_sc_T hy _).2.2.2.2.1]
      have hc := hS f _ (by omega) c4 c2 (by omega)
      have hv : 1 ≤ w (nt 1 (nt 1 q.toNatClampNeg).toNatClampNeg).toNatClampNeg := by have := hw _ (sp_nd_lt hN u1); omega
      have o := one (nt 2 (nt 1 q.toNatClampNeg).toNatClampNeg) (sp_fo s (nt 1 (nt 1 q.toNatClampNeg).toNatClampNeg)) f _ t1 (hs.fo (by omega) u1) (Nat.le_succ _) (by show s.1 + 1 + _ ≤ 4000; omega) (by show s.1 + 1 + _ ≤ _; omega) hc
      have ea : sp_sc nt (f + 1 + 1) (nt 1 q.toNatClampNeg) s = sp_al s.1 (sp_sc nt (f + 1) (nt 2 (nt 1 q.toNatClampNeg).toNatClampNeg) (sp_fo s (nt 1 (nt 1 q.toNatClampNeg).toNatClampNeg))) := by
        rw [sp_sc_s nt (f + 1) _ s, z]; rfl
      have eb : ∀ s', sp_sc nt (f + 1) (nt 2 (nt 1 q.toNatClampNeg).toNatClampNeg) s' = sp_al s'.1 (sp_sc nt f (nt 2 (nt 2 (nt 1 q.toNatClampNeg).toNatClampNeg).toNatClampNeg) s') := by
        intro s'
        rw [sp_sc_s nt f _ s', v2.2]; rfl
      rw [ea, eb]; exact o
