/-! a whole member, all well -/
section
variable {nt : sp_NT} {N M : Nat} {res par : Nat → Int32} {ret : Nat} {T : Nat → List Nat} {rs : Int32}
/-- the state behind parameters -/
def oPg (N : Nat) (nt : sp_NT) (L : List Nat) (vs : List Nat) (g : wG) : Prop :=
  (g_it g = [] ∧ g_al g = true ∧ g_ov g = false ∧ g_L g = L ∧ g_st g = [] ∧ g_ms g = 0 ∧ g_ac g = 0 ∧ g_po g = [] ∧ g_rg g = [] ∧ g_nl g = 0 ∧ g_lc g = (0, 0, 0) ∧ g_cx g = [] ∧ g_ok g) ∧ L.length = g_nx g ∧ g_nx g ≤ g_mx g ∧ ¬ 12 ∈ L
  ∧ ∀ v, v ∈ vs → v < N → ∃ p, g_pl g v = some p ∧ L[p]? = some (nt 3 v).toNatClampNeg
theorem oPar_all (hT : wTb nt N M res par) : ∀ (l : List Int32) (q : Int32) (L vs : List Nat) (g : wG), sp_Ch nt N 86 l q → oPg N nt L vs g → (∀ p, p ∈ l → nK nt (nA nt p) = 5) →
    ∃ L' vs', oPg N nt L' vs' (w_par nt l g) ∧ (∀ v, v ∈ vs' ↔ v ∈ vs ∨ ∃ p, p ∈ l ∧ v = (nA nt p).toNatClampNeg) ∧ g_nx (w_par nt l g) ≤ g_nx g + 2 * l.length ∧ g_nx g ≤ g_nx (w_par nt l g) := by
  intro l
  induction l with
  | nil => intro q L vs g _ h _; exact ⟨L, vs, h, fun v => ⟨Or.inl, fun q => q.elim id (fun ⟨p, hp, _⟩ => by cases hp)⟩, Nat.le_add_right _ _, Nat.le_refl _⟩
  | cons p l ih =>
    intro q L vs g hch h hk
    obtain ⟨e1, e2, e3, e4, e5⟩ := hch
    subst e1
    have e4 : sp_nd N (nA nt q) = true := e4
    obtain ⟨t8, t1⟩ := hT.t e4
    have t1 := t1 (Or.inl (by rw [hk q (List.mem_cons_self ..)]; decide))
    have two := w_tl_2l (nT nt (nA nt q))
    have tlen : (w_tl (nT nt (nA nt q))).reverse.length = (w_tl (nT nt (nA nt q))).length := List.length_reverse
    obtain ⟨⟨h1, h2, h3, h4, h5, h6, h7, h8, h9, h10, h11, h12, h13⟩, hl, hm, h12', hv⟩ := h
    have nw : oPg N nt (L ++ (w_tl (nT nt (nA nt q))).reverse) ((nA nt q).toNatClampNeg :: vs) (s_L (g_L g ++ (w_tl (nT nt (nA nt q))).reverse) (s_tk (w_tl (nT nt (nA nt q))).length (s_pl (nA nt q).toNatClampNeg (g_nx g) g))) := by
      refine ⟨⟨h1, h2, h3, by show g_L g ++ _ = _; rw [h4], h5, h6, h7, h8, h9, h10, h11, h12, h13⟩, ?_, Nat.le_max_right _ _, no12 h12' t8, fun v hm hv' => ?_⟩
      · show _ = g_nx g + (w_tl (nT nt (nA nt q))).length
        rw [List.length_append, tlen, hl]
      · by_cases e : v = (nA nt q).toNatClampNeg
        · refine ⟨g_nx g, by show (if v = _ then some _ else _) = _; rw [if_pos e], ?_⟩
          rw [List.getElem?_append_right (by omega), hl, Nat.sub_self, e]
          show (w_tl (nT nt (nA nt q))).reverse[0]? = some (nT nt (nA nt q))
          unfold w_tl
          rw [if_neg (by omega)]
          split <;> rfl
        · rcases List.mem_cons.mp hm with y | y
          · exact absurd y e
          · obtain ⟨p, p1, p2⟩ := hv v y hv'
            refine ⟨p, by show (if v = _ then some _ else g_pl g v) = _; rw [if_neg e]; exact p1, ?_⟩
            rw [List.getElem?_append_left (List.getElem?_eq_some_iff.mp p2).1]; exact p2
    obtain ⟨L', vs', r1, r2, r3, r4⟩ := ih (nB nt q) _ _ _ e5 nw (fun p hp => hk p (List.mem_cons_of_mem _ hp))
    refine ⟨L', vs', r1, fun v => ?_, ?_, ?_⟩
    · rw [r2 v, List.mem_cons]
      refine ⟨fun y => ?_, fun y => ?_⟩
      · rcases y with (y | y) | ⟨p, p1, p2⟩
        · exact Or.inr ⟨q, List.mem_cons_self .., y⟩
        · exact Or.inl y
        · exact Or.inr ⟨p, List.mem_cons_of_mem _ p1, p2⟩
      · rcases y with y | ⟨p, p1, p2⟩
        · exact Or.inl (Or.inr y)
        · rcases List.mem_cons.mp p1 with z | z
          · exact Or.inl (Or.inl (by rw [p2, z]))
          · exact Or.inr ⟨p, z, p2⟩
    · have : g_nx (s_L (g_L g ++ (w_tl (nT nt (nA nt q))).reverse) (s_tk (w_tl (nT nt (nA nt q))).length (s_pl (nA nt q).toNatClampNeg (g_nx g) g))) = g_nx g + (w_tl (nT nt (nA nt q))).length := rfl
      rw [this] at r3
      show g_nx (w_par nt l _) ≤ _
      simp only [List.length_cons]; omega
    · have : g_nx (s_L (g_L g ++ (w_tl (nT nt (nA nt q))).reverse) (s_tk (w_tl (nT nt (nA nt q))).length (s_pl (nA nt q).toNatClampNeg (g_nx g) g))) = g_nx g + (w_tl (nT nt (nA nt q))).length := rfl
      rw [this] at r4
      show g_nx g ≤ g_nx (w_par nt l _)
      omega
/-- a member that is judged good is written well -/
theorem oW_all (hN : N ≤ 64) (hT : wTb nt N M res par) (hTr : oTr nt N T) (hret : ret = rs.toNatClampNeg) (hr8 : 0 ≤ rs) {params body : Int32} {l : List Int32} {s : sp_SS} {f : Nat} (hl : sp_Ch nt N 86 l params) (hc : sp_chain nt 4001 params = l) (hk : ∀ p, p ∈ l → nK nt (nA nt p) = 5) (hA : wA nt N f body)
    (hsc : (sp_sc nt f body s).1 = true) (hlf : sp_lf nt rs f body 0 0 = true) (hs : ∀ v, s.2.1 v = true → ∃ p, p ∈ l ∧ v = (nA nt p).toNatClampNeg) (hdj : ∀ p, p ∈ l → ¬ (nA nt p).toNatClampNeg ∈ oT T body) (hsz : 2 * l.length + 2 * (oT T body).length ≤ 240) :
    ∃ L, ¬ 12 ∈ L ∧ L = g_L (w_par nt l w_g0) ∧ oI nt N M res par ret (L, []) (wW nt rs params body) := by
  have h0 : oPg N nt [] [] w_g0 := ⟨⟨rfl, rfl, rfl, rfl, rfl, rfl, rfl, rfl, rfl, rfl, rfl, rfl, trivial⟩, rfl, Nat.le_refl _, by simp, fun v hv => by cases hv⟩
  obtain ⟨L, vs, ⟨⟨h1, h2, h3, h4, h5, h6, h7, h8, h9, h10, h11, h12, h13⟩, hl', hm, h12', hv⟩, r2, r3, r4⟩ := oPar_all hT l params [] [] w_g0 hl h0 hk
  refine ⟨L, h12', h4.symm, ?_⟩
  unfold wW
  rw [hc]
  simp only
  have r3 : g_nx (w_par nt l w_g0) ≤ 2 * l.length := by have : g_nx w_g0 = 0 := rfl; omega
  generalize w_par nt l w_g0 = gp at *
  have us0 : g_us gp = 0 := by unfold g_us; rw [h11]
  have n10 : g_n1 gp = 0 := by unfold g_n1; rw [h11]
  have fm0 : g_fm gp = 0 := by unfold g_fm; rw [h11]
  have I0 : oI nt N M res par ret (L, []) gp := by
    refine ⟨h13, ⟨by rw [h8]; exact List.nodup_nil, fun e he => by rw [h8] at he; cases he⟩, fun _ => ⟨(fun k i F q => by rw [h1] at q; simp at q), (fun l hl => by rw [h10] at hl; exact absurd hl (Nat.not_lt_zero _)), fun j q => ?_, (fun r q => by rw [h9] at q; cases q), ⟨Or.inr ⟨by rw [h1]; rfl, h2, by rw [h4, h5]; exact w_fit.rf _⟩, Or.inl h6⟩, fun _ => ⟨by rw [h4, hl']; exact hm, by rw [h5]; exact Nat.zero_le _⟩⟩⟩
    rw [h1] at q
    rcases q with q | ⟨q, -⟩
    · exact absurd q (Nat.not_lt_zero _)
    · exact Or.inl q
  have Y0 : oY nt N M res par ret (L, []) [] (g_cx gp) gp := ⟨I0, by rw [h12]; trivial, by omega, by omega, fun _ => by omega, fun _ e he => by cases he⟩
  have q0 : w_q gp = false := by rw [w_q_iff]; exact ⟨h2, h3⟩
  have P0 : oPr nt N M res par ret (L, []) T rs 200 f body gp s [] 0 := by
    refine ⟨q0, Y0, trivial, trivial, fun e he => (by cases he), ⟨h5, by rw [h4]; exact hl'⟩, ⟨fun v hv' hi => ?_, by rw [h4]; exact h12'⟩, hsc, hlf, fun v hv' hi => ⟨?_, fun ⟨e, he, _⟩ => by cases he⟩, fun x _ ⟨e, he, _⟩ => (by cases he), ?_, ⟨by rw [us0]; omega, by omega, by omega⟩, by omega⟩
    · rw [h4]; exact hv v ((r2 v).mpr (Or.inr (hs v hi))) hv'
    · obtain ⟨p, p1, p2⟩ := hs v hi
      rw [p2]; exact hdj p p1
    · show g_nx gp + 2 * (oT T body).length + 2 * 0 ≤ 240
      omega
  have S := (oS_all (ret := ret) (E := (L, [])) hN hT hTr hret 200).2 f body hA gp s [] 0 P0
  obtain ⟨s1, s2, s3, s4, s5, s6⟩ := S
  have w0 : oW N (g_nl gp) (oDn T body []) [] [] := ⟨fun e he => (by cases he), fun e he => (by cases he), hN, fun e he => (by cases he)⟩
  have M1 : oM nt N M res par ret (L, []) [] (g_nl gp) (g_nl gp) 0 (oDn T body []) [] 0 [] [] gp (w_aln (wS nt 200) body gp) := by
    have m := oM.of (L0 := []) (s := []) (cx := g_cx (wS nt 200 body gp)) ⟨s1, s2, fun q => ⟨List.nil_prefix, (s3 q).2⟩, Nat.zero_le _⟩ rfl
    exact (m.sL w0 (List.take_prefix _ _) (fun _ => List.nil_prefix)).nx (Nat.zero_le _)
  generalize w_aln (wS nt 200) body gp = g at *
  by_cases r0 : rs = 0
  · rw [if_pos r0]
    cases hq : w_q g
    · have := (M1.term (off := 0) (on := []) w0 (fun e he => by cases he) hq (i := (16, 177, 0, 0, [])) rfl rfl ⟨Or.inl (Or.inl rfl), fun q => (q.elim (fun q => absurd q (by decide)) (fun q => absurd q (by decide))), fun q => absurd q (by decide), fun q => absurd q (by decide), (fun _ _ _ => Or.inl ⟨rfl, by rw [hret, r0]; rfl⟩), oShp0 rfl (by decide)⟩ (Nat.zero_le _) (by decide) []).1
      obtain ⟨ct, j⟩ := this.ac
      exact j.1.1
    · rw [show w_em (16, 177, 0, 0, []) 0 [] g = g by unfold w_em; rw [hq]; rfl]
      have := (M1.al0 hN (s' := []) (by
        unfold w_q at hq
        cases y : g_al g
        · exact Or.inr rfl
        · rw [y] at hq; exact Or.inl (by simpa using hq))).1
      obtain ⟨ct, j⟩ := this.ac
      exact j.1.1
  · rw [if_neg r0]
    obtain ⟨ct, j⟩ := M1.ac
    exact j.1.1
end
