/-! CodeWriter: a whole member is written -/
/-- the state behind the parameters -/
def w_gp (L : List Nat) (nx mx : Nat) (pl : Nat → Option Nat) : wG := ([], true, false, (L, []), (nx, mx, 0, 0), ([], -1), [], [], (0, (fun _ => none), (fun _ => false), (fun _ => ([], [])), (0, 0, 0)), [], pl, True)
theorem w_g0_p : w_g0 = w_gp [] 0 0 (fun _ => none) := rfl
theorem w_par_p (nt : sp_NT) (q : Int32) (r : List Int32) (L : List Nat) (nx mx : Nat) (pl : Nat → Option Nat) : w_par nt (q :: r) (w_gp L nx mx pl) = w_par nt r (w_gp (L ++ (w_tl (nT nt (nA nt q))).reverse) (nx + (w_tl (nT nt (nA nt q))).length) (max mx (nx + (w_tl (nT nt (nA nt q))).length)) (fun j => if j = (nA nt q).toNatClampNeg then some nx else pl j)) := rfl
/-- what parameters change -/
def yzp (k j : Nat) : Bool := match k with
  | 0 => [32, 33].elem j
  | 35 => true
  | _ => false
section
variable {nt : sp_NT} {N M : Nat} {P : yP} {sb : Nat} {x y : mj_X} {res par : Nat → Int32}
def yPar (nt : sp_NT) (pf : Nat) (x y : mj_X) (nx mx : Nat) (pl : Nat → Option Nat) : Prop := yfr yzp pf x y ∧ y.2 = x.2 ∧ y.1 0 32 = nI nx ∧ y.1 0 33 = nI mx ∧ mx ≤ 250 ∧ (∀ v p, v < 4000 → pl v = some p → y.1 35 v = nI p ∧ p < 256 ∧ nt 0 v = 5) ∧ ∀ k, pl (4000 + k) = none
theorem w_tl_2 (t : Nat) : (w_tl t).length ≤ 2 := by
  unfold w_tl
  split
  · exact Nat.zero_le _
  · split <;> simp
theorem k_par {d pf : Nat} {a1 a2 a3 : Int32} (hd : 3 ≤ d) (hT : wTb nt N M res par) (hx : x.1 2 = nt 1 ∧ x.1 3 = nt 2 ∧ x.1 4 = nt 3) : ∀ (l : List Int32) (q : Int32) (y : mj_X) (L : List Nat) (nx mx : Nat) (pl : Nat → Option Nat), sp_Ch nt N 86 l q → (∀ p, p ∈ l → nK nt (nA nt p) = 5) → yPar nt pf x y nx mx pl → nx + 2 * l.length ≤ 250 →
    ∃ y' L' nx' mx' pl', rX0_write d (107, [some (.ref 0), some (.int a1), some (.int a2), some (.int a3), some (.int q)], [], y) = rX0_write d (107, [some (.ref 0), some (.int a1), some (.int a2), some (.int a3), some (.int (-1 : Int32))], [], y') ∧ w_par nt l (w_gp L nx mx pl) = w_gp L' nx' mx' pl' ∧ yPar nt pf x y' nx' mx' pl' ∧ nx' ≤ 250 := by
  intro l
  induction l with
  | nil =>
    intro q y L nx mx pl hl _ h hn
    have hq : q = -1 := hl
    exact ⟨y, L, nx, mx, pl, by rw [hq], rfl, h, by simp only [List.length_nil] at hn; omega⟩
  | cons p r ih =>
    intro q y L nx mx pl hl hk h hn
    obtain ⟨rfl, e2, e3, e4, e5⟩ := hl
    simp only [List.length_cons] at hn
    have e4 : sp_nd N (nA nt q) = true := e4
    have t8 := (hT.t e4).1
    have g1 : ∀ r : mj_R, mj_g q 4000 r = r := fun r => mj_g_k (sp_nd_in hT.2.2 e2 (Nat.le_refl _)) r
    have g2 : ∀ r : mj_R, mj_g (nA nt q) 4000 r = r := fun r => mj_g_k (sp_nd_in hT.2.2 e4 (Nat.le_refl _)) r
    obtain ⟨f, f2, h1, h2, h3, h4, h5⟩ := h
    have E2 : y.1 2 = nt 1 := by rw [← hx.1]; exact funext fun j => f.1 2 j rfl
    have E3 : y.1 3 = nt 2 := by rw [← hx.2.1]; exact funext fun j => f.1 3 j rfl
    have E4 : y.1 4 = nt 3 := by rw [← hx.2.2]; exact funext fun j => f.1 4 j rfl
    have tl := w_tl_2 (nT nt (nA nt q))
    rw [bX0_write_107, if_neg (nd_n1 e2), g1, g1, show y.1 2 q.toNatClampNeg = nA nt q by rw [E2], g2, show y.1 4 (nA nt q).toNatClampNeg = nI (nT nt (nA nt q)) by rw [E4, hT.ty e4], e_takeX (by omega), mj_rI_k, g2, g1, h1, h2, sp_pl_n t8, nI_add, nI_max (by omega) (by omega)]
    rw [show (mj_wI (mj_wI y 0 32 (nI (nx + (w_tl (nT nt (nA nt q))).length))) 0 33 (nI (max mx (nx + (w_tl (nT nt (nA nt q))).length)))).1 3 q.toNatClampNeg = nB nt q by show y.1 3 _ = _; rw [E3]]
    rw [w_par_p]
    refine ih (nB nt q) _ _ _ _ _ e5 (fun a ha => hk a (List.mem_cons_of_mem _ ha)) ⟨((f.w _ rfl).w _ rfl).w _ rfl, f2, rfl, rfl, by omega, fun v p hv hp => ?_, fun k => ?_⟩ (by omega)
    · have hp : (if v = (nA nt q).toNatClampNeg then some nx else pl v) = some p := hp
      show upd (y.1 35) (nA nt q).toNatClampNeg (nI nx) v = _ ∧ _
      by_cases e : v = (nA nt q).toNatClampNeg
      · rw [if_pos e] at hp
        injection hp with hp
        subst hp
        rw [e, pk_us]
        exact ⟨rfl, by omega, hk q (List.mem_cons_self ..)⟩
      · rw [if_neg e] at hp
        rw [pk_un e]; exact h4 v p hv hp
    · show (if 4000 + k = (nA nt q).toNatClampNeg then some nx else pl (4000 + k)) = none
      have := sp_nd_lt hT.2.2 e4
      have := hT.2.2
      rw [if_neg (by omega)]; exact h5 k
/-- between calls, as a member is to be written -/
def yB (nt : sp_NT) (N : Nat) (P : yP) (sb : Nat) (x : mj_X) : Prop := yE nt N P (fun _ => none) x ∧ p_M P ≤ 39 ∧ x.1 21 (p_M P) = nI (p_rf P) ∧ p_rf P ≤ 20000 ∧ x.1 0 31 = sp_b (p_w P) ∧ (∃ t, x.1 0 48 = nI t ∧ t ≤ p_tb P) ∧ (∃ t, x.1 0 66 = nI t ∧ t ≤ sb) ∧ sb + 1 ≤ 2000000000
/-- a member as it was written -/
def yR (P : yP) (lm : Nat → Nat) (lv : Nat → Bool) (x : mj_X) (G : wG) : Prop := yL [] (g_nl G) lm lv x (g_us G) ∧ y1 P [] lm lv x G ∧ x.1 0 33 = nI (g_mx G) ∧ g_mx G ≤ 252 ∧ y_rg (p_w P) (p_rf P) (g_it G) (x.1 0 45) (x.1 22) (g_rg G)
theorem yzp_w {K : Nat} (f : yfr yzp (p_pf P) x y) : yfr (yw2 P K) (p_pf P) x y := f.mono (fun k j h => by
  unfold yzp
  split
  · have h := h; unfold yw2 at h; simp at h
    simp; omega
  · exfalso; unfold yw2 at h; simp at h
  · rfl)
/-- the start -/
theorem yB.start {L : List Nat} {nx mx : Nat} {pl : Nat → Option Nat} {x1 : mj_X} (h : yB nt N P sb x) (hx1 : x1 = (mj_wI (mj_wI (mj_wI (mj_wI (mj_wI (mj_wI (mj_wI (mj_wI (mj_wI (mj_wI (mj_wI (mj_wI (mj_wI (mj_wI (mj_wI (mj_wI x 0 28 (0 : Int32)) 0 29 (0 : Int32)) 0 30 (1 : Int32)) 0 32 (0 : Int32)) 0 33 (0 : Int32)) 0 37 (0 : Int32)) 0 38 (-1 : Int32)) 0 42 (0 : Int32)) 0 43 (nI (p_pf P))) 0 44 (1 : Int32)) 0 45 (nI (p_rf P))) 0 46 (nI (p_lf P))) 0 47 (-1 : Int32)) 0 58 (0 : Int32)) 0 59 (-1 : Int32)) 0 65 (0 : Int32))) (hp : yPar nt (p_pf P) x1 y nx mx pl) (hn : nx ≤ 250) :
    Y2 nt N P 0 [] [] 0 0 (sb + 1) (fun _ => False) none [] (fun _ => 0) (fun _ => false) (fun _ => false) (mj_wI (mj_wI y 0 60 0) 0 61 0) (w_gp L nx mx pl) ∧ yfr (yw2 P 0) (p_pf P) x (mj_wI (mj_wI y 0 60 0) 0 61 0) := by
  obtain ⟨he, hM, h21, hrf, h31, ⟨t, t1, t2⟩, ⟨s, s1, s2⟩, hsb⟩ := h
  obtain ⟨f, f2, p1, p2, p3, p4, p5⟩ := hp
  have f0 : yfr (yw2 P 0) (p_pf P) x x1 := by
    rw [hx1]
    exact ((((((((((((((((yfr.rf _ _ x).w _ rfl).w _ rfl).w _ rfl).w _ rfl).w _ rfl).w _ rfl).w _ rfl).w _ rfl).w _ rfl).w _ rfl).w _ rfl).w _ rfl).w _ rfl).w _ rfl).w _ rfl).w _ rfl
  have fz : yfr (yw2 P 0) (p_pf P) x (mj_wI (mj_wI y 0 60 0) 0 61 0) := (((f0.tr (yzp_w f)).w _ rfl).w _ rfl)
  have hez := he.fr2 fz
  -- the fields
  have E : ∀ j, j ≠ 32 → j ≠ 33 → j ≠ 60 → j ≠ 61 → (mj_wI (mj_wI y 0 60 0) 0 61 0).1 0 j = x1.1 0 j := by
    intro j h1 h2 h3 h4
    rw [mj_wI_1, if_pos rfl, if_neg h4, mj_wI_1, if_pos rfl, if_neg h3]
    exact f.1 0 j (by unfold yzp; simp [h1, h2])
  have e28 : x1.1 0 28 = nI 0 := by rw [hx1]; rfl
  have e29 : x1.1 0 29 = 0 := by rw [hx1]; rfl
  have e30 : x1.1 0 30 = 1 := by rw [hx1]; rfl
  have e37 : x1.1 0 37 = nI 0 := by rw [hx1]; rfl
  have e38 : x1.1 0 38 = -1 := by rw [hx1]; rfl
  have e42 : x1.1 0 42 = nI 0 := by rw [hx1]; rfl
  have e43 : x1.1 0 43 = nI (p_pf P) := by rw [hx1]; rfl
  have e44 : x1.1 0 44 = nI 1 := by rw [hx1]; rfl
  have e45 : x1.1 0 45 = nI (p_rf P) := by rw [hx1]; rfl
  have e46 : x1.1 0 46 = nI (p_lf P) := by rw [hx1]; rfl
  have e47 : x1.1 0 47 = -1 := by rw [hx1]; rfl
  have e58 : x1.1 0 58 = nI 0 := by rw [hx1]; rfl
  have e59 : x1.1 0 59 = -1 := by rw [hx1]; rfl
  have e65 : x1.1 0 65 = nI 0 := by rw [hx1]; rfl
  have e31 : x1.1 0 31 = sp_b (p_w P) := by rw [hx1]; exact h31
  have e48 : x1.1 0 48 = nI t := by rw [hx1]; exact t1
  have e66 : x1.1 0 66 = nI s := by rw [hx1]; exact s1
  have z21 : (mj_wI (mj_wI y 0 60 0) 0 61 0).1 21 (p_M P) = nI (p_rf P) := by rw [fz.1 21 _ rfl]; exact h21
  have z32 : (mj_wI (mj_wI y 0 60 0) 0 61 0).1 0 32 = nI nx := p1
  have z33 : (mj_wI (mj_wI y 0 60 0) 0 61 0).1 0 33 = nI mx := p2
  have z35 : (mj_wI (mj_wI y 0 60 0) 0 61 0).1 35 = y.1 35 := rfl
  have z60 : (mj_wI (mj_wI y 0 60 0) 0 61 0).1 0 60 = nI 0 := rfl
  have z61 : (mj_wI (mj_wI y 0 60 0) 0 61 0).1 0 61 = nI 0 := rfl
  obtain ⟨z, hz⟩ : ∃ z, z = mj_wI (mj_wI y 0 60 0) 0 61 0 := ⟨_, rfl⟩
  rw [← hz] at fz hez E z21 z32 z33 z35 z60 z61 ⊢
  have a28 := (E 28 (by decide) (by decide) (by decide) (by decide)).trans e28
  have a29 := (E 29 (by decide) (by decide) (by decide) (by decide)).trans e29
  have a30 := (E 30 (by decide) (by decide) (by decide) (by decide)).trans e30
  have a31 := (E 31 (by decide) (by decide) (by decide) (by decide)).trans e31
  have a37 := (E 37 (by decide) (by decide) (by decide) (by decide)).trans e37
  have a38 := (E 38 (by decide) (by decide) (by decide) (by decide)).trans e38
  have a42 := (E 42 (by decide) (by decide) (by decide) (by decide)).trans e42
  have a43 := (E 43 (by decide) (by decide) (by decide) (by decide)).trans e43
  have a44 := (E 44 (by decide) (by decide) (by decide) (by decide)).trans e44
  have a45 := (E 45 (by decide) (by decide) (by decide) (by decide)).trans e45
  have a46 := (E 46 (by decide) (by decide) (by decide) (by decide)).trans e46
  have a47 := (E 47 (by decide) (by decide) (by decide) (by decide)).trans e47
  have a48 := (E 48 (by decide) (by decide) (by decide) (by decide)).trans e48
  have a58 := (E 58 (by decide) (by decide) (by decide) (by decide)).trans e58
  have a59 := (E 59 (by decide) (by decide) (by decide) (by decide)).trans e59
  have a65 := (E 65 (by decide) (by decide) (by decide) (by decide)).trans e65
  have a66 := (E 66 (by decide) (by decide) (by decide) (by decide)).trans e66
  refine ⟨⟨hez, ⟨rfl, a58, Nat.le_refl 0, by decide, z61, a59, List.Pairwise.nil, fun s hs => by simp at hs, ⟨0, by decide, a65⟩, ⟨p_rf P, Nat.le_refl _, hrf, a45⟩, z21, ⟨s, 0, a66, z60, by omega, by decide⟩, hsb⟩, fun k hk => hk.elim, Or.inl ⟨a29, ?_, ⟨[], 0, a37, by decide, a38, by simp, fun f hf => by simp at hf, Nat.le_refl 0, fun l hl => absurd hl (Nat.not_lt_zero _), fun l l' hl => absurd hl (Nat.not_lt_zero _), fun p hp => by cases hp⟩, ?_, ?_⟩⟩, fz⟩
  · intro v p hv hp
    rw [z35]; exact p4 v p hv hp
  · refine ⟨rfl, Nat.zero_le _, a30, a31, ⟨a28, Nat.zero_le _, he.2.1.2.2.2, fun j v hj => absurd hj (show ¬ ([] : List Int32)[j]? = some v by simp)⟩, ⟨a42, Nat.zero_le _, (fun q hq => by cases hq), trivial⟩, ⟨fun l hl => absurd hl (Nat.not_lt_zero _), fun l hl => absurd hl (Nat.not_lt_zero _), fun l i hl => absurd hl (Nat.not_lt_zero _), (fun p hp => by cases hp)⟩, ⟨a43, a44, Nat.zero_le _, trivial⟩, ⟨a46, a47, ?_, (fun e he => by cases he), trivial, t, a48, t2⟩⟩
    exact he.2.2.2.2.2.2.2.1
  · refine ⟨⟨z32, by show nx ≤ 8000; omega, z33, by show mx ≤ 252; omega, z60, Nat.zero_le _⟩, ⟨a45, hrf, fun e he => (by cases he), trivial⟩, fun k l hk => ?_, fun s hs => by simp at hs, [], s, a66, by omega, a65, Nat.zero_le _, Nat.zero_le _, trivial, fun e he => (by cases he), fun s hs => by simp at hs, fun q hq => (by cases hq), by simp, (fun s hs => by cases hs)⟩
    have : pl (4000 + k) = some l := hk
    rw [p5] at this; cases this
end
