/-! CodeWriterModel: a whole member is written -/
/-- what parameters change -/
def zzp (k j : Nat) : Bool := match k with
  | 0 => [38, 39].elem j
  | 48 => true
  | _ => false
section
variable {nt : sp_NT} {N M : Nat} {w : Bool} {ba pf rf lf c : Nat} {x y : mj_X} {res par : Nat → Int32}
def zPar (x y : mj_X) (nx mx : Nat) (pl : Nat → Option Nat) : Prop := zfr zzp x y ∧ y.1 0 38 = nI nx ∧ y.1 0 39 = nI mx ∧ mx ≤ 250 ∧ (∀ v p, v < 4000 → pl v = some p → y.1 48 v = nI p ∧ p < 256) ∧ ∀ k, pl (4000 + k) = none
theorem zfr.mono' {Z Z' : Nat → Nat → Bool} {x y : mj_X} (a : zfr Z x y) (h : ∀ k j, Z' k j = false → Z k j = false) : zfr Z' x y := ⟨a.1, fun k j q => a.2 k j (h k j q)⟩
theorem m_par {d : Nat} {a1 a2 a3 : Int32} (hd : 4 ≤ d) (hT : wTb nt N M res par) (hx : x.1 3 = nt 1 ∧ x.1 4 = nt 2 ∧ x.1 5 = nt 3) : ∀ (l : List Int32) (q : Int32) (y : mj_X) (L : List Nat) (nx mx : Nat) (pl : Nat → Option Nat), sp_Ch nt N 86 l q → zPar x y nx mx pl → nx + 2 * l.length ≤ 250 →
    ∃ y' L' nx' mx' pl', rX1_writeAll d (93, [some (.ref 0), some (.int a1), some (.int a2), some (.int a3), some (.int q)], [], y) = rX1_writeAll d (93, [some (.ref 0), some (.int a1), some (.int a2), some (.int a3), some (.int (-1 : Int32))], [], y') ∧ w_par nt l (w_gp L nx mx pl) = w_gp L' nx' mx' pl' ∧ zPar x y' nx' mx' pl' ∧ nx' ≤ 250 := by
  intro l
  induction l with
  | nil =>
    intro q y L nx mx pl hl h hn
    have hq : q = -1 := hl
    exact ⟨y, L, nx, mx, pl, by rw [hq], rfl, h, by simp only [List.length_nil] at hn; omega⟩
  | cons p r ih =>
    intro q y L nx mx pl hl h hn
    obtain ⟨rfl, e2, e3, e4, e5⟩ := hl
    simp only [List.length_cons] at hn
    have e4 : sp_nd N (nA nt q) = true := e4
    have t8 := (hT.t e4).1
    have g1 : ∀ r : mj_R, mj_g q 4000 r = r := fun r => mj_g_k (sp_nd_in hT.2.2 e2 (Nat.le_refl _)) r
    obtain ⟨f, h1, h2, h3, h4, h5⟩ := h
    have E3 : y.1 3 = nt 1 := by rw [← hx.1]; exact funext fun j => f.2 3 j rfl
    have E4 : y.1 4 = nt 2 := by rw [← hx.2.1]; exact funext fun j => f.2 4 j rfl
    have E5 : y.1 5 = nt 3 := by rw [← hx.2.2]; exact funext fun j => f.2 5 j rfl
    have tl := w_tl_2 (nT nt (nA nt q))
    rw [bX1_writeAll_93, if_neg (nd_n1 e2), g1, show y.1 3 q.toNatClampNeg = nA nt q by rw [E3], e_take (by omega) hT.2.2 e4, mj_rV_k, g1, show y.1 5 (nA nt q).toNatClampNeg = nI (nT nt (nA nt q)) by rw [E5, hT.ty e4], h1, h2, sp_pl_n t8, nI_add, nI_max (by omega) (by omega)]
    rw [show (mj_wI (mj_wI (mj_wI y 0 38 (nI (nx + (w_tl (nT nt (nA nt q))).length))) 0 39 (nI (max mx (nx + (w_tl (nT nt (nA nt q))).length)))) 48 (nA nt q).toNatClampNeg (nI nx)).1 4 q.toNatClampNeg = nB nt q by show y.1 4 _ = _; rw [E4]]
    rw [w_par_p]
    refine ih (nB nt q) _ _ _ _ _ e5 ⟨((f.w _ rfl).w _ rfl).w _ rfl, rfl, rfl, by omega, fun v p hv hp => ?_, fun k => ?_⟩ (by omega)
    · have hp : (if v = (nA nt q).toNatClampNeg then some nx else pl v) = some p := hp
      show upd (y.1 48) (nA nt q).toNatClampNeg (nI nx) v = _ ∧ _
      by_cases e : v = (nA nt q).toNatClampNeg
      · rw [if_pos e] at hp
        injection hp with hp
        subst hp
        rw [e, pk_us]
        exact ⟨rfl, by omega⟩
      · rw [if_neg e] at hp
        rw [pk_un e]; exact h4 v p hv hp
    · show (if 4000 + k = (nA nt q).toNatClampNeg then some nx else pl (4000 + k)) = none
      have := sp_nd_lt hT.2.2 e4
      have := hT.2.2
      rw [if_neg (by omega)]; exact h5 k
/-- as a member is to be written -/
def zB (nt : sp_NT) (N M : Nat) (w : Bool) (ba pf rf lf : Nat) (x : mj_X) : Prop := z_env nt N M ba pf lf (fun _ => none) x ∧ M ≤ 39 ∧ x.1 17 M = nI rf ∧ rf ≤ 20000 ∧ x.1 0 31 = nI ba ∧ x.1 0 33 = sp_b w ∧ x.1 0 34 = 0 ∧ x.1 0 40 = 0 ∧ ∀ k, ∃ m, m < 300000 ∧ x.1 74 k = nI m
/-- a member as it was written -/
def zR (nt : sp_NT) (N M : Nat) (w : Bool) (ba pf rf lf c : Nat) (lm : Nat → Nat) (lv : Nat → Bool) (x : mj_X) (G : wG) : Prop := Q1 nt N M w ba pf rf lf c lm lv x G ∧ x.1 0 39 = nI (g_mx G) ∧ g_mx G ≤ 8000 ∧ z_rg w rf (g_it G) (x.1 0 44) (x.1 24) (g_rg G)
theorem zzp_w (f : zfr zzp x y) : zfr (zw2 ba pf rf lf) x y := f.mono' (fun k j h => by
  unfold zzp
  split
  · have h := h; unfold zw2 at h; simp at h
    simp; omega
  · exfalso; unfold zw2 zw at h; simp at h
  · rfl)
theorem zB.start {L : List Nat} {nx mx : Nat} {pl : Nat → Option Nat} {x1 : mj_X} (h : zB nt N M w ba pf rf lf x) (hba : ba ≤ 90000) (hx1 : x1 = (mj_wI (mj_wI (mj_wI (mj_wI (mj_wI (mj_wI (mj_wI (mj_wI (mj_wI (mj_wI (mj_wI (mj_wI (mj_wI (mj_wI (mj_wI (mj_wI (mj_wI (mj_wI x 0 41 (0 : Int32)) 0 32 (0 : Int32)) 0 35 (1 : Int32)) 0 36 (0 : Int32)) 0 37 (0 : Int32)) 0 38 (0 : Int32)) 0 39 (0 : Int32)) 0 42 (0 : Int32)) 0 43 (1 : Int32)) 0 44 (0 : Int32)) 0 45 (0 : Int32)) 0 46 (-1 : Int32)) 0 50 (0 : Int32)) 0 57 (0 : Int32)) 0 55 (0 : Int32)) 0 72 (0 : Int32)) 0 58 (0 : Int32)) 0 59 (-1 : Int32))) (hp : zPar x1 y nx mx pl) (hn : nx ≤ 250) :
    Q2 nt N M w ba pf rf lf c 0 [] 0 0 none [] (fun _ => 0) (fun _ => false) y (w_gp L nx mx pl) ∧ zfr (zw2 ba pf rf lf) x y := by
  obtain ⟨he, hM, h17, hrf, h31, h33, h34, h40, h74⟩ := h
  obtain ⟨f, p1, p2, p3, p4, p5⟩ := hp
  have f0 : zfr (zw2 ba pf rf lf) x x1 := by
    rw [hx1]
    exact ((((((((((((((((((zfr.rf _ x).w _ rfl).w _ rfl).w _ rfl).w _ rfl).w _ rfl).w _ rfl).w _ rfl).w _ rfl).w _ rfl).w _ rfl).w _ rfl).w _ rfl).w _ rfl).w _ rfl).w _ rfl).w _ rfl).w _ rfl).w _ rfl
  have fz : zfr (zw2 ba pf rf lf) x y := f0.tr (zzp_w f)
  have E : ∀ j, j ≠ 38 → j ≠ 39 → y.1 0 j = x1.1 0 j := by
    intro j h1 h2
    exact f.2 0 j (by unfold zzp; simp [h1, h2])
  have e31 : y.1 0 31 = nI ba := by rw [E 31 (by decide) (by decide), hx1]; exact h31
  have e33 : y.1 0 33 = sp_b w := by rw [E 33 (by decide) (by decide), hx1]; exact h33
  have e34 : y.1 0 34 = 0 := by rw [E 34 (by decide) (by decide), hx1]; exact h34
  have e40 : y.1 0 40 = nI 0 := by rw [E 40 (by decide) (by decide), hx1]; exact h40
  have e41 : y.1 0 41 = nI 0 := by rw [E 41 (by decide) (by decide), hx1]; rfl
  have e32 : y.1 0 32 = nI 0 := by rw [E 32 (by decide) (by decide), hx1]; rfl
  have e35 : y.1 0 35 = 1 := by rw [E 35 (by decide) (by decide), hx1]; rfl
  have e36 : y.1 0 36 = nI 0 := by rw [E 36 (by decide) (by decide), hx1]; rfl
  have e37 : y.1 0 37 = nI 0 := by rw [E 37 (by decide) (by decide), hx1]; rfl
  have e42 : y.1 0 42 = nI 0 := by rw [E 42 (by decide) (by decide), hx1]; rfl
  have e43 : y.1 0 43 = nI 1 := by rw [E 43 (by decide) (by decide), hx1]; rfl
  have e44 : y.1 0 44 = nI 0 := by rw [E 44 (by decide) (by decide), hx1]; rfl
  have e45 : y.1 0 45 = nI 0 := by rw [E 45 (by decide) (by decide), hx1]; rfl
  have e46 : y.1 0 46 = -1 := by rw [E 46 (by decide) (by decide), hx1]; rfl
  have e50 : y.1 0 50 = nI 0 := by rw [E 50 (by decide) (by decide), hx1]; rfl
  have e57 : y.1 0 57 = nI 0 := by rw [E 57 (by decide) (by decide), hx1]; rfl
  have e55 : y.1 0 55 = nI 0 := by rw [E 55 (by decide) (by decide), hx1]; rfl
  have e72 : y.1 0 72 = nI 0 := by rw [E 72 (by decide) (by decide), hx1]; rfl
  have e58 : y.1 0 58 = nI 0 := by rw [E 58 (by decide) (by decide), hx1]; rfl
  have e59 : y.1 0 59 = -1 := by rw [E 59 (by decide) (by decide), hx1]; rfl
  have e17 : y.1 17 M = nI rf := by rw [fz.2 17 M rfl]; exact h17
  have k74 : y.1 74 = x.1 74 := by
    have a1 : y.1 74 = x1.1 74 := funext fun j => f.2 74 j rfl
    rw [a1, hx1]; rfl
  have hez := he.fr2 fz
  refine ⟨⟨fun l hl => absurd hl (Nat.not_lt_zero _), hez, ⟨rfl, e58, Nat.le_refl 0, by decide, e41, e59, List.Pairwise.nil, (fun s hs => by simp at hs), ⟨0, by decide, e72⟩, ⟨0, by omega, e44⟩, e17, fun k => by rw [k74]; exact h74 k⟩, Or.inl ⟨e34, ⟨⟨hez.1, hez.2.1, hez.2.2.1, hez.2.2.2.1, hez.2.2.2.2.1, hez.2.2.2.2.2.1, hez.2.2.2.2.2.2.1, hez.2.2.2.2.2.2.2.1, p4⟩, fun l hl => absurd hl (Nat.not_lt_zero _), Or.inl ⟨rfl, e34, ⟨e31, e33, e32, Nat.zero_le _, fun j v hj => absurd hj (show ¬ ([] : List Int32)[j]? = some v by simp)⟩, ⟨e55, Nat.zero_le _, (fun q hq => by cases hq), trivial⟩, ⟨[], e57, rfl, Nat.zero_le _, e50, Nat.zero_le _, trivial, List.nodup_nil, (fun f hf => by cases hf), fun l hl => absurd hl (Nat.not_lt_zero _), fun l l' hl => absurd hl (Nat.not_lt_zero _), fun l hl => absurd hl (Nat.not_lt_zero _), fun l i hl => absurd hl (Nat.not_lt_zero _), fun l hl => absurd hl (Nat.not_lt_zero _)⟩, ⟨e42, e43, Nat.zero_le _, trivial⟩, ⟨e45, e46, Or.inl rfl, hez.2.2.2.2.2.2.1, (fun e he => by cases he), trivial⟩, e35, fun _ => e36, e37, (show (0 : Nat) < 3370 by decide)⟩⟩, ⟨p1, by show nx ≤ 8000; omega, p2, by show mx ≤ 8000; omega, e40, Nat.zero_le _⟩, ⟨e44, hrf, (fun e he => by cases he), trivial⟩, fun k l hk => ?_, (fun s hs => by simp at hs), ⟨0, fun _ => [], ⟨e72, by decide⟩, Nat.zero_le _, (fun s hs => by simp at hs), fun a b ha => (by simp at ha)⟩⟩⟩, fz⟩
  have hk : pl (4000 + k) = some l := hk
  rw [p5] at hk; cases hk
theorem m_writeAll {d : Nat} (hd : 1470 ≤ d) (hc1 : 83 ≤ c) (hc2 : c ≤ 3990) (hT : wTb nt N M res par) (h : zB nt N M w ba pf rf lf x) (hba : ba ≤ 90000) {q b r a3 : Int32} (h30 : x.1 0 30 = r) {l : List Int32} (hl : sp_Ch nt N 86 l q) (hlq : sp_chain nt 4001 q = l) (hn : l.length ≤ 64) (hA : wA nt N 40 b) (hok : g_ok (wW nt r q b)) :
    ∃ x', kX1 (d + 1) 34 [.ref 0, .int q, .int b, .int a3] x = some (none, x') ∧ zfr (zw2 ba pf rf lf) x x' ∧ (∀ k, ∃ m, m < 300000 ∧ x'.1 74 k = nI m)
      ∧ ((x'.1 0 34 = 0 ∧ ∃ lm lv, zR nt N M w ba pf rf lf c lm lv x' (wW nt r q b)) ∨ (¬ x'.1 0 34 = 0 ∧ w_over w rf lf (wW nt r q b))) := by
  have he := h.1
  rw [eX1_writeAll]
  have hx2 : x.1 3 = nt 1 ∧ x.1 4 = nt 2 ∧ x.1 5 = nt 3 := ⟨he.1.2.2.2.1, he.1.2.2.2.2.1, he.1.2.2.2.2.2.1⟩
  obtain ⟨x1, hx1⟩ : ∃ x1, x1 = (mj_wI (mj_wI (mj_wI (mj_wI (mj_wI (mj_wI (mj_wI (mj_wI (mj_wI (mj_wI (mj_wI (mj_wI (mj_wI (mj_wI (mj_wI (mj_wI (mj_wI (mj_wI x 0 41 (0 : Int32)) 0 32 (0 : Int32)) 0 35 (1 : Int32)) 0 36 (0 : Int32)) 0 37 (0 : Int32)) 0 38 (0 : Int32)) 0 39 (0 : Int32)) 0 42 (0 : Int32)) 0 43 (1 : Int32)) 0 44 (0 : Int32)) 0 45 (0 : Int32)) 0 46 (-1 : Int32)) 0 50 (0 : Int32)) 0 57 (0 : Int32)) 0 55 (0 : Int32)) 0 72 (0 : Int32)) 0 58 (0 : Int32)) 0 59 (-1 : Int32)) := ⟨_, rfl⟩
  rw [← hx1]
  have k2 : x1.1 3 = nt 1 := by rw [hx1]; exact hx2.1
  have k3 : x1.1 4 = nt 2 := by rw [hx1]; exact hx2.2.1
  have k4 : x1.1 5 = nt 3 := by rw [hx1]; exact hx2.2.2
  have p0 : zPar x1 x1 0 0 (fun _ => none) := ⟨zfr.rf _ _, by rw [hx1]; rfl, by rw [hx1]; rfl, by decide, fun v p _ hp => (by cases hp), fun _ => rfl⟩
  obtain ⟨y', L', nx', mx', pl', y1', y2', y3', y4'⟩ := m_par (d := d) (a1 := q) (a2 := b) (a3 := a3) (by omega) hT ⟨k2, k3, k4⟩ l q x1 [] 0 0 (fun _ => none) hl p0 (by omega)
  rw [y1', bX1_writeAll_93, if_pos rfl]
  have eg : w_par nt (sp_chain nt 4001 q) w_g0 = w_gp L' nx' mx' pl' := by rw [hlq, w_g0_p]; exact y2'
  obtain ⟨Y, F⟩ := h.start (L := L') (c := c) hba hx1 y3' y4'
  have okA : g_ok (w_aln (wS nt 200) b (w_gp L' nx' mx' pl')) ∧ (r = 0 → g_ok (w_em (16, 177, 0, 0, []) 0 [] (w_aln (wS nt 200) b (w_gp L' nx' mx' pl')))) := by
    unfold wW at hok
    rw [eg] at hok
    simp only at hok
    by_cases r0 : r = 0
    · rw [if_pos r0] at hok
      have h1 : g_ok (w_em (16, 177, 0, 0, []) 0 [] (w_aln (wS nt 200) b (w_gp L' nx' mx' pl'))) := hok
      exact ⟨((wM.rf _).em (16, 177, 0, 0, []) 0 []).1 h1, fun _ => h1⟩
    · rw [if_neg r0] at hok; exact ⟨hok, fun q => absurd q r0⟩
  obtain ⟨V', lm', lv', x2, r1, Y2', v1, v2, F2, w1⟩ := J2.block (d := d) (c := c) (f := 200) (fun d' hp H V K lm lv x g => mS_all hT hc1 hc2 200 b (Nat.le_refl _) hA d' hp H V K lm lv x g) (by omega) (Nat.le_refl _) Y (fun c hc => by cases hc) okA.1
  rw [r1, mj_rV_k]
  have FT : zfr (zw2 ba pf rf lf) x x2 := F.tr F2
  have h30' : x2.1 0 30 = r := by rw [FT.2 0 30 rfl]; exact h30
  rw [h30']
  have i1 : w_in w (16, 177, 0, 0, []) 177 [] := ⟨fun p => rfl, fun p r => rfl⟩
  by_cases h0 : x2.1 0 34 = 0
  · rcases Y2'.2.2.2 with ⟨-, Z1, Z2⟩ | ⟨q, -⟩
    · have Z1 : Q1 nt N M w ba pf rf lf c lm' lv' x2 (w_aln (wS nt 200) b (w_gp L' nx' mx' pl')) := Z1
      have Z1' := Z1
      obtain ⟨n1, n2, ⟨n3, z34, zb, zf, zl, zp, zn, zs1, zs2, zs3, zs4⟩ | ⟨m1, -⟩⟩ := Z1'
      · by_cases al : g_al (w_aln (wS nt 200) b (w_gp L' nx' mx' pl')) = true
        · rw [if_neg (by rw [zs1, al]; decide)]
          by_cases r0 : r = 0
          · rw [if_pos r0]
            have eG : wW nt r q b = s_al false (w_em (16, 177, 0, 0, []) 0 [] (w_aln (wS nt 200) b (w_gp L' nx' mx' pl'))) := by unfold wW; rw [eg]; exact if_pos r0
            rw [eG]
            obtain ⟨V3, lm3, lv3, x3, t1, t2, t3, t4, t5, t6⟩ := J2.e1 (d := d) (off := 0) (on := []) (by omega) Y2' (okA.2 r0) (a2 := 0) (a3 := 0) rfl rfl i1
            rw [t1, mj_rV_k]
            refine ⟨mj_wI x3 0 35 0, rfl, FT.tr (t5.w _ rfl), fun k => t2.2.2.1.2.2.2.2.2.2.2.2.2.2.2 k, ?_⟩
            rcases t2.2.2.2 with ⟨u0, U1, U2⟩ | ⟨u0, U1, U2⟩
            · have U1 : Q1 nt N M w ba pf rf lf c lm3 lv3 x3 (w_em (16, 177, 0, 0, []) 0 [] (w_aln (wS nt 200) b (w_gp L' nx' mx' pl'))) := U1
              left
              refine ⟨u0, lm3, lv3, U1.al0, U2.1.2.2.1, U2.1.2.2.2.1, U2.2.1⟩
            · exact Or.inr ⟨u0, U2⟩
          · rw [if_neg r0]
            have eG : wW nt r q b = w_aln (wS nt 200) b (w_gp L' nx' mx' pl') := by unfold wW; rw [eg]; exact if_neg r0
            rw [eG]
            exact ⟨x2, rfl, FT, Y2'.2.2.1.2.2.2.2.2.2.2.2.2.2.2, Or.inl ⟨h0, lm', lv', Z1, Z2.1.2.2.1, Z2.1.2.2.2.1, Z2.2.1⟩⟩
        · have al : g_al (w_aln (wS nt 200) b (w_gp L' nx' mx' pl')) = false := by cases y : g_al (w_aln (wS nt 200) b (w_gp L' nx' mx' pl')); rfl; exact absurd y al
          rw [if_pos (by rw [zs1, al]; rfl)]
          have hq : w_q (w_aln (wS nt 200) b (w_gp L' nx' mx' pl')) = true := by unfold w_q; rw [al]; rfl
          have eG : wW nt r q b = w_aln (wS nt 200) b (w_gp L' nx' mx' pl') := by
            unfold wW
            rw [eg]
            simp only
            by_cases r0 : r = 0
            · rw [if_pos r0, w_em_q hq]
              have : (w_aln (wS nt 200) b (w_gp L' nx' mx' pl')).2.1 = false := al
              show ((w_aln (wS nt 200) b (w_gp L' nx' mx' pl')).1, false, (w_aln (wS nt 200) b (w_gp L' nx' mx' pl')).2.2) = _
              rw [← this]
            · rw [if_neg r0]
          rw [eG]
          exact ⟨x2, rfl, FT, Y2'.2.2.1.2.2.2.2.2.2.2.2.2.2.2, Or.inl ⟨h0, lm', lv', Z1, Z2.1.2.2.1, Z2.1.2.2.2.1, Z2.2.1⟩⟩
      · exact absurd h0 (by rw [m1.1]; decide)
    · exact absurd h0 q
  · rcases Y2'.2.2.2 with ⟨q, -⟩ | ⟨-, m1, m2⟩
    · exact absurd q h0
    have wm : wM (w_aln (wS nt 200) b (w_gp L' nx' mx' pl')) (wW nt r q b) := by
      unfold wW
      rw [eg]
      exact wM.ite (((wM.rf _).em _ _ _).s_al _) (wM.rf _)
    have m3 : w_over w rf lf (wW nt r q b) := (show w_over w rf lf _ from m2).mono wm
    have h74' := Y2'.2.2.1.2.2.2.2.2.2.2.2.2.2.2
    by_cases h35 : x2.1 0 35 = 0
    · rw [if_pos h35]; exact ⟨x2, rfl, FT, h74', Or.inr ⟨h0, m3⟩⟩
    · rw [if_neg h35]
      by_cases r0 : r = 0
      · rw [if_pos r0]
        obtain ⟨V3, lm3, lv3, x3, t1, t2, t3, t4, t5, t6⟩ := J2.e1 (d := d) (off := 0) (on := []) (by omega) Y2' (okA.2 r0) (a2 := 0) (a3 := 0) rfl rfl i1
        rw [t1, mj_rV_k]
        exact ⟨mj_wI x3 0 35 0, rfl, FT.tr (t5.w _ rfl), fun k => t2.2.2.1.2.2.2.2.2.2.2.2.2.2.2 k, Or.inr ⟨t6 h0, m3⟩⟩
      · rw [if_neg r0]; exact ⟨x2, rfl, FT, h74', Or.inr ⟨h0, m3⟩⟩
end
