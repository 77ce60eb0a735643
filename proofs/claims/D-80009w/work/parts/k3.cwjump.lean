/-! CodeWriter: jumps -/
section
variable {nt : sp_NT} {N : Nat} {P : yP} {X : List (Nat × Bool)} {b : Nat} {lm lm' : Nat → Nat} {lv lv' : Nat → Bool} {x y : mj_X} {g h G H : wG}
theorem w_come_f (l : Nat) (g : wG) : g_ov (w_come l g) = g_ov g ∧ g_al (w_come l g) = g_al g ∧ g_it (w_come l g) = g_it g ∧ g_nl (w_come l g) = g_nl g ∧ g_lat (w_come l g) = g_lat g ∧ g_goes (w_come l g) = (fun k => if k = l then true else g_goes g k) ∧ g_us (w_come l g) = g_us g ∧ g_po (w_come l g) = g_po g ∧ g_ln (w_come l g) = g_ln g ∧ g_pn (w_come l g) = g_pn g ∧ g_pl (w_come l g) = g_pl g ∧ w_q (w_come l g) = w_q g ∧ (w_come l g).2.2.2.1 = g.2.2.2.1 := ⟨rfl, rfl, rfl, rfl, rfl, rfl, rfl, rfl, rfl, rfl, rfl, rfl, rfl⟩
theorem its_le (w : Bool) : ∀ l : List (wI × wF), l.length ≤ (w_by_ w w_z l).length := by
  intro l
  induction l with
  | nil => exact Nat.zero_le _
  | cons i r ih =>
    show r.length + 1 ≤ (w_by_ w w_z r ++ w_enc w w_z (w_by_ w w_z r).length i.1).length
    rw [List.length_append]
    have := w_enc_pos w w_z (w_by_ w w_z r).length i.1
    omega
/-- in a quiet heap nothing is told or emitted -/
theorem c_codeq {d : Nat} (hd : 2 ≤ d) (hl : yq x) (cc : Int32) : kX0 d 37 [.ref 0, .int cc] x = some (none, x) := by
  obtain ⟨d, rfl⟩ : ∃ c, d = c + 1 := ⟨d - 1, by omega⟩
  have e2 : rX0_code d (141, [some (.ref 0), some (.int cc)], [], x) = some (none, x) := by
    rw [bX0_code_141, e38 (d := d) (by omega) cc x hl, mj_rV_k]
  rw [eX0_code]
  rcases hl with h | h
  · rw [if_pos h]; exact e2
  · rw [if_neg h]; split <;> exact e2
/-- a code within an item -/
theorem c_code2 {d : Nat} (hd : 2 ≤ d) (cc : Int32) {w : Bool} {M cf : Nat} {B : List Int32} (he : eE M cf y) (h : eB w cf B y) (h47 : y.1 0 47 = -1) : ∃ y', kX0 d 37 [.ref 0, .int cc] y = some (none, y') ∧ EM w cf y B [o8 cc] y' := by
  obtain ⟨d, rfl⟩ : ∃ c, d = c + 1 := ⟨d - 1, by omega⟩
  have hk := (EK.emit (w := w) (M := M) (cf := cf) (d := d) (by omega) cc).seq (EK.id_ w M cf)
  obtain ⟨y', e, m⟩ := hk.2 y B he h
  rw [eX0_code, if_neg (by rw [h.2.1]; decide), if_pos h.1, if_pos h47, bX0_code_141]
  exact ⟨y', e, m⟩
theorem c_offq {d : Nat} (hd : 1 ≤ d) (hl : yq x) (a1 a2 a3 : Int32) : kX0 d 68 [.ref 0, .int a1, .int a2, .int a3] x = some (none, x) := by
  obtain ⟨d, rfl⟩ : ∃ c, d = c + 1 := ⟨d - 1, by omega⟩
  rw [eX0_offset]
  rcases hl with h | h
  · rw [if_pos h]
  · rw [if_neg h]; split <;> rfl
/-- a jump's offset -/
theorem c_off {d l from_ nl : Nat} (hd : 4 ≤ d) (four : Bool) {B : List Int32} {F : List (Nat × Nat × Nat × Bool)} {u : Nat} (he : eE (p_M P) (p_cf P) y) (a : yI P X lm lv B F y g) (hL : yL X (g_nl g) lm lv y u) (hl : l < g_nl g) (hv : lv l = true) (hF : 3 * F.length + 1 ≤ B.length) :
    ∃ y', kX0 d 68 [.ref 0, .int (nI from_), .int (nI (lm l)), .int (sp_b four)] y = some (none, y') ∧ yfr (yw (p_pf P) (p_lf P)) (p_pf P) y y' ∧ (y'.1 0 30 = y.1 0 30 ∧ y'.1 0 31 = y.1 0 31 ∧ y'.1 0 43 = y.1 0 43 ∧ y'.1 0 48 = y.1 0 48 ∧ y'.1 0 47 = y.1 0 47) ∧ yL X (g_nl g) lm lv y' u
      ∧ (yI P X lm lv (B ++ (bif four then o32 0 else o16 0)) ((B.length, from_, l, four) :: F) y' (w_come l g) ∨ (y'.1 0 29 = 1 ∧ (65535 < (B ++ (bif four then o32 0 else o16 0)).length ∨ 90000 < p_cf P + (B ++ (bif four then o32 0 else o16 0)).length) ∧ ∃ n, n ≤ 65535 ∧ y'.1 0 28 = nI n)) := by
  obtain ⟨d, rfl⟩ : ∃ c, d = c + 1 := ⟨d - 1, by omega⟩
  obtain ⟨a1, a2, a3, ⟨b1, b2, b3, b4, b5, b6, b7⟩, ⟨f1, f2, f3, f4⟩, ⟨v1, v2, v3, v4⟩, a7, a8⟩ := a
  have hlt := hL.lt hl hv
  have hm : ∀ k, k < g_nl g → lv k = true → k ≠ l → lm k ≠ lm l := by
    obtain ⟨fr, L, l1, l2, l3, l4, l5, l6, l7, l8, l9⟩ := hL
    exact fun k hk hkv hkl e => hkl (l8 k l hk hl hkv hv e)
  -- the heap ahead of the bytes
  have key : ∀ v : Int32, v = (bif four then -1 - nI B.length else nI B.length) → ∀ z, z = mj_wI (mj_wI (mj_wI (mj_wI (mj_wI y 37 (lm l) 1) 40 F.length v) 41 F.length (nI from_)) 42 F.length (nI (lm l))) 0 42 (nI (F.length + 1)) → yI P X lm lv B ((B.length, from_, l, four) :: F) z (w_come l g) ∧ yL X (g_nl g) lm lv z u ∧ yfr (yw (p_pf P) (p_lf P)) (p_pf P) y z ∧ (z.1 0 30 = y.1 0 30 ∧ z.1 0 31 = y.1 0 31 ∧ z.1 0 43 = y.1 0 43 ∧ z.1 0 48 = y.1 0 48 ∧ z.1 0 47 = y.1 0 47) := by
    intro v hvv z hz
    subst hz
    refine ⟨⟨a1, a2, a3, ⟨b1, b2, b3, b4, b5, b6, b7⟩, ⟨rfl, by simp only [List.length_cons]; omega, fun q hq => ?_, ⟨?_, ?_, ?_⟩, ?_⟩, ⟨fun k hk hkv => ?_, fun k hk hkg => ?_, v3, v4⟩, ⟨a7.1, a7.2.1, a7.2.2.1, (by refine y_po.same (x := y) ?_ ?_ ?_ _ a7.2.2.2 <;> rfl)⟩, a8⟩, (hL.at37 hl hv).fr rfl rfl rfl rfl, (((((yfr.rf _ _ _).w _ rfl).w _ rfl).w _ rfl).w _ rfl).w _ rfl, rfl, rfl, rfl, rfl, rfl⟩
    · rcases List.mem_cons.mp hq with rfl | hq
      · exact hl
      · exact f3 q hq
    · show upd (y.1 40) F.length v F.length = _
      rw [pk_us]; exact hvv
    · show upd (y.1 41) F.length (nI from_) F.length = _
      exact pk_us
    · show upd (y.1 42) F.length (nI (lm l)) F.length = _
      exact pk_us
    · refine f4.mono (fun k q hk _ hh => ?_)
      show upd (y.1 40) F.length v k = _ ∧ upd (y.1 41) F.length (nI from_) k = _ ∧ upd (y.1 42) F.length (nI (lm l)) k = _
      rw [pk_un (by omega), pk_un (by omega), pk_un (by omega)]; exact hh
    · show y.1 36 (lm k) = _ ∧ upd (y.1 37) (lm l) 1 (lm k) = sp_b (if k = l then true else g_goes g k)
      by_cases e : k = l
      · rw [e, pk_us, if_pos rfl]; exact ⟨(v1 l hl hv).1, rfl⟩
      · rw [pk_un (hm k hk hkv e), if_neg e]; exact v1 k hk hkv
    · have hkg : (if k = l then true else g_goes g k) = true := hkg
      by_cases e : k = l
      · rw [e]; exact hv
      · rw [if_neg e] at hkg; exact v2 k hk hkg
  rw [eX0_offset, if_neg (by rw [b2]; decide), if_pos b1, f1, if_neg (show ¬ nI F.length = 45000 from fun z => by have := (nI_eq (b := 45000) (by omega) (by omega)).mp z; omega), mj_g_k (mj_in_nI (by omega) (by omega)), nI_clamp (by omega)]
  have tail : ∀ (v : Int32) (bs : List Int32) (k : mj_X → mj_R), v = (bif four then -1 - nI B.length else nI B.length) → bs = (bif four then o32 0 else o16 0) → EK (p_w P) (p_M P) (p_cf P) bs k → ∃ y', k (mj_wI (mj_wI (mj_wI (mj_wI (mj_wI y 37 (lm l) 1) 40 F.length v) 41 F.length (nI from_)) 42 F.length (nI (lm l))) 0 42 (nI (F.length + 1))) = some (none, y') ∧ yfr (yw (p_pf P) (p_lf P)) (p_pf P) y y' ∧ (y'.1 0 30 = y.1 0 30 ∧ y'.1 0 31 = y.1 0 31 ∧ y'.1 0 43 = y.1 0 43 ∧ y'.1 0 48 = y.1 0 48 ∧ y'.1 0 47 = y.1 0 47) ∧ yL X (g_nl g) lm lv y' u
      ∧ (yI P X lm lv (B ++ (bif four then o32 0 else o16 0)) ((B.length, from_, l, four) :: F) y' (w_come l g) ∨ (y'.1 0 29 = 1 ∧ (65535 < (B ++ (bif four then o32 0 else o16 0)).length ∨ 90000 < p_cf P + (B ++ (bif four then o32 0 else o16 0)).length) ∧ ∃ n, n ≤ 65535 ∧ y'.1 0 28 = nI n)) := by
    intro v bs k hvv hbs hk
    obtain ⟨k1, k2, k3, k4, k5, k6, k7, k8⟩ := key v hvv _ rfl
    obtain ⟨y', e, m⟩ := hk.2 _ B (show eE _ _ (mj_wI (mj_wI (mj_wI (mj_wI (mj_wI y 37 (lm l) 1) 40 F.length v) 41 F.length (nI from_)) 42 F.length (nI (lm l))) 0 42 (nI (F.length + 1))) from he) k1.2.2.2.1
    have em := m.1.1
    refine ⟨y', e, k3.tr (yb_yw m.1 m.2.1), ⟨(em 0 30 rfl).trans k4, (em 0 31 rfl).trans k5, (em 0 43 rfl).trans k6, (em 0 48 rfl).trans k7, (em 0 47 rfl).trans k8⟩, k2.fr (em 0 37 rfl) (em 0 38 rfl) (funext fun j => em 36 j rfl) (funext fun j => em 37 j rfl), ?_⟩
    rw [← hbs]
    exact k1.em m
  cases four
  · rw [if_pos (show sp_b false = 0 from rfl), bX0_offset_63, mj_g_k (mj_in_nI (by omega) (by omega)), show (mj_wI y 37 (lm l) 1).1 0 42 = nI F.length from f1, mj_g_k (mj_in_nI (by omega) (by omega)), mj_g_k (mj_in_nI (by omega) (by omega)), if_pos (show sp_b false = 0 from rfl), nI_clamp (by omega), nI_1]
    exact tail (y.1 0 28) (o16 0) _ (by rw [b4]; rfl) rfl ((EK.two (d := d) (by omega) 0).seq (EK.id_ _ _ _))
  · rw [if_neg (show ¬ sp_b true = 0 by decide), bX0_offset_63, mj_g_k (mj_in_nI (by omega) (by omega)), show (mj_wI y 37 (lm l) 1).1 0 42 = nI F.length from f1, mj_g_k (mj_in_nI (by omega) (by omega)), mj_g_k (mj_in_nI (by omega) (by omega)), if_neg (show ¬ sp_b true = 0 by decide), nI_clamp (by omega), nI_1]
    exact tail (-1 - y.1 0 28) (o32 0) _ (by rw [b4]; rfl) rfl ((EK.four (d := d) (by omega) 0).seq (EK.id_ _ _ _))
/-- an item with a jump: what is behind it -/
theorem c_jfin {i : wI} {F : wF} {l : Nat} {z : mj_X} (a : Y1 nt N P X b lm lv x g) (hq : w_q g = false) (h29 : x.1 0 29 = 0) (fz : yfr (yw (p_pf P) (p_lf P)) (p_pf P) x z) (hL : yL X (g_nl g) lm lv z (g_us g + X.length)) (h30 : z.1 0 30 = 1) (h31 : z.1 0 31 = x.1 0 31) (h43 : z.1 0 43 = x.1 0 43) (h48 : ∃ t, z.1 0 48 = nI t ∧ t ≤ p_tb P + (g_it g).length + 1)
    (hz : yI P X lm lv (w_by_ (p_w P) w_z ((i, (g_L g, g_st g)) :: g_it g)) (w_fxs (p_w P) w_z ((i, (g_L g, g_st g)) :: g_it g)) z (w_come l g) ∨ (z.1 0 29 = 1 ∧ c_over P (w_es i F g) ∧ ∃ n, n ≤ 65535 ∧ z.1 0 28 = nI n)) : Y1 nt N P X b lm lv z (w_come l (w_es i F g)) := by
  obtain ⟨k1, k2, k3, k4, k5, k6, k7, k8, k9, k10, k11, k12, k13⟩ := w_es_f (i := i) (F := F) hq
  have knl : g_nl (w_es i F g) = g_nl g := congrArg Prod.fst k11
  have kus : g_us (w_es i F g) = g_us g := congrArg (fun z => z.2.2.2.2.1) k11
  have klat : g_lat (w_es i F g) = g_lat g := congrArg (fun z => z.2.1) k11
  have kgo : g_goes (w_es i F g) = g_goes g := congrArg (fun z => z.2.2.1) k11
  obtain ⟨-, o1, o2, o3, o4, ⟨b1, b2, b3, b4⟩, o6, o7, o8_, o9⟩ := a.ex h29
  have hpl := o8_.2.2.1
  have e6 := a.1.2.2.2.2.2.1
  have hits := its_le (p_w P) (g_it g)
  refine ⟨by show yE nt N P (g_pl (w_es i F g)) z; rw [k13]; exact a.1.fr fz, a.2.1, a.2.2.1, ?_⟩
  rcases hz with hz | ⟨z1, z2, z3⟩
  · have hq' : w_q (w_come l g) = false := hq
    have m := hz.fin (i := i) (F := F) hq'
    refine Or.inl ⟨hz.2.2.2.1.1, ?_, m.same ?_⟩
    · show yL X (g_nl (w_es i F g)) lm lv z (g_us (w_es i F g) + X.length)
      rw [knl, kus]; exact hL
    · obtain ⟨q1, q2, q3, q4, q5, q6, q7, q8, q9, q10, q11, q12, q13⟩ := w_es_f (i := i) (F := F) hq'
      refine ⟨k3.trans q3.symm, k2.trans q2.symm, k1.trans q1.symm, knl.trans (congrArg Prod.fst q11).symm, klat.trans (congrArg (fun z => z.2.1) q11).symm, ?_, kus.trans (congrArg (fun z => z.2.2.2.2.1) q11).symm, k9.trans q9.symm, k7.trans q7.symm, k8.trans q8.symm⟩
      show (fun k => if k = l then true else g_goes (w_es i F g) k) = _
      rw [kgo]
      exact (congrArg (fun z : wL => z.2.2.1) q11).symm
  · obtain ⟨t, t1, t2⟩ := h48
    refine Or.inr ⟨⟨z1, ⟨true, h30⟩, h31.trans o4, ⟨_, Nat.le_add_right _ _, by omega, h43.trans o8_.1⟩, z3, t, t1, by omega⟩, ?_, ?_⟩
    · show yL X (g_nl (w_es i F g)) lm lv z b
      rw [knl]; exact hL.mono (by have := a.2.1; omega)
    · exact z2.mono ((wM.rf _).come l)
/-- a jump that needs no condition -/
theorem c_go {d l : Nat} (hd : 6 ≤ d) (a : Y1 nt N P X b lm lv x g) (hl : l < g_nl g) (hv : lv l = true) : ∃ x', kX0 d 67 [.ref 0, .int (nI (lm l))] x = some (none, x') ∧ Y1 nt N P X b lm lv x' (w_go l g) ∧ yfr (yw (p_pf P) (p_lf P)) (p_pf P) x x' ∧ (x'.1 0 29 = 0 → x.1 0 29 = 0 ∧ yT x g x' (w_go l g)) := by
  obtain ⟨d, rfl⟩ : ∃ c, d = c + 1 := ⟨d - 1, by omega⟩
  rw [eX0_jump]
  by_cases hl0 : yq x
  · -- quiet
    have e : ∀ cc : Int32, rX0_jump d (22, [some (.ref 0), some (.int (nI (lm l))), some (.int (x.1 0 28))], [.int cc, .ref 0], x) = some (none, mj_wI x 0 30 0) := by
      intro cc
      rw [bX0_jump_22, c_codeq (by omega) hl0, mj_rV_k, c_offq (by omega) hl0, mj_rV_k]
    have e2 : ∀ (r : mj_R), r = some (none, mj_wI x 0 30 0) → (if x.1 0 31 = 0 then rX0_jump d (22, [some (.ref 0), some (.int (nI (lm l))), some (.int (x.1 0 28))], [.int 167, .ref 0], x) else rX0_jump d (22, [some (.ref 0), some (.int (nI (lm l))), some (.int (x.1 0 28))], [.int 200, .ref 0], x)) = r := by
      intro r hr; rw [e, e, hr]; split <;> rfl
    rw [e2 _ rfl]
    have f : yfr (yw (p_pf P) (p_lf P)) (p_pf P) x (mj_wI x 0 30 0) := (yfr.rf _ _ _).w _ rfl
    by_cases h0 : x.1 0 29 = 0
    · obtain ⟨h30, hal, hq⟩ := a.dead hl0 h0
      have eg : w_go l g = g := by unfold w_go; rw [hq]; rfl
      rw [eg]
      refine ⟨_, rfl, ?_, f, fun z => ⟨z, yT.rf rfl rfl rfl⟩⟩
      have := a.al0
      refine ⟨this.1, this.2.1, this.2.2.1, ?_⟩
      rcases this.2.2.2 with ⟨q0, q1, q2⟩ | ⟨q0, -⟩
      · exact Or.inl ⟨q0, q1, q2.same ⟨rfl, hal, rfl, rfl, rfl, rfl, rfl, rfl, rfl, rfl⟩⟩
      · exact absurd h0 (by rw [show x.1 0 29 = 1 from q0.1]; decide)
    · refine ⟨_, rfl, ?_, f, fun z => absurd z h0⟩
      obtain ⟨⟨m1, m2, m3⟩, hL, ho⟩ := a.mc h0
      have e3 : g_pl (w_go l g) = g_pl g ∧ g_nl (w_go l g) = g_nl g := by
        unfold w_go w_em w_es
        cases hq : w_q g
        · exact ⟨rfl, rfl⟩
        · exact ⟨rfl, rfl⟩
      exact ⟨by rw [e3.1]; exact a.1.fr f, a.2.1, a.2.2.1, Or.inr ⟨⟨m1, ⟨false, rfl⟩, m3⟩, by rw [e3.2]; exact hL, ho.mono ((wM.rf g).go l)⟩⟩
  · obtain ⟨h29, h30, hq⟩ := a.live hl0
    obtain ⟨hL, o1, o2, o3, o4, ⟨b1, b2, b3, b4⟩, o6, o7, o8_, o9⟩ := a.ex h29
    have main : ∀ cc : Int32, (∀ p, w_enc (p_w P) w_z p (20, 0, 0, 0, [(0, l)]) = [o8 cc] ++ (bif p_w P then o32 0 else o16 0)) → ∃ x', rX0_jump d (22, [some (.ref 0), some (.int (nI (lm l))), some (.int (x.1 0 28))], [.int cc, .ref 0], x) = some (none, x') ∧ Y1 nt N P X b lm lv x' (w_go l g) ∧ yfr (yw (p_pf P) (p_lf P)) (p_pf P) x x' ∧ (x'.1 0 29 = 0 → x.1 0 29 = 0 ∧ yT x g x' (w_go l g)) := by
      intro cc henc
      obtain ⟨d', rfl⟩ : ∃ e, d = e + 1 := ⟨d - 1, by omega⟩
      have hby : w_by_ (p_w P) w_z (((20, 0, 0, 0, [(0, l)]), (g_L g, g_st g)) :: g_it g) = w_by_ (p_w P) w_z (g_it g) ++ [o8 cc] ++ (bif p_w P then o32 0 else o16 0) := by
        show w_by_ (p_w P) w_z (g_it g) ++ w_enc (p_w P) w_z _ _ = _
        rw [henc, List.append_assoc]
      have hfx : w_fxs (p_w P) w_z (((20, 0, 0, 0, [(0, l)]), (g_L g, g_st g)) :: g_it g) = ((w_by_ (p_w P) w_z (g_it g) ++ [o8 cc]).length, (w_by_ (p_w P) w_z (g_it g)).length, l, p_w P) :: w_fxs (p_w P) w_z (g_it g) := by
        rw [List.length_append]; rfl
      have eg : w_go l g = s_al false (w_come l (s_ok (0 ≤ (g_st g).length) (w_es (20, 0, 0, 0, [(0, l)]) (g_L g, [] ++ (g_st g).drop 0) g))) := by unfold w_go w_em; rw [hq]; rfl
      have k1 := (w_es_f (i := (20, 0, 0, 0, [(0, l)])) (F := (g_L g, [] ++ (g_st g).drop 0)) hq).1
      have lnl : (g_it g).length < (g_it (w_go l g)).length := by rw [eg]; show _ < (g_it (w_es _ _ g)).length; rw [k1]; simp
      -- the end, from a heap behind the jump
      have fin : ∀ z : mj_X, Y1 nt N P X b lm lv z (w_come l (w_es (20, 0, 0, 0, [(0, l)]) (g_L g, [] ++ (g_st g).drop 0) g)) → yfr (yw (p_pf P) (p_lf P)) (p_pf P) x z → x.1 0 48 ≤ z.1 0 48 → (z.1 0 29 = 0 → ¬ x.1 0 47 = -1 → x.1 0 48 < z.1 0 48) → Y1 nt N P X b lm lv (mj_wI z 0 30 0) (w_go l g) ∧ yfr (yw (p_pf P) (p_lf P)) (p_pf P) x (mj_wI z 0 30 0) ∧ ((mj_wI z 0 30 0).1 0 29 = 0 → x.1 0 29 = 0 ∧ yT x g (mj_wI z 0 30 0) (w_go l g)) := by
        intro z hz fz t1 t2
        refine ⟨by rw [eg]; exact hz.al0, fz.w _ rfl, fun q => ⟨h29, Or.inr ⟨lnl, t1, t2 q⟩⟩⟩
      rw [bX0_jump_22]
      obtain ⟨y, hy, fy, ⟨y30, y31, y28, y43, y37, y38, yy36, yy37⟩, t1, t2, t, t3, t4⟩ := c_line (d := d') (cc := cc) a hl0
      have over : ∀ z : mj_X, c_over P (w_es (20, 0, 0, 0, [(0, l)]) (g_L g, [] ++ (g_st g).drop 0) g) → yfr (yw (p_pf P) (p_lf P)) (p_pf P) x z → z.1 0 29 = 1 → z.1 0 30 = 1 → z.1 0 31 = x.1 0 31 → z.1 0 43 = x.1 0 43 → z.1 0 48 = y.1 0 48 → yL X (g_nl g) lm lv z (g_us g + X.length) → (∃ n, n ≤ 65535 ∧ z.1 0 28 = nI n) → Y1 nt N P X b lm lv z (w_come l (w_es (20, 0, 0, 0, [(0, l)]) (g_L g, [] ++ (g_st g).drop 0) g)) :=
        fun z ho fz z29 z30 z31 z43 z48 zL z28 => c_jfin a hq h29 fz zL z30 z31 z43 ⟨t, z48.trans t3, t4⟩ (Or.inr ⟨z29, ho, z28⟩)
      have hLy : yL X (g_nl g) lm lv y (g_us g + X.length) := hL.fr y37 y38 yy36 yy37
      rcases hy with ⟨r1, r2, r3⟩ | ⟨r1, r2⟩
      · have yqy : yq y := Or.inr (by rw [r2]; decide)
        rw [r1, mj_rV_k, c_offq (by omega) yqy, mj_rV_k]
        refine ⟨_, rfl, fin y (over y ?_ fy r2 (y30.trans h30) y31 y43 rfl hLy ⟨_, b2, y28.trans b1⟩) fy t1 (fun q => absurd q (by rw [r2]; decide))⟩
        left; right; right; right
        rw [(w_es_f hq).2.2.2.2.2.2.1]; exact r3
      · rw [r1, bX0_code_141]
        have EKc := ((EK.emit (w := p_w P) (M := p_M P) (cf := p_cf P) (d := d') (by omega) cc).seq (EK.id_ _ _ _))
        have hE : eE (p_M P) (p_cf P) y := (a.1.fr fy).2.1
        obtain ⟨z, z1, zm⟩ := EKc.2 y _ hE r2.2.2.2.1
        rw [show mj_rV (kX0 d' 38 [.ref 0, .int cc] y) (fun x1 => some (none, x1)) = some (none, z) from z1, mj_rV_k]
        have fz := fy.tr (yb_yw (pf := p_pf P) (lf := p_lf P) zm.1 zm.2.1)
        have ez := zm.1.1
        have hLz : yL X (g_nl g) lm lv z (g_us g + X.length) := hLy.fr (ez 0 37 rfl) (ez 0 38 rfl) (funext fun j => ez 36 j rfl) (funext fun j => ez 37 j rfl)
        rcases r2.em zm with m | ⟨m1, m2, m3⟩
        · rw [List.append_nil] at m
          have h3 := w_fxs_len (p_w P) w_z (g_it g)
          have hLF : 3 * (w_fxs (p_w P) w_z (g_it g)).length + 1 ≤ (w_by_ (p_w P) w_z (g_it g) ++ [o8 cc]).length := by rw [List.length_append]; simp only [List.length_cons, List.length_nil]; omega
          obtain ⟨z', e', f', ⟨g30, g31, g43, g48, g47⟩, gL, gz⟩ := c_off (d := d' + 1) (l := l) (from_ := (w_by_ (p_w P) w_z (g_it g)).length) (nl := 0) (by omega) (p_w P) (hE.yb zm.1) m hLz hl hv hLF
          rw [b1, show z.1 0 31 = sp_b (p_w P) from m.2.2.2.1.2.2.1, e', mj_rV_k]
          have z48 : z'.1 0 48 = y.1 0 48 := g48.trans (ez 0 48 rfl)
          refine ⟨_, rfl, fin z' ?_ (fz.tr f') (by rw [z48]; exact t1) (fun q q2 => by rw [z48]; exact t2 q2 r2.2.2.2.1.1)⟩
          refine c_jfin a hq h29 (fz.tr f') gL (g30.trans m.2.2.2.1.2.1) (g31.trans ((ez 0 31 rfl).trans y31)) (g43.trans ((ez 0 43 rfl).trans y43)) ⟨t, z48.trans t3, t4⟩ ?_
          rcases gz with gz | ⟨gz1, gz2, gz3⟩
          · left; rw [hby, hfx]; exact gz
          · right
            refine ⟨gz1, ?_, gz3⟩
            rw [← hby] at gz2
            rcases gz2 with gz2 | gz2
            · left; right; left; rw [k1]; exact gz2
            · right; rw [k1]; exact gz2
        · have yqz : yq z := Or.inr (by rw [m1]; decide)
          rw [c_offq (by omega) yqz, mj_rV_k]
          refine ⟨_, rfl, fin z (over z ?_ fz m1 ((ez 0 30 rfl).trans (y30.trans h30)) ((ez 0 31 rfl).trans y31) ((ez 0 43 rfl).trans y43) (ez 0 48 rfl) hLz m3) fz (by rw [ez 0 48 rfl]; exact t1) (fun q => absurd q (by rw [m1]; decide))⟩
          rw [List.append_nil] at m2
          have ll : (w_by_ (p_w P) w_z (((20, 0, 0, 0, [(0, l)]), (g_L g, g_st g)) :: g_it g)).length = (w_by_ (p_w P) w_z (g_it g) ++ [o8 cc]).length + (bif p_w P then o32 0 else o16 0 : List Int32).length := by rw [hby, List.length_append (as := _ ++ [o8 cc])]
          rcases m2 with m2 | m2
          · left; right; left; rw [k1, ll]; omega
          · right; rw [k1, ll]; omega
    rw [o4]
    cases hw : p_w P
    · rw [if_pos (show sp_b false = 0 from rfl)]
      exact main 167 (fun p => by rw [hw]; rfl)
    · rw [if_neg (show ¬ sp_b true = 0 by decide)]
      exact main 200 (fun p => by rw [hw]; rfl)
theorem c_go2 {d l : Nat} (hd : 7 ≤ d) (a : Y1 nt N P X b lm lv x g) (hl : l < g_nl g) (hv : lv l = true) : ∃ x', kX0 d 66 [.ref 0, .int (nI (lm l))] x = some (none, x') ∧ Y1 nt N P X b lm lv x' (w_go l g) ∧ yfr (yw (p_pf P) (p_lf P)) (p_pf P) x x' ∧ (x'.1 0 29 = 0 → x.1 0 29 = 0 ∧ yT x g x' (w_go l g)) := by
  obtain ⟨d, rfl⟩ : ∃ c, d = c + 1 := ⟨d - 1, by omega⟩
  rw [eX0_jump2]
  by_cases h30 : x.1 0 30 = 0
  · rw [if_pos h30]
    by_cases h0 : x.1 0 29 = 0
    · obtain ⟨-, hal, hq⟩ := a.dead (Or.inl h30) h0
      have eg : w_go l g = g := by unfold w_go; rw [hq]; rfl
      rw [eg]
      exact ⟨x, rfl, a, yfr.rf _ _ _, fun z => ⟨z, yT.rf rfl rfl rfl⟩⟩
    · obtain ⟨m1, m2, m3⟩ := a.mc h0
      have e3 : g_pl (w_go l g) = g_pl g ∧ g_nl (w_go l g) = g_nl g := by
        unfold w_go w_em w_es
        cases hq : w_q g
        · exact ⟨rfl, rfl⟩
        · exact ⟨rfl, rfl⟩
      exact ⟨x, rfl, ⟨by rw [e3.1]; exact a.1, a.2.1, a.2.2.1, Or.inr ⟨m1, by rw [e3.2]; exact m2, m3.mono ((wM.rf g).go l)⟩⟩, yfr.rf _ _ _, fun z => absurd z h0⟩
  · rw [if_neg h30]
    obtain ⟨x', e, r⟩ := c_go (d := d) (by omega) a hl hv
    exact ⟨x', by rw [e, mj_rV_k], r⟩
end
