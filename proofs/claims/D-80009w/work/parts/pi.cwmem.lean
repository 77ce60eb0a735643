/-! CodeWriter between calls -/
def cwE (e : wG × Bool) (cf pf rf lf m : Nat) (x : mj_X) : Prop := (uLen e ≤ 65535 ∧ g_mx e.1 ≤ 252) ∧ z_ar (x.1 13) cf (uBy e) ∧ x.1 14 m = nI (g_mx e.1) ∧ x.1 15 m = nI (g_ms e.1) ∧ x.1 16 m = sp_b e.2 ∧ y_po pf x (g_po e.1) ∧ (g_po e.1).length ≤ 100
  ∧ cwR e.1 e.2 rf x ∧ z_l1 (fun k r => x.1 24 (2 * (lf + k)) = nI (w_at e.2 (g_it e.1) r.1) ∧ x.1 24 (2 * (lf + k) + 1) = r.2) (g_ln e.1)
def cwU (nt : sp_NT) (N M : Nat) (res par bod D : Nat → Int32) (G : uG) (c : Nat) (x : mj_X) : Prop :=
  cw_T x nt N ∧ cw_M x M res par ∧ x.1 11 = bod ∧ (∀ j, N ≤ j → x.1 25 j = 0) ∧ x.1 26 = D ∧ (∃ t, x.1 0 48 = nI t ∧ t ≤ 140000 * c) ∧ (∃ t, x.1 0 66 = nI t ∧ t ≤ 140000 * c)
  ∧ (∀ m, m ≤ M → x.1 12 m = nI (uCf G m) ∧ x.1 17 m = nI (uPf G m) ∧ x.1 21 m = nI (uRf G m) ∧ x.1 23 m = nI (uLf G m))
  ∧ ∀ m, m < M → cwE (G m) (uCf G m) (uPf G m) (uRf G m) (uLf G m) m x
/-- fields of CodeWriter's writer -/
def zC (k j : Nat) : Bool := if k = 0 then Nat.ble j 70 else Nat.ble k 69
/-- what may change while all members stay -/
def cK (cf pf rf lf k j : Nat) : Bool := match k with
  | 0 => !(Nat.beq j 6 || Nat.beq j 7)
  | 13 => Nat.ble cf j
  | 18 => Nat.ble pf j
  | 19 => Nat.ble pf j
  | 22 => Nat.ble (4 * rf) j
  | 24 => Nat.ble (2 * lf) j
  | _ => Nat.ble 25 k
theorem yfr.pf {Z : Nat → Nat → Bool} {pf pf' : Nat} {x y : mj_X} (f : yfr Z pf x y) (h : pf' ≤ pf) : yfr Z pf' x y := ⟨f.1, fun k j q => f.2 k j (fun e => Nat.lt_of_lt_of_le (q e) h)⟩
theorem lo_ble {a j : Nat} (h : j < a) : Nat.ble a j = false := by
  cases q : Nat.ble a j
  · rfl
  · exact absurd (Nat.le_of_ble_eq_true q) (by omega)
theorem y_po_fr {pf : Nat} {x y : mj_X} : ∀ {po : List (Nat × Int64)}, y_po pf x po → (∀ j, j < pf + po.length → y.1 18 j = x.1 18 j ∧ y.1 19 j = x.1 19 j ∧ y.2 20 j = x.2 20 j) → y_po pf y po := by
  intro po
  induction po with
  | nil => intro _ _; trivial
  | cons e r ih =>
    intro h f
    obtain ⟨⟨h1, h2, h3, h4⟩, h5⟩ := h
    obtain ⟨f1, f2, f3⟩ := f (pf + r.length) (by simp only [List.length_cons]; omega)
    exact ⟨⟨by rw [f1]; exact h1, by rw [f2]; exact h2, by rw [f3]; exact h3, h4⟩, ih h5 (fun j hj => f j (by simp only [List.length_cons]; omega))⟩
section
variable {nt : sp_NT} {N M c c' : Nat} {res par bod D D' : Nat → Int32} {G : uG} {x y z : mj_X} {e : wG × Bool} {cf pf rf lf m : Nat}
theorem cwE.fr (h : cwE e cf pf rf lf m y) (h13 : ∀ j, j < cf + uLen e → z.1 13 j = y.1 13 j) (hp : ∀ j, j < pf + (g_po e.1).length → z.1 18 j = y.1 18 j ∧ z.1 19 j = y.1 19 j ∧ z.2 20 j = y.2 20 j) (h22 : ∀ j, j < 4 * (rf + (g_rg e.1).length) → z.1 22 j = y.1 22 j) (h24 : ∀ j, j < 2 * (lf + (g_ln e.1).length) → z.1 24 j = y.1 24 j) (hm : z.1 14 m = y.1 14 m ∧ z.1 15 m = y.1 15 m ∧ z.1 16 m = y.1 16 m) : cwE e cf pf rf lf m z := by
  obtain ⟨a1, a2, a3, a4, a5, a6, a7, a8, a9⟩ := h
  refine ⟨a1, fun j v hj => ?_, hm.1.trans a3, hm.2.1.trans a4, hm.2.2.trans a5, y_po_fr a6 hp, a7, a8.mono (fun k r hk _ q => ?_), a9.mono (fun k r hk _ q => ?_)⟩
  · have hl := (List.getElem?_eq_some_iff.mp hj).1
    rw [w_by_ln] at hl
    have hl : j < uLen e := hl
    rw [h13 _ (by omega)]; exact a2 j v hj
  · rw [h22 _ (by omega), h22 _ (by omega), h22 _ (by omega), h22 _ (by omega)]; exact q
  · rw [h24 _ (by omega), h24 _ (by omega)]; exact q
theorem cwU.keep (hU : cwU nt N M res par bod D G c x) (hc : c ≤ c') (f : yfr (cK (uCf G M) (uPf G M) (uRf G M) (uLf G M)) (uPf G M) x z) (z25 : ∀ j, N ≤ j → z.1 25 j = 0) (z26 : z.1 26 = D') (z48 : ∃ t, z.1 0 48 = nI t ∧ t ≤ 140000 * c') (z66 : ∃ t, z.1 0 66 = nI t ∧ t ≤ 140000 * c') : cwU nt N M res par bod D' G c' z := by
  obtain ⟨⟨t1, t2, t3, t4, t5, t6, t7, t8⟩, ⟨m1, m2, m3, m4⟩, hb, h25, h26, h48, h66, hf, hE⟩ := hU
  have e := f.1
  have E : ∀ k, 1 ≤ k → k ≤ 12 ∨ (14 ≤ k ∧ k ≤ 17) ∨ k = 21 ∨ k = 23 → z.1 k = x.1 k := fun k h1 h2 => funext fun j => e k j (by
    unfold cK
    split
    all_goals first | omega | (exact lo_ble (by omega)))
  refine ⟨⟨by rw [e 0 6 rfl]; exact t1, t2, by rw [E 1 (by decide) (by decide)]; exact t3, by rw [E 2 (by decide) (by decide)]; exact t4, by rw [E 3 (by decide) (by decide)]; exact t5, by rw [E 4 (by decide) (by decide)]; exact t6, by rw [E 5 (by decide) (by decide)]; exact t7, by rw [E 6 (by decide) (by decide)]; exact t8⟩, ⟨by rw [e 0 7 rfl]; exact m1, m2, by rw [E 9 (by decide) (by decide)]; exact m3, by rw [E 10 (by decide) (by decide)]; exact m4⟩, by rw [E 11 (by decide) (by decide)]; exact hb, z25, z26, z48, z66, fun m hm => ?_, fun m hm => ?_⟩
  · rw [E 12 (by decide) (by decide), E 17 (by decide) (by decide), E 21 (by decide) (by decide), E 23 (by decide) (by decide)]; exact hf m hm
  · have l1 := uS_le (fun m => uLen (G m)) (show m + 1 ≤ M by omega)
    have l2 := uS_le (fun m => (g_po (G m).1).length) (show m + 1 ≤ M by omega)
    have l3 := uS_le (fun m => (g_rg (G m).1).length) (show m + 1 ≤ M by omega)
    have l4 := uS_le (fun m => (g_ln (G m).1).length) (show m + 1 ≤ M by omega)
    have l1 : uCf G m + uLen (G m) ≤ uCf G M := l1
    have l2 : uPf G m + (g_po (G m).1).length ≤ uPf G M := l2
    have l3 : uRf G m + (g_rg (G m).1).length ≤ uRf G M := l3
    have l4 : uLf G m + (g_ln (G m).1).length ≤ uLf G M := l4
    exact (hE m hm).fr (fun j hj => e 13 j (lo_ble (by omega))) (fun j hj => ⟨e 18 j (lo_ble (by omega)), e 19 j (lo_ble (by omega)), f.2 20 j (fun _ => by omega)⟩) (fun j hj => e 22 j (lo_ble (by omega))) (fun j hj => e 24 j (lo_ble (by omega))) ⟨by rw [E 14 (by decide) (by decide)], by rw [E 15 (by decide) (by decide)], by rw [E 16 (by decide) (by decide)]⟩
theorem yw2_K {P : yP} (f : yfr (yw2 P 0) (p_pf P) x y) : yfr (cK (p_cf P) (p_pf P) (p_rf P) (p_lf P)) (p_pf P) x y := f.mono (fun k j h => by
  by_cases k0 : k = 0
  · subst k0
    have h : (!(Nat.beq j 6 || Nat.beq j 7)) = false := h
    cases q : Nat.beq j 6
    · cases q' : Nat.beq j 7
      · rw [q, q'] at h; cases h
      · rw [Nat.eq_of_beq_eq_true q']; rfl
    · rw [Nat.eq_of_beq_eq_true q]; rfl
  have big : 25 ≤ k → False := fun q => by
    obtain ⟨c, rfl⟩ : ∃ c, k = c + 25 := ⟨k - 25, by omega⟩
    have h : Nat.ble 25 (c + 25) = false := h
    rw [Nat.ble_eq.mpr q] at h; cases h
  have lt : k < 25 := Nat.lt_of_not_le big
  have tr : ∀ b : Bool, b = false → (b || false) = false := fun b q => by rw [q]; rfl
  have : k = 1 ∨ k = 2 ∨ k = 3 ∨ k = 4 ∨ k = 5 ∨ k = 6 ∨ k = 7 ∨ k = 8 ∨ k = 9 ∨ k = 10 ∨ k = 11 ∨ k = 12 ∨ k = 13 ∨ k = 14 ∨ k = 15 ∨ k = 16 ∨ k = 17 ∨ k = 18 ∨ k = 19 ∨ k = 20 ∨ k = 21 ∨ k = 22 ∨ k = 23 ∨ k = 24 := by omega
  rcases this with rfl | rfl | rfl | rfl | rfl | rfl | rfl | rfl | rfl | rfl | rfl | rfl | rfl | rfl | rfl | rfl | rfl | rfl | rfl | rfl | rfl | rfl | rfl | rfl
  all_goals first | rfl | exact tr _ h | (show (false || Nat.ble (4 * p_rf P) j) = false; have h : Nat.ble (4 * p_rf P) j = false := h; rw [h]; rfl))
theorem yw2_C {P : yP} (f : yfr (yw2 P 0) (p_pf P) x y) : yfr zC 0 x y := (f.mono (Z' := zC) (fun k j h => by
  unfold zC at h
  by_cases k0 : k = 0
  · subst k0
    rw [if_pos rfl] at h
    have hj : 70 < j := Nat.lt_of_not_le (fun q => by rw [Nat.ble_eq.mpr q] at h; cases h)
    unfold yw2 yw
    simp only [List.elem_eq_mem, List.mem_cons, List.not_mem_nil, or_false, Bool.or_eq_false_iff, decide_eq_false_iff_not]
    omega
  · rw [if_neg k0] at h
    have hk : 69 < k := Nat.lt_of_not_le (fun q => by rw [Nat.ble_eq.mpr q] at h; cases h)
    unfold yw2 yw
    simp only [Bool.or_eq_false_iff]
    refine ⟨?_, ?_⟩ <;> first | trivial | (split <;> first | rfl | omega))).pf (Nat.zero_le _)
/-- parameters are in force -/
theorem k_mem73 {d : Nat} (hd : 2 ≤ d) (hT : wTb nt N M res par) {b : mj_X} (hb : cw_T b nt N) {a1 a2 a3 a4 : Int32} : ∀ (l : List Int32) (q : Int32) (s : sp_SS) (pl : Nat), sp_Ch nt N 86 l q → s.1 + l.length ≤ 4000 → pl + 2 * l.length ≤ 100000 →
    rX0_member d (73, [some (.ref 0), some (.int a1), some (.int a2), some (.int a3), some (.int a4), some (.int (nI pl)), some (.int q)], [], cw_sc b s) = rX0_member d (73, [some (.ref 0), some (.int a1), some (.int a2), some (.int a3), some (.int a4), some (.int (nI (pl + uPls nt l))), some (.int (-1 : Int32))], [], cw_sc b (uFo nt l s)) := by
  intro l
  induction l with
  | nil => intro q s pl h _ _; rw [show q = -1 from h]; rfl
  | cons p r ih =>
    intro q s pl h hs hp
    obtain ⟨rfl, e2, e3, e4, e5⟩ := h
    simp only [List.length_cons] at hs hp
    have e4 : sp_nd N (nA nt q) = true := e4
    have t8 := (hT.t e4).1
    have g1 : ∀ r : mj_R, mj_g q 4000 r = r := fun r => mj_g_k (sp_nd_in hT.2.2 e2 (Nat.le_refl _)) r
    have g2 : ∀ r : mj_R, mj_g (nA nt q) 4000 r = r := fun r => mj_g_k (sp_nd_in hT.2.2 e4 (Nat.le_refl _)) r
    have tl := w_tl_2 (nT nt (nA nt q))
    have T1 := cw_sc_T hb s
    have T2 := cw_sc_T hb (sp_fo s (nA nt q))
    rw [bX0_member_73, if_neg (nd_n1 e2), g1, show (cw_sc b s).1 2 q.toNatClampNeg = nA nt q by rw [T1.2.2.2.1], sX0_force (by omega) hT.2.2 b (by omega) e4, mj_rV_k, g1, show (cw_sc b (sp_fo s (nA nt q))).1 2 q.toNatClampNeg = nA nt q by rw [T2.2.2.2.1], g2, show (cw_sc b (sp_fo s (nA nt q))).1 4 (nA nt q).toNatClampNeg = nI (nT nt (nA nt q)) by rw [T2.2.2.2.2.2.1, hT.ty e4], sX0_placesOf (by omega), mj_rI_k, g1, show (cw_sc b (sp_fo s (nA nt q))).1 3 q.toNatClampNeg = nB nt q by rw [T2.2.2.2.2.1], sp_pl_n t8, nI_add]
    rw [ih (nB nt q) (sp_fo s (nA nt q)) (pl + (w_tl (nT nt (nA nt q))).length) e5 (by show s.1 + 1 + r.length ≤ 4000; omega) (by omega), Nat.add_assoc]
    rfl
theorem yR.nov {P : yP} {lm : Nat → Nat} {lv : Nat → Bool} {g : wG} (h : yR P lm lv x g) (hcx : g_cx g = []) : ¬ c_over P g := by
  obtain ⟨-, ⟨n1, -, -, -, ⟨-, b1, b2, -⟩, -, -, -, ⟨-, -, l1, -⟩⟩, -, -, ⟨-, r1, -⟩⟩ := h
  rintro ((q | q | q | q) | q)
  · rw [n1] at q; cases q
  · omega
  · unfold w_ph at q; rw [hcx] at q
    have : w_np [] = 0 := rfl
    omega
  · omega
  · omega
/-- all bytes are bytes -/
theorem fits_o8 (v : Int32) : fits .byte (.int (o8 v)) = true := by
  unfold o8
  have a := Int8.le_toInt v.toInt8
  have b := Int8.toInt_lt v.toInt8
  have e1 : (-128 : Int32).toInt = -128 := rfl
  have e2 : (127 : Int32).toInt = 127 := rfl
  show (decide (-128 ≤ v.toInt8.toInt32) && decide (v.toInt8.toInt32 ≤ 127)) = true
  rw [Bool.and_eq_true, decide_eq_true_eq, decide_eq_true_eq, Int32.le_iff_toInt_le, Int32.le_iff_toInt_le, Int8.toInt_toInt32]
  omega
end
def o8s (l : List Int32) : Prop := ∀ v, v ∈ l → ∃ u, v = o8 u
theorem o8s.nil : o8s [] := fun v h => by cases h
theorem o8s.cons {u : Int32} {l : List Int32} (h : o8s l) : o8s (o8 u :: l) := fun v hv => (List.mem_cons.mp hv).elim (fun e => ⟨u, e⟩) (h v)
theorem o8s.app {l r : List Int32} (a : o8s l) (b : o8s r) : o8s (l ++ r) := fun v hv => (List.mem_append.mp hv).elim (a v) (b v)
theorem o8s.s16 (v : Int32) : o8s (o16 v) := o8s.nil.cons.cons
theorem o8s.s32 (v : Int32) : o8s (o32 v) := o8s.nil.cons.cons.cons.cons
theorem o8s.pad (p : Nat) : o8s (w_pad p) := fun v hv => ⟨0, by rw [List.eq_of_mem_replicate hv]; rfl⟩
theorem o8s.ite {P : Prop} [Decidable P] {l r : List Int32} (a : o8s l) (b : o8s r) : o8s (if P then l else r) := by split <;> assumption
theorem o8s.ent (o : Nat → Int32) : ∀ l : List (Int32 × Nat), o8s (w_ent o l) := by
  intro l
  induction l with
  | nil => exact o8s.nil
  | cons q r ih => unfold w_ent; exact (o8s.s32 _).app ih
theorem o8s.lke (o : Nat → Int32) : ∀ l : List (Int32 × Nat), o8s (w_lke o l) := by
  intro l
  induction l with
  | nil => exact o8s.nil
  | cons q r ih => unfold w_lke; exact (o8s.s32 _).app ((o8s.s32 _).app ih)
theorem o8s.loc (a b t p : Nat) : o8s (w_loc a b t p) := by
  unfold w_loc
  exact o8s.ite o8s.nil.cons (o8s.ite o8s.nil.cons.cons (o8s.app o8s.nil.cons.cons (o8s.s16 _)))
theorem o8s.cst (t : Nat) (v : Int64) : o8s (w_cst t v) := by
  unfold w_cst
  exact o8s.ite (o8s.ite o8s.nil.cons (o8s.ite o8s.nil.cons.cons (o8s.app o8s.nil.cons (o8s.s16 _)))) (o8s.ite o8s.nil.cons (o8s.ite o8s.nil.cons (o8s.ite o8s.nil.cons o8s.nil.cons)))
theorem o8s.enc (w : Bool) (o : Nat → Nat → Int32) (p : Nat) (i : wI) : o8s (w_enc w o p i) := by
  unfold w_enc
  split
  · exact o8s.cst _ _
  · exact o8s.ite (o8s.app o8s.nil.cons (o8s.s16 _)) (o8s.ite o8s.nil.cons.cons (o8s.app o8s.nil.cons (o8s.s16 _)))
  · exact o8s.loc _ _ _ _
  · exact o8s.loc _ _ _ _
  · exact o8s.nil.cons
  · exact o8s.nil.cons
  · exact o8s.ite o8s.nil.cons.cons.cons (o8s.app o8s.nil.cons.cons ((o8s.s16 _).app (o8s.s16 _)))
  · exact o8s.nil.cons
  · exact o8s.nil.cons
  · exact o8s.nil.cons
  · exact o8s.nil.cons
  · exact o8s.nil.cons
  · exact o8s.nil.cons
  · exact o8s.nil.cons.cons
  · exact o8s.nil.cons
  · exact o8s.app o8s.nil.cons (o8s.s16 _)
  · exact o8s.nil.cons
  · cases w
    · exact o8s.app o8s.nil.cons (o8s.s16 _)
    · exact o8s.app o8s.nil.cons (o8s.s32 _)
  · cases w
    · exact o8s.app o8s.nil.cons (o8s.s16 _)
    · exact o8s.app o8s.nil.cons ((o8s.s16 _).app (o8s.app o8s.nil.cons (o8s.s32 _)))
  · refine o8s.app o8s.nil.cons ((o8s.pad _).app ?_)
    split
    · exact o8s.nil
    · exact (o8s.s32 _).app ((o8s.s32 _).app ((o8s.s32 _).app (o8s.ent _ _)))
  · refine o8s.app o8s.nil.cons ((o8s.pad _).app ?_)
    split
    · exact o8s.nil
    · exact (o8s.s32 _).app ((o8s.s32 _).app (o8s.lke _ _))
  · exact o8s.nil.cons
theorem o8s.by_ (w : Bool) (o : Nat → Nat → Int32) : ∀ l : List (wI × wF), o8s (w_by_ w o l) := by
  intro l
  induction l with
  | nil => exact o8s.nil
  | cons i r ih => unfold w_by_; exact ih.app (o8s.enc _ _ _ _)
