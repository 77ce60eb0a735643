/-! values by kinds, all well -/
theorem sp_pa_of {k a : Int32} (h1 : sp_hA k = true) (h2 : ¬ a = -1) : sp_pa k a = true := by unfold sp_pa; rw [h1, decide_eq_false h2]; rfl
theorem sp_pb_of {k a : Int32} (h1 : sp_hB k = true) (h2 : ¬ a = -1) : sp_pb k a = true := by unfold sp_pb; rw [h1, decide_eq_false h2]; rfl
theorem sp_pa_k {k j a : Int32} (e : k = j) (h1 : sp_hA j = true) (h2 : ¬ a = -1) : sp_pa k a = true := sp_pa_of (by rw [e]; exact h1) h2
theorem sp_pb_k {k j a : Int32} (e : k = j) (h1 : sp_hB j = true) (h2 : ¬ a = -1) : sp_pb k a = true := sp_pb_of (by rw [e]; exact h1) h2
section
variable {nt : sp_NT} {N M : Nat} {res par : Nat → Int32} {ret : Nat} {E : wF} {f n : Nat} {s r : List Nat} {g h : wG} {rec : wR}
theorem w_arr5_of {t : Nat} (h1 : 5 ≤ t) (h2 : t ≤ 8) : w_arr5 t := ⟨h1, h2⟩
theorem oP.vr {c : Int32} (v : oVs nt c g) (hk : nK nt c = 6 ∨ nK nt c = 7) : (g_L g)[w_pl g (nA nt c)]? = some (nT nt (nA nt c)) ∧ g_pl g (nA nt c).toNatClampNeg ≠ none := by
  obtain ⟨p, h1, h2⟩ := v.v hk
  unfold w_pl
  rw [h1]
  exact ⟨h2, by simp⟩
theorem oP_twice (hN : N ≤ 64) (hT : wTb nt N M res par) (R : ∀ c, wE nt N f c → wSh nt rec c) (O : ∀ c, wE nt N f c → oSh nt N M res par ret E rec f c) {B : Nat} (a : oI nt N M res par ret E g) (hq : w_q g = false) (hn : n ≤ g_nl g) {x : Int32} (hx : sp_nd N x = true) (hd : nD nt x ≤ f) (e : nK nt x = 8) (v : oVs nt x g) (m : oRm f B g) (hs : (g_st g).length + 84 * f + 84 ≤ 3361) :
    oP nt N M res par ret E f n (1 :: nT nt (nA nt x) :: g_st g) g (rec (nB nt x) 0 0 (rec (nA nt x) 0 0 g)) := by
  obtain ⟨wa, wb, a1, a2, b1, -⟩ := wE_at' hT hx hd e
  have s1 := (oP.rf (f := f) (n := n) a hq rfl).rc hn (R _ wa) (O _ wa) (v.a (sp_pa_k e (by decide) (nd_n1 wa.1))) m (by omega)
  have l2 := w_tl_2l (nT nt (nA nt x))
  have s2 := s1.rc hn (R _ wb) (O _ wb) (v.b (sp_pb_k e (by decide) (nd_n1 wb.1))) m (by rw [List.length_append]; omega)
  rw [b1, w_tl_1 (Or.inr ⟨a1, a2⟩)] at s2
  exact s2
theorem oP_pe9 (hN : N ≤ 64) (hT : wTb nt N M res par) (R : ∀ c, wE nt N f c → wSh nt rec c) (O : ∀ c, wE nt N f c → oSh nt N M res par ret E rec f c) {B : Nat} (a : oI nt N M res par ret E g) (hq : w_q g = false) (hn : n ≤ g_nl g) {x e : Int32} (hx : sp_nd N x = true) (hd : nD nt x ≤ f) (hk : nK nt x = 8) (he : wE nt N f e) (ht : nT nt e = nT nt x) (vx : oVs nt x g) (ve : oVs nt e g) (m : oRm f B g) (hs : (g_st g).length + 84 * f + 84 ≤ 3361) (want : Bool) :
    oP nt N M res par ret E f n ((bif want then w_tl (nT nt x) else []) ++ g_st g) g (w_pe9 nt rec x e want g) := by
  obtain ⟨wa, wb, a1, a2, b1, t⟩ := wE_at' hT hx hd hk
  have s2 := (oP_twice hN hT R O a hq hn hx hd hk vx m hs).rc hn (R _ he) (O _ he) ve m (by simp only [List.length_cons]; omega)
  rw [ht, t] at s2
  have s3 := s2.cut hN (by simp only [List.length_cons]; omega)
  have l2 := w_tl_2l (w_el (nT nt (nA nt x)))
  unfold w_pe9
  rw [t]
  cases want
  · exact s3.est hN (w_arr5_of a1 a2) (by omega)
  · have s4 := s3.du hN (w_el_r _).1 (by omega)
    exact (s4.est hN (r := w_tl (w_el (nT nt (nA nt x))) ++ g_st g) (w_arr5_of a1 a2) (by rw [List.length_append]; omega))
theorem oP_opd (hN : N ≤ 64) (R : ∀ c, wE nt N f c → wSh nt rec c) (O : ∀ c, wE nt N f c → oSh nt N M res par ret E rec f c) {B : Nat} {k : wG} (a : oP nt N M res par ret E f n s g k) (hn : n ≤ g_nl g) {e : Int32} (he : ¬ e = -1 → wE nt N f e) {t op : Nat} (hnum : w_num t) (ht : ¬ e = -1 → nT nt e = bif Nat.ble 18 op then 1 else t) (h18 : e = -1 → Nat.ble 18 op = false) (ve : ¬ e = -1 → oVs nt e g) (m : oRm f B g) (hs : s.length + 84 * f ≤ 3361) :
    oP nt N M res par ret E f n ((if 18 ≤ op then [1] else w_tl t) ++ s) g (w_opd nt rec e t k) := by
  have b18 : Nat.ble 18 op = decide (18 ≤ op) := by
    by_cases q : 18 ≤ op
    · rw [decide_eq_true q]; exact Nat.ble_eq.mpr q
    · rw [decide_eq_false q]; exact Bool.eq_false_iff.mpr (fun z => q (Nat.ble_eq.mp z))
  rw [b18] at ht h18
  unfold w_opd
  by_cases q : e = -1
  · rw [if_pos q, if_neg (of_decide_eq_false (h18 q))]
    exact a.one hN hnum (by omega)
  · rw [if_neg q]
    have := a.rc hn (R _ (he q)) (O _ (he q)) (ve q) m hs
    rw [ht q] at this
    by_cases z : 18 ≤ op
    · rw [decide_eq_true z] at this; rw [if_pos z]; exact this
    · rw [decide_eq_false z] at this; rw [if_neg z]; exact this
/-- x op= e; of none the 1 -/
theorem oP_chg (hN : N ≤ 64) (hT : wTb nt N M res par) (R : ∀ c, wE nt N f c → wSh nt rec c) (O : ∀ c, wE nt N f c → oSh nt N M res par ret E rec f c) {B : Nat} (a : oI nt N M res par ret E g) (hq : w_q g = false) (hn : n ≤ g_nl g) {x e : Int32} {op : Nat} (hx : sp_nd N x = true) (hd : nD nt x ≤ f) (hk : nK nt x = 6 ∨ nK nt x = 8) (hnum : w_num (nT nt x)) (he : ¬ e = -1 → wE nt N f e) (ht : ¬ e = -1 → nT nt e = bif Nat.ble 18 op then 1 else nT nt x) (h18 : e = -1 → Nat.ble 18 op = false) (o1 : 10 ≤ op) (o2 : op ≤ 20) (o15 : 15 ≤ op → nT nt x ≤ 2) (vx : oVs nt x g) (ve : ¬ e = -1 → oVs nt e g) (m : oRm f B g) (hs : (g_st g).length + 84 * f + 84 ≤ 3361) (want : Bool) :
    oP nt N M res par ret E f n ((bif want then w_tl (nT nt x) else []) ++ g_st g) g (w_chg nt rec x op e want g) := by
  have l2 := w_tl_2l (nT nt x)
  have h18n : nT nt x ≤ 8 := by unfold w_num at hnum; omega
  unfold w_chg
  simp only
  by_cases k6 : nK nt x = 6
  · rw [if_pos k6]
    obtain ⟨-, -, tx⟩ := wE_load (f := 40) hT hx (by have := (hT.d hx).2; omega) k6
    obtain ⟨v1, v2⟩ := oP.vr vx (Or.inl k6)
    rw [← tx] at v1
    have s0 := (oP.rf (f := f) (n := n) a hq rfl).okk (P := g_pl g (nA nt x).toNatClampNeg ≠ none) v2
    cases hI : w_isI nt op (nT nt x) e
    · simp only [cond_false]
      have s1 := oP_opd hN R O (s0.ld hN hnum.1 h18n v1 (by omega)) hn he hnum ht h18 ve m (by rw [List.length_append]; omega)
      have s2 := s1.bin hN hnum o1 o2 o15 rfl (by omega)
      cases want
      · exact s2.st hN hnum.1 h18n v1 (by omega)
      · exact (s2.dup hN hnum.1 h18n (by omega)).st hN hnum.1 h18n v1 (by rw [List.length_append]; omega)
    · simp only [cond_true]
      have t1 : nT nt x = 1 := by
        unfold w_isI at hI
        simp only [Bool.and_eq_true] at hI
        exact Nat.eq_of_beq_eq_true hI.1.1.1.1.1
      rw [t1] at v1
      have s1 := s0.inc hN (w_by nt op e) v1 (by omega)
      cases want
      · exact s1
      · have s2 := s1.ld hN (t := 1) (by omega) (by omega) v1 (by omega)
        rw [t1]; exact s2
  · have k8 : nK nt x = 8 := hk.resolve_left k6
    rw [if_neg k6]
    obtain ⟨wa, wb, a1, a2, b1, t⟩ := wE_at' hT hx hd k8
    have s1 := oP_opd hN R O (((oP_twice hN hT R O a hq hn hx hd k8 vx m hs).d2 hN (by omega)).eld hN (w_arr5_of a1 a2) (by simp only [List.length_cons]; omega)) hn he hnum ht h18 ve m (by rw [← t, List.length_append]; simp only [List.length_cons]; omega)
    rw [← t] at s1
    have s2 := s1.bin hN hnum o1 o2 o15 rfl (by simp only [List.length_cons]; omega)
    rw [t] at s2
    have s3 := s2.cut hN (by simp only [List.length_cons]; omega)
    rw [t] at l2 ⊢
    cases want
    · exact s3.est hN (w_arr5_of a1 a2) (by omega)
    · exact ((s3.du hN (w_el_r _).1 (by omega)).est hN (r := w_tl (w_el (nT nt (nA nt x))) ++ g_st g) (w_arr5_of a1 a2) (by rw [List.length_append]; omega))
theorem oP_stp (hN : N ≤ 64) (hT : wTb nt N M res par) (R : ∀ c, wE nt N f c → wSh nt rec c) (O : ∀ c, wE nt N f c → oSh nt N M res par ret E rec f c) {B : Nat} (a : oI nt N M res par ret E g) (hq : w_q g = false) (hn : n ≤ g_nl g) {x how : Int32} (hx : sp_nd N x = true) (hd : nD nt x ≤ f) (hk : nK nt x = 6 ∨ nK nt x = 8) (hnum : w_num (nT nt x)) (vx : oVs nt x g) (m : oRm f B g) (hs : (g_st g).length + 84 * f + 84 ≤ 3361) (want : Bool) :
    oP nt N M res par ret E f n ((bif want then w_tl (nT nt x) else []) ++ g_st g) g (w_stp nt rec x how want g) := by
  have hop : ∀ b : Prop, [Decidable b] → Nat.ble 18 (if b then 10 else 11) = false ∧ 10 ≤ (if b then 10 else 11) ∧ (if b then 10 else 11) ≤ 20 ∧ (15 ≤ (if b then 10 else 11) → nT nt x ≤ 2) ∧ ¬ 18 ≤ (if b then 10 else 11) := by
    intro b _
    by_cases q : b
    · rw [if_pos q]; exact ⟨rfl, by decide, by decide, fun z => absurd z (by decide), by decide⟩
    · rw [if_neg q]; exact ⟨rfl, by decide, by decide, fun z => absurd z (by decide), by decide⟩
  have l2 := w_tl_2l (nT nt x)
  have h18n : nT nt x ≤ 8 := by unfold w_num at hnum; omega
  unfold w_stp
  simp only
  by_cases k6 : nK nt x = 6 ∧ nT nt x = 1
  · rw [if_pos k6]
    obtain ⟨v1, v2⟩ := oP.vr vx (Or.inl k6.1)
    obtain ⟨-, -, tx⟩ := wE_load (f := 40) hT hx (by have := (hT.d hx).2; omega) k6.1
    rw [← tx, k6.2] at v1
    rw [k6.2]
    have s0 := (oP.rf (f := f) (n := n) a hq rfl).okk (P := g_pl g (nA nt x).toNatClampNeg ≠ none) v2
    cases want
    · exact s0.inc hN _ v1 (by omega)
    · cases decide (2 ≤ how)
      · exact (s0.inc hN _ v1 (by omega)).ld hN (t := 1) (by omega) (by omega) v1 (by omega)
      · exact (s0.ld hN (t := 1) (by omega) (by omega) v1 (by omega)).inc hN _ v1 (by show (1 :: g_st g).length + 8 ≤ 3370; simp only [List.length_cons]; omega)
  · rw [if_neg k6]
    cases hw : (!want || !decide (2 ≤ how))
    · have hw1 : want = true := by cases want <;> simp_all
      subst hw1
      simp only [cond_false]
      by_cases k7 : nK nt x = 6
      · rw [if_pos k7]
        obtain ⟨v1, v2⟩ := oP.vr vx (Or.inl k7)
        obtain ⟨-, -, tx⟩ := wE_load (f := 40) hT hx (by have := (hT.d hx).2; omega) k7
        rw [← tx] at v1
        have s0 := (oP.rf (f := f) (n := n) a hq rfl).okk (P := g_pl g (nA nt x).toNatClampNeg ≠ none) v2
        have s1 := ((s0.ld hN hnum.1 h18n v1 (by omega)).dup hN hnum.1 h18n (by omega)).one hN hnum (by simp only [List.length_append]; omega)
        have s2 := s1.bin hN (k := if how = 0 ∨ how = 2 then 10 else 11) hnum (hop _).2.1 (hop _).2.2.1 (hop _).2.2.2.1 (by rw [if_neg (hop _).2.2.2.2]) (by rw [List.length_append]; omega)
        exact s2.st hN hnum.1 h18n v1 (by rw [List.length_append]; omega)
      · have k8 : nK nt x = 8 := hk.resolve_left k7
        rw [if_neg k7]
        obtain ⟨wa, wb, a1, a2, b1, t⟩ := wE_at' hT hx hd k8
        have s1 := ((oP_twice hN hT R O a hq hn hx hd k8 vx m hs).d2 hN (by omega)).eld hN (w_arr5_of a1 a2) (by simp only [List.length_cons]; omega)
        rw [← t] at s1
        have s2 := ((s1.du hN hnum.1 (by omega)).one hN hnum (by simp only [List.length_append, List.length_cons]; omega)).bin hN (k := if how = 0 ∨ how = 2 then 10 else 11) hnum (hop _).2.1 (hop _).2.2.1 (hop _).2.2.2.1 (by rw [if_neg (hop _).2.2.2.2]) (by simp only [List.length_append, List.length_cons]; omega)
        rw [t] at s2 l2
        have s3 := s2.cut hN (by simp only [List.length_append, List.length_cons]; omega)
        rw [← t] at s3
        rw [t] at s3 ⊢
        exact s3.est hN (r := w_tl (w_el (nT nt (nA nt x))) ++ g_st g) (w_arr5_of a1 a2) (by rw [List.length_append]; omega)
    · simp only [cond_true]
      exact oP_chg hN hT R O a hq hn hx hd hk hnum (fun q => absurd rfl q) (fun q => absurd rfl q) (fun _ => (hop _).1) (hop _).2.1 (hop _).2.2.1 (hop _).2.2.2.1 vx (fun q => absurd rfl q) m hs want
theorem oVs.args : ∀ (c : Nat) (p : Int32), (∀ q, q ∈ sp_chain nt c p → nK nt q = 49 ∧ ¬ nA nt q = -1) → oVs nt p g → ∀ q, q ∈ sp_chain nt c p → oVs nt (nA nt q) g := by
  intro c
  induction c with
  | zero => intro p _ _ q hq; cases hq
  | succ c ih =>
    intro p hk hv q hq
    unfold sp_chain at hq hk
    by_cases e : p = -1
    · rw [if_pos e] at hq; cases hq
    · rw [if_neg e] at hq hk
      have k := hk p (List.mem_cons_self ..)
      rcases List.mem_cons.mp hq with z | z
      · rw [z]; exact hv.a (sp_pa_k k.1 (by decide) k.2)
      · by_cases e2 : nB nt p = -1
        · have : sp_chain nt c (nt 2 p.toNatClampNeg) = [] := by
            rw [show nt 2 p.toNatClampNeg = -1 from e2]; cases c with
            | zero => rfl
            | succ c => unfold sp_chain; rw [if_pos rfl]
          rw [this] at z; cases z
        · exact ih _ (fun q hq => hk q (List.mem_cons_of_mem _ hq)) (hv.b (sp_pb_k k.1 (by decide) e2)) q z
theorem oP_args (hN : N ≤ 64) (hT : wTb nt N M res par) (R : ∀ c, wE nt N f c → wSh nt rec c) (O : ∀ c, wE nt N f c → oSh nt N M res par ret E rec f c) {B : Nat} (hn : n ≤ g_nl g) (m : oRm f B g) : ∀ (c : List Int32), wCh nt N f 49 c → (∀ q, q ∈ c → oVs nt (nA nt q) g) → ∀ {s : List Nat} {k : wG}, oP nt N M res par ret E f n s g k → s.length + 2 * c.length + 84 * f ≤ 3361 → oP nt N M res par ret E f n (oAr nt c ++ s) g (w_args nt rec c k) := by
  intro c
  induction c with
  | nil => intro _ _ s k a _; exact a
  | cons q r ih =>
    intro hc hv s k a hs
    obtain ⟨h1, h2, h3⟩ := hc q (List.mem_cons_self ..)
    have he : wE nt N f (nA nt q) := by
      cases f with
      | zero => have := (hT.d h1).1; omega
      | succ f => exact (wE_given hT h1 h2 h3).1.1.mono (Nat.le_succ _)
    have l2 := w_tl_2l (nT nt (nA nt q))
    simp only [List.length_cons] at hs
    have b := ih (fun q' hq' => hc q' (List.mem_cons_of_mem _ hq')) (fun q' hq' => hv q' (List.mem_cons_of_mem _ hq')) (a.rc hn (R _ he) (O _ he) (hv q (List.mem_cons_self ..)) m (by omega)) (by rw [List.length_append]; omega)
    refine b.cg ?_
    show oAr nt r ++ (w_tl (nT nt (nA nt q)) ++ s) = (oAr nt r ++ w_tl (nT nt (nA nt q))) ++ s
    rw [List.append_assoc]
theorem oAr_len (nt : sp_NT) : ∀ c : List Int32, (oAr nt c).length = w_sum nt c := by
  intro c
  induction c with
  | nil => rfl
  | cons q r ih => show (oAr nt r ++ _).length = _ + w_sum nt r; rw [List.length_append, ih, Nat.add_comm]
theorem oAr_tya (nt : sp_NT) : ∀ c d : List Int32, c.map (sp_tya nt) = d.map (sp_tya nt) → oAr nt c = oAr nt d := by
  intro c
  induction c with
  | nil => intro d e; cases d with
    | nil => rfl
    | cons _ _ => simp at e
  | cons q r ih => intro d e; cases d with
    | nil => simp at e
    | cons p d =>
      rw [List.map_cons, List.map_cons] at e
      injection e with e1 e2
      unfold oAr
      rw [ih d e2]
      have : nT nt (nA nt q) = nT nt (nA nt p) := by
        show (nt 3 (nt 1 q.toNatClampNeg).toNatClampNeg).toNatClampNeg = (nt 3 (nt 1 p.toNatClampNeg).toNatClampNeg).toNatClampNeg
        unfold sp_tya at e1
        rw [e1]
      rw [this]
end
