/-! CodeWriter: a switch: its table while all is exact -/
section
variable {nt : sp_NT} {N : Nat} {P : yP} {X : List (Nat × Bool)} {b : Nat} {lm lm' : Nat → Nat} {lv lv' : Nat → Bool} {x y z : mj_X} {g h G H : wG}
/-- within the item, with the told lines -/
def yZt (P : yP) (X : List (Nat × Bool)) (lm : Nat → Nat) (lv : Nat → Bool) (x : mj_X) (g : wG) (B : List Int32) (F : List (Nat × Nat × Nat × Bool)) (G : wG) (z : mj_X) : Prop := ∃ t : Nat, yZ P X lm lv x (g_us g + X.length) (nI t) (20000 < p_lf P + (w_told (g_it g).length (g_pn g) (g_ln g)).length) B F G z
    ∧ t ≤ p_tb P + (g_it g).length + 1 ∧ x.1 0 48 ≤ nI t ∧ (¬ x.1 0 47 = -1 → x.1 0 48 < nI t ∨ 20000 < p_lf P + (w_told (g_it g).length (g_pn g) (g_ln g)).length)
theorem yZt.em {B bs : List Int32} {F : List (Nat × Nat × Nat × Bool)} {pl : Nat → Option Nat} {k : mj_X → mj_R} (he : yE nt N P pl x) (hk : EK (p_w P) (p_M P) (p_cf P) bs k) (a : yZt P X lm lv x g B F G z) : ∃ z', k z = some (none, z') ∧ yZt P X lm lv x g (B ++ bs) F G z' := by
  obtain ⟨t, h1, h2⟩ := a
  obtain ⟨z', e, h3⟩ := h1.em he hk
  exact ⟨z', e, t, h3, h2⟩
theorem yZt.off {d l p : Nat} {B : List Int32} {F : List (Nat × Nat × Nat × Bool)} {pl : Nat → Option Nat} (hd : 4 ≤ d) (he : yE nt N P pl x) (hl : l < g_nl G) (hv : lv l = true) (hF : 3 * F.length + 1 ≤ B.length) (a : yZt P X lm lv x g B F G z) :
    ∃ z', kX0 d 68 [.ref 0, .int (nI p), .int (nI (lm l)), .int 1] z = some (none, z') ∧ yZt P X lm lv x g (B ++ o32 0) ((B.length, p, l, true) :: F) (w_come l G) z' := by
  obtain ⟨t, h1, h2⟩ := a
  obtain ⟨z', e, h3⟩ := h1.off hd he hl hv hF
  exact ⟨z', e, t, h3, h2⟩
theorem yZt.st {B : List Int32} {F : List (Nat × Nat × Nat × Bool)} {pl : Nat → Option Nat} (he : yE nt N P pl x) (a : yZt P X lm lv x g B F G z) : y_st nt z ∧ z.1 35 = x.1 35 := by
  obtain ⟨t, h1, h2⟩ := a
  exact ⟨h1.st he, funext fun j => h1.1.1 35 j rfl⟩
theorem yZt.fin {i : wI} {F : wF} {l : List (Int32 × Nat)} (a : Y1 nt N P X b lm lv x g) (hq : w_q g = false) (h29 : x.1 0 29 = 0) (hz : yZt P X lm lv x g (w_by_ (p_w P) w_z ((i, (g_L g, g_st g)) :: g_it g)) (w_fxs (p_w P) w_z ((i, (g_L g, g_st g)) :: g_it g)) (w_comes l g) z) :
    Y1 nt N P X b lm lv z (w_comes l (w_es i F g)) ∧ yfr (yw (p_pf P) (p_lf P)) (p_pf P) x z ∧ (z.1 0 29 = 0 → yT x g z (w_comes l (w_es i F g))) := by
  obtain ⟨t, h1, h2, h3, h4⟩ := hz
  refine ⟨h1.fin a hq h29 h2, h1.1, fun w => Or.inr ⟨?_, by rw [h1.2.2.2.2.1]; exact h3, fun p => ?_⟩⟩
  · rw [(w_comes_f l _).1, (w_es_f hq).1]; simp
  · rw [h1.2.2.2.2.1]
    rcases h4 p with q | q
    · exact q
    · rcases h1.2.2.2.2.2.2 with r | r
      · have := r.2.2.2.2.2.2.2.2.2.1
        rw [(w_comes_f l g).1, (w_comes_g l g).2.2.2.1, (w_comes_g l g).2.2.1] at this
        omega
      · exact absurd w (by rw [r.1]; decide)
/-- a table -/
theorem k_tabX {d oth : Nat} {l sl : List Int32} {bb low high a1 a3 : Int32} {lab : Int32 → Nat} {o9 : Option Value} (hd : 6 ≤ d) (a : Y1 nt N P X b lm lv x g) (h29 : x.1 0 29 = 0) (hq : w_q g = false) (ht : y_tab nt N l bb sl) (hlh : 0 < sl.length → low = nA nt (sl.getD 0 0) ∧ high = nA nt (sl.getD (sl.length - 1) 0))
    (h35 : ∀ a, a ∈ sl → x.1 35 a.toNatClampNeg = nI (lm (lab a))) (hlb : ∀ a, a ∈ sl → lab a < g_nl g ∧ lv (lab a) = true) (ho1 : oth < g_nl g) (ho2 : lv oth = true) (F : wF) :
    ∃ z v s0 o12 o13, rX0_choose d (149, [some (.ref 0), some (.int a1), some (.int bb), some (.int a3), some (.int (nI sl.length)), some (.int low), some (.int high), some (.int (nI (lm oth))), some (.int (-1 : Int32)), o9, none, none, none, none], [], x) = rX0_choose d (413, [some (.ref 0), some (.int a1), some (.int bb), some (.int a3), some (.int (nI sl.length)), some (.int low), some (.int high), some (.int (nI (lm oth))), some (.int (x.1 0 28)), some (.int s0), some (.long v), none, o12, o13], [], z)
      ∧ Y1 nt N P X b lm lv z (w_comes (w_swi oth (sl.map (fun a => (nA nt a, lab a)))).2.2.2.2 (w_es (w_swi oth (sl.map (fun a => (nA nt a, lab a)))) F g)) ∧ yfr (yw (p_pf P) (p_lf P)) (p_pf P) x z ∧ (z.1 0 29 = 0 → yT x g z (w_comes (w_swi oth (sl.map (fun a => (nA nt a, lab a)))).2.2.2.2 (w_es (w_swi oth (sl.map (fun a => (nA nt a, lab a)))) F g))) := by
  have hn4 := ht.2.2.2.1
  have hstr := ht.2.2.2.2.2
  obtain ⟨hL, o1, o2, o3, o4, ⟨b1, b2, b3, b4⟩, o6, o7, o8_, o9_⟩ := a.ex h29
  have hal := ((w_q_iff g).mp hq).1
  have hyq : ¬ yq x := by
    rintro (z | z)
    · rw [o3, hal] at z; exact absurd z (by decide)
    · exact z h29
  obtain ⟨n, hn⟩ : ∃ n, n = sl.length := ⟨_, rfl⟩
  have hks : sl.map (fun a => (nA nt a, lab a)) = (List.range n).map (fun i => (nA nt (sl.getD i 0), lab (sl.getD i 0))) := by
    apply List.ext_getElem?
    intro i
    by_cases q : i < n
    · rw [List.getElem?_map, List.getElem?_map, List.getElem?_range q, List.getElem?_eq_getElem (by omega)]
      simp [List.getD, List.getElem?_eq_getElem (show i < sl.length by omega)]
    · rw [List.getElem?_eq_none (by simp; omega), List.getElem?_eq_none (by simp; omega)]
  have hkl : (sl.map (fun a => (nA nt a, lab a))).length = n := by rw [List.length_map, hn]
  have hksj : ∀ j, j < n → (sl.map (fun a => (nA nt a, lab a)))[j]? = some (nA nt (sl.getD j 0), lab (sl.getD j 0)) := by
    intro j hj
    rw [hks, List.getElem?_map, List.getElem?_range hj]; rfl
  have hlen := w_fxs_len (p_w P) w_z (g_it g)
  obtain ⟨p, hp⟩ : ∃ p, p = (w_by_ (p_w P) w_z (g_it g)).length := ⟨_, rfl⟩
  obtain ⟨F2, hF2⟩ : ∃ F2, F2 = (p + 4 - p % 4, p, oth, true) :: w_fxs (p_w P) w_z (g_it g) := ⟨_, rfl⟩
  have hF2l : F2.length = (w_fxs (p_w P) w_z (g_it g)).length + 1 := by rw [hF2]; rfl
  rw [← hp] at hlen
  obtain ⟨cnt, hcnt⟩ : ∃ cnt, cnt = ((nA nt (sl.getD (sl.length - 1) 0)).toInt - (nA nt (sl.getD 0 0)).toInt + 1).toNat := ⟨_, rfl⟩
  obtain ⟨T, hTg⟩ : ∃ T, T = w_tab oth cnt (nA nt (sl.getD 0 0)).toInt ((List.range n).map (fun i => (nA nt (sl.getD i 0), lab (sl.getD i 0)))) := ⟨_, rfl⟩
  have hTl : T.length = cnt := by rw [hTg]; exact w_tab_len _ _ _
  have hT : ∀ j, j < cnt → w_kk (fun i => nA nt (sl.getD i 0)) (nA nt (sl.getD 0 0)).toInt j < n → T[j]? = some (if (nA nt (sl.getD (w_kk (fun i => nA nt (sl.getD i 0)) (nA nt (sl.getD 0 0)).toInt j) 0)).toInt = (nA nt (sl.getD 0 0)).toInt + j then (nA nt (sl.getD (w_kk (fun i => nA nt (sl.getD i 0)) (nA nt (sl.getD 0 0)).toInt j) 0), lab (sl.getD (w_kk (fun i => nA nt (sl.getD i 0)) (nA nt (sl.getD 0 0)).toInt j) 0)) else (Int32.ofInt ((nA nt (sl.getD 0 0)).toInt + j), oth)) := fun j hj hk => by
    rw [hTg]; exact w_tab_get (key := fun i => nA nt (sl.getD i 0)) (lab := fun i => lab (sl.getD i 0)) hj hk
  obtain ⟨B2, hB2⟩ : ∃ B2 : Int32 → List Int32, B2 = fun cc => w_by_ (p_w P) w_z (g_it g) ++ [o8 cc] ++ w_pad p ++ o32 0 := ⟨_, rfl⟩
  have hB2l : ∀ cc, (B2 cc).length = p + 8 - p % 4 := by
    intro cc
    rw [hB2]
    simp only [List.length_append, List.length_cons, List.length_nil, w_pad, List.length_replicate, o32, ← hp]; omega
  have hnl : ∀ l, g_nl (w_comes l (w_come oth g)) = g_nl g := fun l => (w_comes_f l _).2.2.2.2.2.1
  obtain ⟨z, v, s0, o12, o13, e, r⟩ := k_tctl (nt := nt) (N := N) (d := d) (l := l) (sl := sl) (b := bb) (low := low) (high := high) (oth := nI (lm oth)) (a1 := a1) (a3 := a3) (x := x) (o9 := o9)
    (I0 := fun cc z => yZt P X lm lv x g (w_by_ (p_w P) w_z (g_it g) ++ [o8 cc]) (w_fxs (p_w P) w_z (g_it g)) g z)
    (I1 := fun cc z => yZt P X lm lv x g (w_by_ (p_w P) w_z (g_it g) ++ [o8 cc] ++ w_pad p) (w_fxs (p_w P) w_z (g_it g)) g z)
    (I2 := fun cc z => yZt P X lm lv x g (B2 cc) F2 (w_come oth g) z)
    (I3 := fun z => yZt P X lm lv x g (B2 170 ++ o32 (nA nt (sl.getD 0 0))) F2 (w_come oth g) z)
    (IL := fun j z => yZt P X lm lv x g (B2 171 ++ o32 (nI n) ++ w_lke (w_z p) ((sl.map (fun a => (nA nt a, lab a))).take j)) (w_fes p (p + 16 - p % 4) 8 ((sl.map (fun a => (nA nt a, lab a))).take j) F2) (w_comes ((sl.map (fun a => (nA nt a, lab a))).take j) (w_come oth g)) z)
    (ID := fun j z => yZt P X lm lv x g (B2 170 ++ o32 (nA nt (sl.getD 0 0)) ++ o32 (nA nt (sl.getD (sl.length - 1) 0)) ++ w_ent (w_z p) (T.take j)) (w_fes p (p + 16 - p % 4) 4 (T.take j) F2) (w_comes (T.take j) (w_come oth g)) z)
    (by omega) ht hlh
    (fun cc => by
      obtain ⟨z, t, e, h1, h2⟩ := yZ.code (cc := cc) (d := d) (by omega) a hyq
      exact ⟨z, e, t, h1, h2⟩)
    (fun cc s0 z ⟨t, h1, h2⟩ => by
      obtain ⟨z', e, h3⟩ := yZ.pad (d := d) (a1 := a1) (a2 := bb) (a3 := a3) (a4 := nI sl.length) (a5 := low) (a6 := high) (a7 := nI (lm oth)) (a8 := x.1 0 28) (a9 := s0) (by omega) a.1 (3 - p % 4) _ z (by omega) (by rw [List.length_append, ← hp]; simp only [List.length_cons, List.length_nil]; omega) (fun i hi => by rw [List.length_append, ← hp]; simp only [List.length_cons, List.length_nil]; omega) h1
      exact ⟨z', e, t, h3, h2⟩)
    (fun cc z h => by
      have hbl : (w_by_ (p_w P) w_z (g_it g) ++ [o8 cc] ++ w_pad p).length = p + 4 - p % 4 := by
        simp only [List.length_append, List.length_cons, List.length_nil, w_pad, List.length_replicate, ← hp]; omega
      obtain ⟨z', e, h1⟩ := yZt.off (d := d) (p := p) (l := oth) (by omega) a.1 ho1 ho2 (by rw [hbl]; omega) h
      rw [hbl] at h1
      rw [b1, ← hp, hB2, hF2]
      exact ⟨z', e, h1⟩)
    (fun z h => by
      obtain ⟨z', e, h1⟩ := h.em a.1 (EK.four (w := p_w P) (M := p_M P) (cf := p_cf P) (d := d) (by omega) (nI n))
      rw [← hn]
      refine ⟨z', e, ?_⟩
      show yZt P X lm lv x g (B2 171 ++ o32 (nI n) ++ w_lke (w_z p) (List.take 0 _)) (w_fes p (p + 16 - p % 4) 8 (List.take 0 _) F2) (w_comes (List.take 0 _) (w_come oth g)) z'
      rw [List.take_zero]
      show yZt P X lm lv x g (B2 171 ++ o32 (nI n) ++ []) F2 (w_come oth g) z'
      rw [List.append_nil]; exact h1)
    (fun _ z h => h.em a.1 (EK.four (w := p_w P) (M := p_M P) (cf := p_cf P) (d := d) (by omega) _))
    (fun _ z h => by
      obtain ⟨z', e, h1⟩ := h.em a.1 (EK.four (w := p_w P) (M := p_M P) (cf := p_cf P) (d := d) (by omega) (nA nt (sl.getD (sl.length - 1) 0)))
      refine ⟨z', e, ?_⟩
      show yZt P X lm lv x g (B2 170 ++ o32 _ ++ o32 _ ++ w_ent (w_z p) (T.take 0)) (w_fes p (p + 16 - p % 4) 4 (T.take 0) F2) (w_comes (T.take 0) (w_come oth g)) z'
      rw [List.take_zero]
      show yZt P X lm lv x g (B2 170 ++ o32 _ ++ o32 _ ++ []) F2 (w_come oth g) z'
      rw [List.append_nil]; exact h1)
    (fun j z h => (h.st a.1).1) (fun j z h => (h.st a.1).1)
    (fun j z hj h => by
      have hj : j < n := by omega
      obtain ⟨z1, e1, h1⟩ := h.em a.1 (EK.four (w := p_w P) (M := p_M P) (cf := p_cf P) (d := d) (by omega) (nA nt (sl.getD j 0)))
      have hm := getD_mem (sl := sl) (i := j) (by omega)
      have hlj : ((sl.map (fun a => (nA nt a, lab a))).take j).length = j := by rw [List.length_take]; omega
      have hbl : (B2 171 ++ o32 (nI n) ++ w_lke (w_z p) ((sl.map (fun a => (nA nt a, lab a))).take j) ++ o32 (nA nt (sl.getD j 0))).length = p + 16 - p % 4 + 8 * j := by
        simp only [List.length_append, hB2l, o32, List.length_cons, List.length_nil, w_lke_len, hlj]; omega
      obtain ⟨z2, e2, h2⟩ := yZt.off (d := d) (p := p) (l := lab (sl.getD j 0)) (by omega) a.1 (by rw [hnl]; exact (hlb _ hm).1) (hlb _ hm).2 (by rw [hbl, w_fes_len, hlj, hF2l]; omega) h1
      rw [hbl] at h2
      refine ⟨z1, z2, e1, (h1.st a.1).1, ?_, ?_⟩
      · rw [b1, ← hp, (h1.st a.1).2, h35 _ hm]; exact e2
      · have htk : (sl.map (fun a => (nA nt a, lab a))).take (j + 1) = (sl.map (fun a => (nA nt a, lab a))).take j ++ [(nA nt (sl.getD j 0), lab (sl.getD j 0))] := by rw [List.take_succ, hksj j hj]; rfl
        show yZt P X lm lv x g (B2 171 ++ o32 (nI n) ++ w_lke (w_z p) ((sl.map (fun a => (nA nt a, lab a))).take (j + 1))) (w_fes p (p + 16 - p % 4) 8 ((sl.map (fun a => (nA nt a, lab a))).take (j + 1)) F2) (w_comes ((sl.map (fun a => (nA nt a, lab a))).take (j + 1)) (w_come oth g)) z2
        rw [htk, w_lke_snoc, w_fes_snoc, w_comes_snoc, hlj]
        have e2 : B2 171 ++ o32 (nI n) ++ (w_lke (w_z p) ((sl.map (fun a => (nA nt a, lab a))).take j) ++ (o32 (nA nt (sl.getD j 0)) ++ o32 (w_z p (lab (sl.getD j 0))))) = B2 171 ++ o32 (nI n) ++ w_lke (w_z p) ((sl.map (fun a => (nA nt a, lab a))).take j) ++ o32 (nA nt (sl.getD j 0)) ++ o32 0 := by simp only [List.append_assoc]; rfl
        rw [e2]
        exact h2)
    (fun j i z hn0 hjc hi hik h => by
      have hjc' : j < cnt := by rw [hcnt]; omega
      have hTj := hT j hjc' (by rw [← hik, hn]; exact hi)
      rw [← hik] at hTj
      have hm := getD_mem (sl := sl) (i := i) hi
      have ent : ∃ q : Int32 × Nat, T[j]? = some q ∧ (if (nA nt (sl.getD i 0)).toInt = (nA nt (sl.getD 0 0)).toInt + j then z.1 35 (sl.getD i 0).toNatClampNeg else nI (lm oth)) = nI (lm q.2) ∧ q.2 < g_nl g ∧ lv q.2 = true := by
        by_cases q : (nA nt (sl.getD i 0)).toInt = (nA nt (sl.getD 0 0)).toInt + j
        · rw [if_pos q] at hTj
          exact ⟨_, hTj, by rw [if_pos q, (h.st a.1).2]; exact h35 _ hm, hlb _ hm⟩
        · rw [if_neg q] at hTj
          exact ⟨_, hTj, by rw [if_neg q], ho1, ho2⟩
      obtain ⟨q, q1, q2, q3, q4⟩ := ent
      rw [q2]
      have hlj : (T.take j).length = j := by rw [List.length_take]; omega
      have hbl : (B2 170 ++ o32 (nA nt (sl.getD 0 0)) ++ o32 (nA nt (sl.getD (sl.length - 1) 0)) ++ w_ent (w_z p) (T.take j)).length = p + 16 - p % 4 + 4 * j := by
        simp only [List.length_append, hB2l, o32, List.length_cons, List.length_nil, w_ent_len, hlj]; omega
      obtain ⟨z2, e2, h2⟩ := yZt.off (d := d) (p := p) (l := q.2) (by omega) a.1 (by rw [hnl]; exact q3) q4 (by rw [hbl, w_fes_len, hlj, hF2l]; omega) h
      rw [hbl] at h2
      refine ⟨z2, by rw [b1, ← hp]; exact e2, ?_⟩
      have htk : T.take (j + 1) = T.take j ++ [q] := by rw [List.take_succ, q1]; rfl
      show yZt P X lm lv x g (B2 170 ++ o32 _ ++ o32 _ ++ w_ent (w_z p) (T.take (j + 1))) (w_fes p (p + 16 - p % 4) 4 (T.take (j + 1)) F2) (w_comes (T.take (j + 1)) (w_come oth g)) z2
      rw [htk, w_ent_snoc, w_fes_snoc, w_comes_snoc, hlj, ← List.append_assoc]
      exact h2)
  refine ⟨z, v, s0, o12, o13, e, ?_⟩
  have hksr := hks
  rcases r with ⟨hn0, hden, r⟩ | ⟨hnd, r⟩
  · rw [← hcnt, List.take_of_length_le (by omega)] at r
    have hh : (sl.map (fun a => (nA nt a, lab a))).head? = some (nA nt (sl.getD 0 0), lab (sl.getD 0 0)) := by rw [List.head?_eq_getElem?, hksj 0 (by omega)]
    have hl : (sl.map (fun a => (nA nt a, lab a))).getLast? = some (nA nt (sl.getD (n - 1) 0), lab (sl.getD (n - 1) 0)) := by rw [List.getLast?_eq_getElem?, hkl, hksj (n - 1) (by omega)]
    have hsp : w_span (sl.map (fun a => (nA nt a, lab a))) = cnt := by unfold w_span; rw [hh, hl, hcnt, hn]
    have hde : w_dense (sl.map (fun a => (nA nt a, lab a))) = true := by
      unfold w_dense
      rw [hsp, hkl]
      have : (sl.map (fun a => (nA nt a, lab a))).isEmpty = false := by
        cases hsl : sl with
        | nil => rw [hsl] at hn0; exact absurd hn0 (Nat.lt_irrefl _)
        | cons _ _ => rfl
      rw [this, hcnt, hn]
      exact Nat.ble_eq_true_of_le hden
    have ei : w_swi oth (sl.map (fun a => (nA nt a, lab a))) = (22, 0, 0, 0, (0, oth) :: T) := by
      unfold w_swi; rw [hde, hsp, hh, hTg, hksr]; rfl
    rw [ei]
    have hT0 : T.head? = some (nA nt (sl.getD 0 0), lab (sl.getD 0 0)) := by
      have : w_kk (fun i => nA nt (sl.getD i 0)) (nA nt (sl.getD 0 0)).toInt 0 = 0 := rfl
      rw [List.head?_eq_getElem?, hT 0 (by
        have := hstr 0 (sl.length - 1)
        by_cases q : sl.length - 1 = 0
        · rw [hcnt, q]; omega
        · have := this (by omega) (by omega); rw [hcnt]; omega) (by rw [this]; omega), this, if_pos (by simp)]
    have h0n : (nA nt (sl.getD 0 0)).toInt ≤ (nA nt (sl.getD (sl.length - 1) 0)).toInt := by
      by_cases q : sl.length - 1 = 0
      · rw [q]; exact Int.le_refl _
      · exact Int.le_of_lt (hstr 0 (sl.length - 1) (by omega) (by omega))
    have hcz : (cnt : Int) = (nA nt (sl.getD (sl.length - 1) 0)).toInt - (nA nt (sl.getD 0 0)).toInt + 1 := by rw [hcnt]; omega
    have hinv := w_kk_inv (key := fun i => nA nt (sl.getD i 0)) hn0 hstr
    have hlt : w_kk (fun i => nA nt (sl.getD i 0)) (nA nt (sl.getD 0 0)).toInt (cnt - 1) = n - 1 := by
      obtain ⟨i1, i2, i3⟩ := hinv (cnt - 1) (by show (nA nt (sl.getD 0 0)).toInt + ((cnt - 1 : Nat) : Int) ≤ (nA nt (sl.getD (sl.length - 1) 0)).toInt + 1; omega)
      have i2 : ∀ i, i < w_kk (fun i => nA nt (sl.getD i 0)) (nA nt (sl.getD 0 0)).toInt (cnt - 1) → (nA nt (sl.getD i 0)).toInt < (nA nt (sl.getD 0 0)).toInt + ((cnt - 1 : Nat) : Int) := i2
      have i3 : ∀ i, w_kk (fun i => nA nt (sl.getD i 0)) (nA nt (sl.getD 0 0)).toInt (cnt - 1) ≤ i → i < sl.length → (nA nt (sl.getD 0 0)).toInt + ((cnt - 1 : Nat) : Int) ≤ (nA nt (sl.getD i 0)).toInt := i3
      have i1 : w_kk (fun i => nA nt (sl.getD i 0)) (nA nt (sl.getD 0 0)).toInt (cnt - 1) ≤ sl.length := i1
      have hlt : w_kk (fun i => nA nt (sl.getD i 0)) (nA nt (sl.getD 0 0)).toInt (cnt - 1) < sl.length := by
        by_cases q : w_kk (fun i => nA nt (sl.getD i 0)) (nA nt (sl.getD 0 0)).toInt (cnt - 1) < sl.length
        · exact q
        · have := i2 (sl.length - 1) (by omega); omega
      by_cases q : w_kk (fun i => nA nt (sl.getD i 0)) (nA nt (sl.getD 0 0)).toInt (cnt - 1) = n - 1
      · exact q
      · have a := i3 _ (Nat.le_refl _) hlt
        have b := hstr (w_kk (fun i => nA nt (sl.getD i 0)) (nA nt (sl.getD 0 0)).toInt (cnt - 1)) (sl.length - 1) (by omega) (by omega)
        omega
    have hTe : T.getLast? = some (nA nt (sl.getD (sl.length - 1) 0), lab (sl.getD (sl.length - 1) 0)) := by
      rw [List.getLast?_eq_getElem?, hTl, hT (cnt - 1) (by omega) (by rw [hlt]; omega), hlt, hn, if_pos (by omega)]
    refine yZt.fin (i := (22, 0, 0, 0, (0, oth) :: T)) (F := F) (l := (0, oth) :: T) a hq h29 ?_
    have eB : w_by_ (p_w P) w_z ((((22, 0, 0, 0, (0, oth) :: T) : wI), (g_L g, g_st g)) :: g_it g) = B2 170 ++ o32 (nA nt (sl.getD 0 0)) ++ o32 (nA nt (sl.getD (sl.length - 1) 0)) ++ w_ent (w_z p) T := by
      show w_by_ (p_w P) w_z (g_it g) ++ ([o8 170] ++ (w_pad (w_by_ (p_w P) w_z (g_it g)).length ++ (o32 0 ++ (o32 (match T.head? with | some q => q.1 | none => 0) ++ (o32 (match T.getLast? with | some q => q.1 | none => 0) ++ w_ent (w_z (w_by_ (p_w P) w_z (g_it g)).length) T))))) = _
      rw [hT0, hTe, ← hp, hB2]; simp only [List.append_assoc]
    have eF : w_fxs (p_w P) w_z ((((22, 0, 0, 0, (0, oth) :: T) : wI), (g_L g, g_st g)) :: g_it g) = w_fes p (p + 16 - p % 4) 4 T F2 := by rw [hF2, hp]; rfl
    rw [eB, eF]
    exact r
  · rw [← hn, List.take_of_length_le (by omega)] at r
    have hde : w_dense (sl.map (fun a => (nA nt a, lab a))) = false := by
      by_cases hn0 : 0 < sl.length
      · have hh : (sl.map (fun a => (nA nt a, lab a))).head? = some (nA nt (sl.getD 0 0), lab (sl.getD 0 0)) := by rw [List.head?_eq_getElem?, hksj 0 (by omega)]
        have hl : (sl.map (fun a => (nA nt a, lab a))).getLast? = some (nA nt (sl.getD (n - 1) 0), lab (sl.getD (n - 1) 0)) := by rw [List.getLast?_eq_getElem?, hkl, hksj (n - 1) (by omega)]
        have hsp : w_span (sl.map (fun a => (nA nt a, lab a))) = cnt := by unfold w_span; rw [hh, hl, hcnt, hn]
        unfold w_dense
        rw [hsp, hkl, hcnt, hn]
        have : Nat.ble (13 + ((nA nt (sl.getD (sl.length - 1) 0)).toInt - (nA nt (sl.getD 0 0)).toInt + 1).toNat) (3 + 5 * sl.length) = false := by
          rw [← Bool.not_eq_true, Nat.ble_eq]; exact fun e => hnd ⟨hn0, e⟩
        rw [this, Bool.and_false]
      · have : sl = [] := List.length_eq_zero_iff.mp (by omega)
        rw [this]; rfl
    have ei : w_swi oth (sl.map (fun a => (nA nt a, lab a))) = (23, 0, 0, 0, (0, oth) :: sl.map (fun a => (nA nt a, lab a))) := by unfold w_swi; rw [hde]; rfl
    rw [ei]
    generalize sl.map (fun a => (nA nt a, lab a)) = ks at *
    refine yZt.fin (i := (23, 0, 0, 0, (0, oth) :: ks)) (F := F) (l := (0, oth) :: ks) a hq h29 ?_
    have eB : w_by_ (p_w P) w_z ((((23, 0, 0, 0, (0, oth) :: ks) : wI), (g_L g, g_st g)) :: g_it g) = B2 171 ++ o32 (nI n) ++ w_lke (w_z p) ks := by
      show w_by_ (p_w P) w_z (g_it g) ++ ([o8 171] ++ (w_pad (w_by_ (p_w P) w_z (g_it g)).length ++ (o32 0 ++ (o32 (nI ks.length) ++ w_lke (w_z (w_by_ (p_w P) w_z (g_it g)).length) ks)))) = _
      rw [hkl, ← hp, hB2]; simp only [List.append_assoc]
    have eF : w_fxs (p_w P) w_z ((((23, 0, 0, 0, (0, oth) :: ks) : wI), (g_L g, g_st g)) :: g_it g) = w_fes p (p + 16 - p % 4) 8 ks F2 := by rw [hF2, hp]; rfl
    rw [eB, eF]
    exact r
/-- a table once there is too much -/
theorem k_tabM {d : Nat} {l sl : List Int32} {bb low high a1 a3 oth : Int32} {o9 : Option Value} (hd : 6 ≤ d) (hst : y_st nt x) (h29 : ¬ x.1 0 29 = 0) (ht : y_tab nt N l bb sl) (hlh : 0 < sl.length → low = nA nt (sl.getD 0 0) ∧ high = nA nt (sl.getD (sl.length - 1) 0)) :
    ∃ v s0 o12 o13, rX0_choose d (149, [some (.ref 0), some (.int a1), some (.int bb), some (.int a3), some (.int (nI sl.length)), some (.int low), some (.int high), some (.int oth), some (.int (-1 : Int32)), o9, none, none, none, none], [], x) = rX0_choose d (413, [some (.ref 0), some (.int a1), some (.int bb), some (.int a3), some (.int (nI sl.length)), some (.int low), some (.int high), some (.int oth), some (.int (x.1 0 28)), some (.int s0), some (.long v), none, o12, o13], [], x) := by
  have hq : yq x := Or.inr h29
  obtain ⟨z, v, s0, o12, o13, e, r⟩ := k_tctl (nt := nt) (N := N) (d := d) (l := l) (sl := sl) (b := bb) (low := low) (high := high) (oth := oth) (a1 := a1) (a3 := a3) (x := x) (o9 := o9)
    (I0 := fun _ z => z = x) (I1 := fun _ z => z = x) (I2 := fun _ z => z = x) (I3 := fun z => z = x) (IL := fun _ z => z = x) (ID := fun _ z => z = x) (by omega) ht hlh
    (fun cc => ⟨x, c_codeq (by omega) hq cc, rfl⟩)
    (fun cc s0 z hz => by
      subst hz
      refine ⟨z, ?_, rfl⟩
      rw [bX0_choose_225, if_neg h29]
      split <;> rfl)
    (fun cc z hz => by subst hz; exact ⟨z, c_offq (by omega) hq _ _ _, rfl⟩)
    (fun z hz => by subst hz; exact ⟨z, e69 (by omega) _ z hq, rfl⟩)
    (fun _ z hz => by subst hz; exact ⟨z, e69 (by omega) _ z hq, rfl⟩)
    (fun _ z hz => by subst hz; exact ⟨z, e69 (by omega) _ z hq, rfl⟩)
    (fun j z hz => by subst hz; exact hst) (fun j z hz => by subst hz; exact hst)
    (fun j z hj hz => by subst hz; exact ⟨z, z, e69 (by omega) _ z hq, hst, c_offq (by omega) hq _ _ _, rfl⟩)
    (fun j i z _ _ _ _ hz => by subst hz; exact ⟨z, c_offq (by omega) hq _ _ _, rfl⟩)
  have hz : z = x := by
    rcases r with ⟨-, -, r⟩ | ⟨-, r⟩
    · exact r
    · exact r
  subst hz
  exact ⟨v, s0, o12, o13, e⟩
end
