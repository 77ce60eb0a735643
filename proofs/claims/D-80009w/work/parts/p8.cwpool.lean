/-! CodeWriter: lengths of codes, the pool, calls -/
def leF (a : Int32) : Int32 := if a = 200 then 5 else if a = 16 then 2 else if a = 18 then 2 else if sp_i a 21 25 = true then 2 else if sp_i a 54 58 = true then 2 else if a = 188 then 2 else if a = 17 then 3 else if a = 19 then 3 else if a = 20 then 3 else if a = 132 then 3 else if sp_i a 153 167 = true then 3 else if a = 184 then 3 else 1
section
variable {nt : sp_NT} {N M cf p pf m : Nat} {res par : Nat → Int32} {B : List Int32} {x : mj_X} {v a : Int32}
theorem k_len {d : Nat} (h : cB cf B x) (hv : B[p]? = some v) (ha : v &&& 255 = a) (h196 : ¬ a = 196) : kX0 (d + 3) 110 [.ref 0, .int (nI (cf + p))] x = some (some (.int (leF a)), x) := by
  simp only [eX0_lengthOf, bX0_lengthOf_137, k_u1 h hv, mj_rI_k, ha, if_neg h196, sX0_isIn (show 1 ≤ d + 2 by omega), sp_b0,
    show ∀ v : Int32, sp_in v.toInt64 21 25 = sp_i v 21 25 from fun v => sp_in_i v 21 25, show ∀ v : Int32, sp_in v.toInt64 54 58 = sp_i v 54 58 from fun v => sp_in_i v 54 58, show ∀ v : Int32, sp_in v.toInt64 153 167 = sp_i v 153 167 from fun v => sp_in_i v 153 167]
  show _ = (fun v : Int32 => (some (some (Value.int v), x) : mj_R)) (leF a)
  unfold leF
  simp only [apply_ite (fun v : Int32 => (some (some (Value.int v), x) : mj_R))]
  cases sp_i a 21 25 <;> cases sp_i a 54 58 <;> cases sp_i a 153 167 <;> simp
/-- a wide code has four or six bytes -/
theorem k_len4 {d : Nat} {v1 : Int32} (h : cB cf B x) (hv : B[p]? = some v) (ha : v &&& 255 = 196) (hv1 : B[p + 1]? = some v1) : kX0 (d + 3) 110 [.ref 0, .int (nI (cf + p))] x = some (some (.int (if v1 &&& 255 = 132 then 6 else 4)), x) := by
  rw [eX0_lengthOf, k_u1 h hv, mj_rI_k, if_pos ha, show nI (cf + p) + 1 = nI (cf + (p + 1)) from nI_add (cf + p) 1, k_u1 h hv1, mj_rI_k]
  by_cases q : v1 &&& 255 = 132
  · rw [if_pos q, if_pos q]
  · rw [if_neg q, if_neg q]
/-- by how much a code that is no call changes the stack -/
theorem k_chg {d : Nat} (a1 : Int32) (h : cB cf B x) (hv : B[p]? = some v) (ha : v &&& 255 = a) (h196 : ¬ a = 196) (h184 : ¬ a = 184) : kX0 (d + 2) 102 [.ref 0, .int a1, .int (nI (cf + p))] x = some (some (.int (chF a)), x) := by
  rw [eX0_changeOf, k_u1 h hv, mj_rI_k, ha, if_neg h196, k_ch21 h184]
theorem k_chg4 {d : Nat} {v1 : Int32} (a1 : Int32) (h : cB cf B x) (hv : B[p]? = some v) (ha : v &&& 255 = 196) (hv1 : B[p + 1]? = some v1) (h184 : ¬ v1 &&& 255 = 184) : kX0 (d + 2) 102 [.ref 0, .int a1, .int (nI (cf + p))] x = some (some (.int (chF (v1 &&& 255))), x) := by
  rw [eX0_changeOf, k_u1 h hv, mj_rI_k, if_pos ha, show nI (cf + p) + 1 = nI (cf + (p + 1)) from nI_add (cf + p) 1, k_u1 h hv1, mj_rI_k, k_ch21 h184]
/-- where an entry lies -/
theorem w_pf_at {s : Nat} {b : Int64} : ∀ {po : List (Nat × Int64)} {i : Nat}, w_pf s b po = some i → ∃ e r, po = e ++ (s, b) :: r ∧ i = w_pi r := by
  intro po
  induction po with
  | nil => intro i h; cases h
  | cons q r ih =>
    intro i h
    unfold w_pf at h
    cases e : w_pf s b r with
    | some j =>
      rw [e] at h
      have h : some j = some i := h
      cases h
      obtain ⟨e1, r1, h1, h2⟩ := ih e
      exact ⟨q :: e1, r1, by rw [h1]; rfl, h2⟩
    | none =>
      rw [e] at h
      by_cases w : q.1 = s ∧ q.2 = b
      · have h : (if q.1 = s ∧ q.2 = b then some (w_pi r) else none) = some i := h
        rw [if_pos w] at h; cases h
        exact ⟨[], r, by rw [← w.1, ← w.2]; rfl, rfl⟩
      · have h : (if q.1 = s ∧ q.2 = b then some (w_pi r) else none) = some i := h
        rw [if_neg w] at h; cases h
theorem w_pi_lt : ∀ (e r : List (Nat × Int64)), e ≠ [] → w_pi r < w_pi (e ++ r) := by
  intro e
  induction e with
  | nil => intro r h; exact absurd rfl h
  | cons q e ih =>
    intro r _
    show w_pi r < w_pi (e ++ r) + w_wd q.1
    have : 1 ≤ w_wd q.1 := by unfold w_wd; split <;> omega
    by_cases h : e = []
    · rw [h]; show w_pi r < w_pi r + _; omega
    · have := ih r h; omega
theorem y_po.at_ {po : List (Nat × Int64)} {e r : List (Nat × Int64)} {q : Nat × Int64} (h : y_po pf x po) (hp : po = e ++ q :: r) : x.1 18 (pf + r.length) = nI (w_pi r) ∧ x.1 19 (pf + r.length) = nI q.1 ∧ x.2 20 (pf + r.length) = q.2 ∧ q.1 < 100 := by
  subst hp
  induction e with
  | nil => exact h.1
  | cons c e ih => exact ih h.2
theorem k_poolAt {d : Nat} {s : Nat} {b : Int64} {po : List (Nat × Int64)} {i : Nat} (hm : m ≤ 40) (h17 : x.1 17 m = nI pf) (hpf : pf ≤ 7000) (hpo : po.length ≤ 100) (h : y_po pf x po) (hi : w_pf s b po = some i) :
    ∃ k, kX0 (d + 1) 108 [.ref 0, .int (nI m), .int (nI i)] x = some (some (.int (nI (pf + k))), x) ∧ k < po.length ∧ x.1 19 (pf + k) = nI s ∧ x.2 20 (pf + k) = b := by
  obtain ⟨e, r, h1, h2⟩ := w_pf_at hi
  obtain ⟨a1, a2, a3, a4⟩ := h.at_ h1
  have hl : po.length = e.length + (r.length + 1) := by rw [h1, List.length_append, List.length_cons]
  refine ⟨r.length, ?_, by omega, a2, a3⟩
  rw [eX0_poolAt, mj_g_k (mj_in_nI (by omega) (by decide)), nI_clamp (by omega), h17]
  have key : ∀ (n : Nat) (r1 r2 : List (Nat × Int64)), r = r1 ++ r2 → r1.length = n → rX0_poolAt d (7, [some (.ref 0), some (.int (nI m)), some (.int (nI i)), some (.int (nI (pf + r2.length)))], [], x) = some (some (.int (nI (pf + r.length))), x) := by
    intro n
    induction n with
    | zero =>
      intro r1 r2 hr hn
      have : r1 = [] := List.length_eq_zero_iff.mp hn
      subst this
      have hr : r = r2 := hr
      rw [bX0_poolAt_7, mj_g_k (mj_in_nI (by rw [← hr]; omega) (by decide)), nI_clamp (by rw [← hr]; omega), ← hr, a1, if_pos (by rw [h2])]
    | succ n ih =>
      intro r1 r2 hr hn
      obtain ⟨t, q, ht⟩ : ∃ t q, r1 = t ++ [q] := by
        refine ⟨r1.dropLast, r1.getLast (fun z => by rw [z] at hn; simp at hn), (List.dropLast_concat_getLast _).symm⟩
      have hr' : r = t ++ (q :: r2) := by rw [hr, ht]; simp
      obtain ⟨b1, -⟩ := h.at_ (e := e ++ (s, b) :: t) (q := q) (r := r2) (by rw [h1, hr']; simp)
      have hlen : r.length = t.length + (r2.length + 1) := by rw [hr', List.length_append, List.length_cons]
      have lt := w_pi_lt (t ++ [q]) r2 (by simp)
      have le := w_pi_le r
      have er : (t ++ [q]) ++ r2 = r := by rw [hr']; simp
      rw [er] at lt
      rw [bX0_poolAt_7, mj_g_k (mj_in_nI (by omega) (by decide)), nI_clamp (by omega), b1, if_neg (fun z => by
        have := congrArg Int32.toInt z
        rw [nI_toInt (by omega), nI_toInt (by omega)] at this; omega), show nI (pf + r2.length) + 1 = nI (pf + (q :: r2).length) from nI_add (pf + r2.length) 1]
      exact ih t (q :: r2) hr' (by rw [ht] at hn; simp at hn; omega)
  have := key r.length r [] (by simp) rfl
  exact this
theorem k_callL {d : Nat} {a1 a2 a3 a4 : Int32} (hd : 2 ≤ d) (hT : wTb nt N M res par) (hx : cw_T x nt N) : ∀ (l : List Int32) (q acc : Int32), sp_Ch nt N 86 l q → rX0_callChange d (49, [some (.ref 0), some (.int a1), some (.int a2), some (.int a3), some (.int a4), some (.int acc), some (.int q)], [], x) = some (some (.int (acc - nI (uPls nt l))), x) := by
  intro l
  induction l with
  | nil =>
    intro q acc h
    rw [bX0_callChange_49, if_pos (show q = -1 from h)]
    show _ = some (some (Value.int (acc - 0)), x)
    rw [Int32.sub_zero]
  | cons p r ih =>
    intro q acc h
    obtain ⟨rfl, e2, e3, e4, e5⟩ := h
    have e4 : sp_nd N (nA nt q) = true := e4
    have g1 : ∀ r : mj_R, mj_g q 4000 r = r := fun r => mj_g_k (sp_nd_in hT.2.2 e2 (Nat.le_refl _)) r
    have g2 : ∀ r : mj_R, mj_g (nA nt q) 4000 r = r := fun r => mj_g_k (sp_nd_in hT.2.2 e4 (Nat.le_refl _)) r
    rw [bX0_callChange_49, if_neg (nd_n1 e2), g1, show x.1 2 q.toNatClampNeg = nA nt q by rw [hx.2.2.2.1], g2, show x.1 4 (nA nt q).toNatClampNeg = nI (nT nt (nA nt q)) by rw [hx.2.2.2.2.2.1, hT.ty e4], sX0_placesOf hd, mj_rI_k, g1, show x.1 3 q.toNatClampNeg = nB nt q by rw [hx.2.2.2.2.1], sp_pl_n (hT.t e4).1, ih (nB nt q) _ e5]
    show _ = some (some (Value.int (acc - nI ((w_tl (nT nt (nA nt q))).length + uPls nt r))), x)
    rw [← nI_add, Int32.sub_sub]
theorem k_call {d : Nat} {po : List (Nat × Int64)} {i c : Nat} (hd : 2 ≤ d) (hT : wTb nt N M res par) (hx : cw_T x nt N) (hMx : cw_M x M res par) (hm : m ≤ 40) (h17 : x.1 17 m = nI pf) (hpf : pf ≤ 7000) (hpo : po.length ≤ 100) (h : y_po pf x po) (hc : c < M) (hi : w_pf 5 (nI c).toInt64 po = some i) {l : List Int32} (hl : sp_Ch nt N 86 l (par c)) :
    kX0 (d + 1) 107 [.ref 0, .int (nI m), .int (nI i)] x = some (some (.int (nI (w_tl (res c).toNatClampNeg).length - nI (uPls nt l))), x) := by
  obtain ⟨d, rfl⟩ : ∃ e, d = e + 1 := ⟨d - 1, by omega⟩
  obtain ⟨k, k1, k2, k3, k4⟩ := k_poolAt (d := d) hm h17 hpf hpo h hi
  have hM40 := hMx.2.1
  have hr := (hT.1.2 c hc).2
  have e1 : ((nI c).toInt64).toInt32 = nI c := by
    apply Int32.toInt_inj.mp
    simp
  have r8 : (res c) = nI (res c).toNatClampNeg ∧ (res c).toNatClampNeg ≤ 8 := by
    have h0 := Int32.le_iff_toInt_le.mp hr.1
    have h8 := Int32.le_iff_toInt_le.mp hr.2
    have e0 : (0 : Int32).toInt = 0 := rfl
    have e8 : (8 : Int32).toInt = 8 := rfl
    have ec : (res c).toNatClampNeg = (res c).toInt.toNat := rfl
    refine ⟨?_, by omega⟩
    apply Int32.toInt_inj.mp
    rw [nI_toInt (by omega), ec]; omega
  rw [eX0_callChange, k1, mj_rI_k, mj_g_k (mj_in_nI (by omega) (by decide)), nI_clamp (by omega), k3, if_pos (show nI 5 = (5 : Int32) from rfl), mj_g_k (mj_in_nI (by omega) (by decide)), k4, e1, mj_g_k (mj_in_nI (by omega) (by decide)), nI_clamp (by omega), hMx.2.2.1, r8.1, sX0_placesOf (by omega), mj_rI_k, mj_g_k (mj_in_nI (by omega) (by decide)), hMx.2.2.2, sp_pl_n r8.2, k_callL (by omega) hT hx l _ _ hl, ← r8.1]
end
