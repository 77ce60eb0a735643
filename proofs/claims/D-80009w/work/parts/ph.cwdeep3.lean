section
variable {nt : sp_NT} {N M ret m cf pf rf : Nat} {res par : Nat → Int32} {G : wG} {w : Bool} {x : mj_X} {E : wF}
theorem c_reach (hD : cD nt M res par ret G) (R : Nat → Prop) (r0 : R 0) (rr : ∀ r, r ∈ g_rg G → R (cA w G r.2.2.1)) (rc : ∀ p e, cPL w G p e → R p → ∀ t, cSU w G p t → R t) : ∀ (k : Nat) (i : wI) (F : wF), (g_it G).reverse[k]? = some (i, F) → R (cA w G k) := by
  intro k
  induction k using Nat.strongRecOn with
  | ind k ih =>
    intro i F hk
    rcases hD.2.2.1 k (oNth_lt hk) with e | ⟨r, r1, r2⟩ | ⟨k', i', F', lt, hk', c⟩
    · rw [e]; show R (w_at w (g_it G) 0)
      have : w_at w (g_it G) 0 = 0 := by unfold w_at; rw [Nat.sub_zero, List.drop_length]; rfl
      rw [this]; exact r0
    · rw [← r2]; exact rr r r1
    · have h := ih k' lt i' F' hk'
      have pl : cPL w G (cA w G k') F'.2.length := ⟨k', i', F', hk', Or.inl ⟨rfl, rfl⟩⟩
      by_cases hw : cWb w i'
      · rcases c with ⟨-, c⟩ | ⟨q, q1, -, q3⟩
        · rw [c]; exact rc _ _ pl h _ ⟨k', i', F', hk', Or.inr (Or.inl ⟨hw, rfl, Or.inl rfl⟩)⟩
        · have h3 := rc _ _ pl h (cA w G k' + 3) ⟨k', i', F', hk', Or.inr (Or.inl ⟨hw, rfl, Or.inr rfl⟩)⟩
          obtain ⟨K, ht, -⟩ := hD.1 k' i' F' hk'
          have pl3 : cPL w G (cA w G k' + 3) K.2.length := ⟨k', i', F', hk', Or.inr ⟨hw, rfl, by
            have t := ht.1
            obtain ⟨i1, x1, x2, v, lb⟩ := i'
            have h21 : i1 = 21 := hw.2
            subst h21
            exact (ty21 t).2.2.2.symm⟩⟩
          exact rc _ _ pl3 h3 _ ⟨k', i', F', hk', Or.inr (Or.inr ⟨hw, rfl, q, k, q1, q3, rfl⟩)⟩
      · refine rc _ _ pl h _ ⟨k', i', F', hk', Or.inl ⟨rfl, hw, ?_⟩⟩
        rcases c with ⟨c1, c⟩ | ⟨q, q1, -, q3⟩
        · exact Or.inl ⟨c1, by rw [c]⟩
        · exact Or.inr ⟨q, k, q1, q3, rfl⟩
/-- the ranges of a member, in CodeWriter -/
def cwR (G : wG) (w : Bool) (rf : Nat) (x : mj_X) : Prop := z_l1 (fun k r => x.1 22 (4 * (rf + k)) = nI (cA w G r.1) ∧ x.1 22 (4 * (rf + k) + 1) = nI (cA w G r.2.1) ∧ x.1 22 (4 * (rf + k) + 2) = nI (cA w G r.2.2.1) ∧ x.1 22 (4 * (rf + k) + 3) = r.2.2.2) (g_rg G)
theorem z_l1.atr {α : Type} {P : Nat → α → Prop} : ∀ {l : List α} {k : Nat} {a : α}, z_l1 P l → l.reverse[k]? = some a → P k a := by
  intro l
  induction l with
  | nil => intro k a _ h; simp at h
  | cons b l ih =>
    intro k a h hk
    by_cases q : k = l.length
    · rw [List.reverse_cons, q, List.getElem?_append_right (by simp)] at hk
      have : b = a := by simpa using hk
      rw [← this, q]; exact h.1
    · have := oNth_lt hk
      simp only [List.length_cons] at this
      rw [List.reverse_cons, List.getElem?_append_left (by simp; omega)] at hk
      exact ih h.2 hk
/-- the greatest stack of a member -/
theorem k_deep {d : Nat} (hd : 6 ≤ d) (hT : wTb nt N M res par) (hx : cwK nt N M res par G w m cf pf x) (hD : cD nt M res par ret G) (hE : cE G E) (hE2 : E.2 = []) (hf : w_far w G = false) (hl : uLen (G, w) ≤ 65535) (hM : g_ms G < 10000)
    (h12 : x.1 12 m = nI cf ∧ x.1 12 (m + 1) = nI (cf + uLen (G, w))) (h21 : x.1 21 m = nI rf ∧ x.1 21 (m + 1) = nI (rf + (g_rg G).length)) (hr : rf + (g_rg G).length ≤ 20000) (hR : cwR G w rf x) :
    ∃ s, kX0 (d + 1) 98 [.ref 0, .int (nI m)] x = some (some (.int (nI (g_ms G))), b_x x s) := by
  obtain ⟨d, rfl⟩ : ∃ e, d = e + 6 := ⟨d - 6, by omega⟩
  have hP : ∀ p e, cPL w G p e → p < uLen (G, w) ∧ e ≤ g_ms G := fun p e h => h.bd hD
  have hm := hx.2.2.2.2.2.2.2
  obtain ⟨i0, D0, d1, d2⟩ := hE
  have p0 : cPL w G 0 0 := ⟨0, i0, D0, d1, Or.inl ⟨by show 0 = w_at w (g_it G) 0; unfold w_at; rw [Nat.sub_zero, List.drop_length]; rfl, by rw [← d2.2, hE2]; rfl⟩⟩
  refine k_deep0 (d := d + 5) (PL := cPL w G) (SU := cSU w G) (cf := cf) (rf := rf) (hs := (g_rg G).reverse.map (fun r => cA w G r.2.2.1)) hP (fun p e e' a b => a.fn b) hl hM hm h12 (by rw [List.length_map, List.length_reverse]; exact h21) (by rw [List.length_map, List.length_reverse]; exact hr) (fun j h hj => ?_) (fun h hh => ?_) p0 (c_bF (d := d + 2) (by omega) hT hx hD hf hl hM) (fun R r0 rr rc => ?_)
  · rw [List.getElem?_map] at hj
    obtain ⟨r, r1, r2⟩ := Option.map_eq_some_iff.mp hj
    rw [← r2]; exact (hR.atr r1).2.2.1
  · obtain ⟨r, r1, r2⟩ := List.mem_map.mp hh
    obtain ⟨-, -, L, i, D, e1, e2, -⟩ := hD.2.1 r (List.mem_reverse.mp r1)
    rw [← r2]; exact ⟨r.2.2.1, i, D, e1, Or.inl ⟨rfl, by rw [← e2.2]; rfl⟩⟩
  · rcases hD.2.2.2 with e | ⟨k, i, F, hk, e⟩
    · exact Or.inl e
    · refine Or.inr ⟨cA w G k, ⟨k, i, F, hk, Or.inl ⟨rfl, e.symm⟩⟩, c_reach hD R r0 (fun r hr => rr _ (List.mem_map.mpr ⟨r, List.mem_reverse.mpr hr, rfl⟩)) rc k i F hk⟩
end
