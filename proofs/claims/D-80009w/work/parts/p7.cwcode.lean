/-! CodeWriter: codes read back -/
def grF (a : Int32) : Int32 := if a < 26 then (if a < 21 then (if a = 9 then 2 else if a = 10 then 2 else if a = 14 then 2 else if a = 15 then 2 else if a = 20 then 2 else if a = 0 then 0 else 1) else if a = 22 then 2 else if a = 24 then 2 else 1) else if (a - 26) / 4 = 1 then 2 else if (a - 26) / 4 = 3 then 2 else 1
def caT (a : Int32) : Int32 := if (a - 133) / 3 ≤ (a - 133) - (a - 133) / 3 * 3 then ((a - 133) - (a - 133) / 3 * 3) + 1 else (a - 133) - (a - 133) / 3 * 3
def caF (a : Int32) : Int32 := (if caT a = 1 then 2 else if caT a = 3 then 2 else 1) - (if (a - 133) / 3 = 1 then 2 else if (a - 133) / 3 = 3 then 2 else 1)
def stF (s : Int32) : Int32 := if s = 1 then -2 else if s = 3 then -2 else -1
/-- by how much a code changes the stack (no call) -/
def chF (a : Int32) : Int32 :=
  if 45 < a then
   if 53 < a then
    if 78 < a then
     if 86 < a then
      if 95 < a then
       if 116 ≤ a then
        if 120 ≤ a then
         if 126 ≤ a then
          if 132 ≤ a then
           if 147 < a then
            if 152 < a then
             if 166 < a then
              if a = 170 then -1 else if a = 171 then -1 else if a = 194 then -1 else if a = 195 then -1 else 0
             else if 159 ≤ a then -2 else -1
            else if a = 149 then -1 else if a = 150 then -1 else -3
           else if a = 132 then 0 else if a < 145 then caF a else 0
          else if ((a - 126) - (a - 126) / 2 * 2) = 1 then -2 else -1
         else -1
        else 0
       else if ((a - 96) - (a - 96) / 2 * 2) = 1 then -2 else -1
      else if a = 87 then -1 else if a = 88 then -2 else if 91 < a then 2 else 1
     else if a = 80 then -4 else if a = 82 then -4 else -3
    else if 59 ≤ a then stF ((a - 59) / 4) else stF (a - 54)
   else if a = 47 then 0 else if a = 49 then 0 else -1
  else grF a
theorem k_growth {d : Nat} (a : Int32) (x : mj_X) : kX0 (d + 1) 103 [.int a] x = some (some (.int (grF a)), x) := by
  simp only [eX0_growth, bX0_growth_83]
  unfold grF
  (repeat' split) <;> first | rfl | contradiction
theorem k_cast {d : Nat} (a : Int32) (x : mj_X) : kX0 (d + 1) 104 [.int a] x = some (some (.int (caF a)), x) := by
  simp only [eX0_castChange, bX0_castChange_28, bX0_castChange_44]
  unfold caF caT
  (repeat' split) <;> first | rfl | contradiction
theorem k_ch21 {d : Nat} {a1 a2 a : Int32} {x : mj_X} (h : ¬ a = 184) : rX0_changeOf (d + 1) (21, [some (.ref 0), some (.int a1), some (.int a2), some (.int a), none], [], x) = some (some (.int (chF a)), x) := by
  simp only [bX0_changeOf_21, bX0_changeOf_81, bX0_changeOf_357, k_growth, k_cast, mj_rI_k, if_neg h]
  show _ = (fun v : Int32 => (some (some (Value.int v), x) : mj_R)) (chF a)
  unfold chF stF
  simp only [apply_ite (fun v : Int32 => (some (some (Value.int v), x) : mj_R))]
/-- bytes that lie in the codes -/
def cB (cf : Nat) (B : List Int32) (x : mj_X) : Prop := z_ar (x.1 13) cf B ∧ cf + B.length ≤ 90000
section
variable {cf p k : Nat} {B : List Int32} {x : mj_X} {v : Int32}
theorem cB.at_ (h : cB cf B x) (hv : B[p]? = some v) : (x.1 13 (nI (cf + p)).toNatClampNeg = v) ∧ cf + p < 90000 := by
  have hl := (List.getElem?_eq_some_iff.mp hv).1
  rw [nI_clamp (by have := h.2; omega)]
  exact ⟨h.1 p v hv, by have := h.2; omega⟩
theorem k_u1 {d : Nat} (h : cB cf B x) (hv : B[p]? = some v) : kX0 (d + 1) 101 [.ref 0, .int (nI (cf + p))] x = some (some (.int (v &&& 255)), x) := by
  obtain ⟨h1, h2⟩ := h.at_ hv
  rw [eX0_u1, mj_g_k (mj_in_nI (by omega) (by decide)), h1]
theorem k_s2 {d : Nat} (h : cB cf B x) (h1 : B[p]? = some (o8 (v >>> 8))) (h2 : B[p + 1]? = some (o8 v)) : kX0 (d + 1) 106 [.ref 0, .int (nI (cf + p))] x = some (some (.int v.toInt16.toInt32), x) := by
  obtain ⟨a1, a2⟩ := h.at_ h1
  obtain ⟨b1, b2⟩ := h.at_ h2
  rw [eX0_s2, mj_g_k (mj_in_nI (by omega) (by decide)), show nI (cf + p) + 1 = nI (cf + (p + 1)) from nI_add (cf + p) 1, mj_g_k (mj_in_nI (by omega) (by decide)), a1, b1, d_s2]
theorem k_u2 {d : Nat} (h : cB cf B x) (h1 : B[p]? = some (o8 (v >>> 8))) (h2 : B[p + 1]? = some (o8 v)) : kX0 (d + 2) 105 [.ref 0, .int (nI (cf + p))] x = some (some (.int (v &&& 65535)), x) := by
  have e : v.toInt16.toInt32 &&& 65535 = v &&& 65535 := by
    have := d_u2 v
    rw [d_s2] at this; exact this
  rw [eX0_u2, k_s2 h h1 h2, mj_rI_k, e]
theorem k_s4 {d : Nat} (h : cB cf B x) (h1 : B[p]? = some (o8 (v >>> 24))) (h2 : B[p + 1]? = some (o8 (v >>> 16))) (h3 : B[p + 2]? = some (o8 (v >>> 8))) (h4 : B[p + 3]? = some (o8 v)) : kX0 (d + 3) 109 [.ref 0, .int (nI (cf + p))] x = some (some (.int v), x) := by
  obtain ⟨a1, a2⟩ := h.at_ h1
  obtain ⟨b1, b2⟩ := h.at_ h2
  have e : kX0 (d + 2) 106 [.ref 0, .int (nI (cf + p))] x = some (some (.int ((o8 (v >>> 24) <<< ((8 : Int32) &&& 31)) ||| (o8 (v >>> 16) &&& (255 : Int32)))), x) := by
    rw [eX0_s2, mj_g_k (mj_in_nI (by omega) (by decide)), show nI (cf + p) + 1 = nI (cf + (p + 1)) from nI_add (cf + p) 1, mj_g_k (mj_in_nI (by omega) (by decide)), a1, b1]
  rw [eX0_s4, e, mj_rI_k, show nI (cf + p) + 2 = nI (cf + (p + 2)) from nI_add (cf + p) 2, k_u2 h h3 h4, mj_rI_k, ← d_u2]
  have := d_s4 v
  rw [this]
end
