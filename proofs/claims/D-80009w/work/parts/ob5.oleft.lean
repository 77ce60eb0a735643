/-! what leaves ask, by kind -/
section
variable {nt : sp_NT} {rs : Int32} {f : Nat} {n : Int32} {lo wa : Nat}
theorem ol62 (e : nK nt n = 62) : sp_lf nt rs (f + 1) n lo wa = (sp_lf nt rs f (nA nt n) lo wa && sp_lf nt rs f (nB nt n) lo wa) := by
  rw [sp_lf_s, show nt 0 n.toNatClampNeg = 62 from e]
  unfold sp_lb
  rw [if_pos (by decide)]
theorem ol63 (e : nK nt n = 63) : sp_lf nt rs (f + 1) n lo wa = (sp_lf nt rs f (nA nt n) lo wa) := by
  rw [sp_lf_s, show nt 0 n.toNatClampNeg = 63 from e]
  unfold sp_lb
  rw [if_neg (by decide), if_pos (by decide)]
theorem ol64 (e : nK nt n = 64) : sp_lf nt rs (f + 1) n lo wa = (sp_lf nt rs f (nB nt n) lo wa) := by
  rw [sp_lf_s, show nt 0 n.toNatClampNeg = 64 from e]
  unfold sp_lb
  rw [if_neg (by decide), if_neg (by decide), if_pos (by decide)]
theorem ol65 (e : nK nt n = 65) : sp_lf nt rs (f + 1) n lo wa = (sp_lf nt rs f (nB nt n) lo wa) := by
  rw [sp_lf_s, show nt 0 n.toNatClampNeg = 65 from e]
  unfold sp_lb
  rw [if_neg (by decide), if_neg (by decide), if_pos (by decide)]
theorem ol66 (e : nK nt n = 66) : sp_lf nt rs (f + 1) n lo wa = (sp_lf nt rs f (nA nt n) lo wa && sp_lf nt rs f (nB nt n) lo wa) := by
  rw [sp_lf_s, show nt 0 n.toNatClampNeg = 66 from e]
  unfold sp_lb
  rw [if_pos (by decide)]
theorem ol67 (e : nK nt n = 67) : sp_lf nt rs (f + 1) n lo wa = (sp_lf nt rs f (nB nt n) (lo + 1) (wa + 1)) := by
  rw [sp_lf_s, show nt 0 n.toNatClampNeg = 67 from e]
  unfold sp_lb
  rw [if_neg (by decide), if_neg (by decide), if_neg (by decide), if_pos (by decide)]
theorem ol68 (e : nK nt n = 68) : sp_lf nt rs (f + 1) n lo wa = (sp_lf nt rs f (nA nt n) (lo + 1) (wa + 1)) := by
  rw [sp_lf_s, show nt 0 n.toNatClampNeg = 68 from e]
  unfold sp_lb
  rw [if_neg (by decide), if_neg (by decide), if_neg (by decide), if_neg (by decide), if_pos (by decide)]
theorem ol69 (e : nK nt n = 69) : sp_lf nt rs (f + 1) n lo wa = (sp_lf nt rs f (nB nt (nA nt n)) lo wa && sp_lf nt rs f (nB nt n) (lo + 1) (wa + 1)) := by
  rw [sp_lf_s, show nt 0 n.toNatClampNeg = 69 from e]
  unfold sp_lb
  rw [if_neg (by decide), if_neg (by decide), if_neg (by decide), if_neg (by decide), if_neg (by decide), if_pos (by decide)]
theorem ol70 (e : nK nt n = 70) : sp_lf nt rs (f + 1) n lo wa = (sp_lf nt rs f (nB nt n) (lo + 1) (wa + 1)) := by
  rw [sp_lf_s, show nt 0 n.toNatClampNeg = 70 from e]
  unfold sp_lb
  rw [if_neg (by decide), if_neg (by decide), if_neg (by decide), if_pos (by decide)]
theorem ol71 (e : nK nt n = 71) : sp_lf nt rs (f + 1) n lo wa = (decide (nA nt n < nI wa)) := by
  rw [sp_lf_s, show nt 0 n.toNatClampNeg = 71 from e]
  unfold sp_lb
  rw [if_neg (by decide), if_neg (by decide), if_neg (by decide), if_neg (by decide), if_neg (by decide), if_neg (by decide), if_pos (by decide)]
theorem ol72 (e : nK nt n = 72) : sp_lf nt rs (f + 1) n lo wa = (decide (nA nt n < nI lo)) := by
  rw [sp_lf_s, show nt 0 n.toNatClampNeg = 72 from e]
  unfold sp_lb
  rw [if_neg (by decide), if_neg (by decide), if_neg (by decide), if_neg (by decide), if_neg (by decide), if_neg (by decide), if_neg (by decide), if_pos (by decide)]
theorem ol73 (e : nK nt n = 73) : sp_lf nt rs (f + 1) n lo wa = (decide (rs = if nA nt n = -1 then 0 else nt 3 (nA nt n).toNatClampNeg)) := by
  rw [sp_lf_s, show nt 0 n.toNatClampNeg = 73 from e]
  unfold sp_lb
  rw [if_neg (by decide), if_neg (by decide), if_neg (by decide), if_neg (by decide), if_neg (by decide), if_neg (by decide), if_neg (by decide), if_neg (by decide), if_pos (by decide)]
theorem ol75 (e : nK nt n = 75) : sp_lf nt rs (f + 1) n lo wa = (sp_lf nt rs f (nA nt n) lo wa && sp_lf nt rs f (nB nt n) lo wa) := by
  rw [sp_lf_s, show nt 0 n.toNatClampNeg = 75 from e]
  unfold sp_lb
  rw [if_pos (by decide)]
theorem ol76 (e : nK nt n = 76) : sp_lf nt rs (f + 1) n lo wa = (sp_lf nt rs f (nA nt n) lo wa && (decide (nB nt n = -1) || sp_lf nt rs f (nB nt n) lo wa)) := by
  rw [sp_lf_s, show nt 0 n.toNatClampNeg = 76 from e]
  unfold sp_lb
  rw [if_neg (by decide), if_neg (by decide), if_neg (by decide), if_neg (by decide), if_neg (by decide), if_neg (by decide), if_neg (by decide), if_neg (by decide), if_neg (by decide), if_pos (by decide)]
theorem ol77 (e : nK nt n = 77) : sp_lf nt rs (f + 1) n lo wa = (sp_lf nt rs f (nB nt n) lo wa) := by
  rw [sp_lf_s, show nt 0 n.toNatClampNeg = 77 from e]
  unfold sp_lb
  rw [if_neg (by decide), if_neg (by decide), if_pos (by decide)]
theorem ol78 (e : nK nt n = 78) : sp_lf nt rs (f + 1) n lo wa = (sp_lf nt rs f (nB nt n) lo wa) := by
  rw [sp_lf_s, show nt 0 n.toNatClampNeg = 78 from e]
  unfold sp_lb
  rw [if_neg (by decide), if_neg (by decide), if_pos (by decide)]
theorem ol79 (e : nK nt n = 79) : sp_lf nt rs (f + 1) n lo wa = (sp_lf nt rs f (nA nt n) lo wa && sp_lf nt rs f (nB nt n) lo wa) := by
  rw [sp_lf_s, show nt 0 n.toNatClampNeg = 79 from e]
  unfold sp_lb
  rw [if_pos (by decide)]
theorem ol80 (e : nK nt n = 80) : sp_lf nt rs (f + 1) n lo wa = (sp_lf nt rs f (nB nt n) lo wa) := by
  rw [sp_lf_s, show nt 0 n.toNatClampNeg = 80 from e]
  unfold sp_lb
  rw [if_neg (by decide), if_neg (by decide), if_pos (by decide)]
theorem ol81 (e : nK nt n = 81) : sp_lf nt rs (f + 1) n lo wa = (sp_lf nt rs f (nB nt n) lo (wa + 1)) := by
  rw [sp_lf_s, show nt 0 n.toNatClampNeg = 81 from e]
  unfold sp_lb
  rw [if_neg (by decide), if_neg (by decide), if_neg (by decide), if_neg (by decide), if_neg (by decide), if_neg (by decide), if_neg (by decide), if_neg (by decide), if_neg (by decide), if_neg (by decide), if_pos (by decide)]
theorem ol82 (e : nK nt n = 82) : sp_lf nt rs (f + 1) n lo wa = (sp_lf nt rs f (nA nt n) lo wa && (decide (nB nt n = -1) || sp_lf nt rs f (nB nt n) lo wa)) := by
  rw [sp_lf_s, show nt 0 n.toNatClampNeg = 82 from e]
  unfold sp_lb
  rw [if_neg (by decide), if_neg (by decide), if_neg (by decide), if_neg (by decide), if_neg (by decide), if_neg (by decide), if_neg (by decide), if_neg (by decide), if_neg (by decide), if_pos (by decide)]
theorem ol83 (e : nK nt n = 83) : sp_lf nt rs (f + 1) n lo wa = (sp_lf nt rs f (nB nt n) lo wa) := by
  rw [sp_lf_s, show nt 0 n.toNatClampNeg = 83 from e]
  unfold sp_lb
  rw [if_neg (by decide), if_neg (by decide), if_pos (by decide)]
theorem ol84 (e : nK nt n = 84) : sp_lf nt rs (f + 1) n lo wa = (sp_lf nt rs f (nB nt n) lo wa) := by
  rw [sp_lf_s, show nt 0 n.toNatClampNeg = 84 from e]
  unfold sp_lb
  rw [if_neg (by decide), if_neg (by decide), if_pos (by decide)]
theorem ol85 (e : nK nt n = 85) : sp_lf nt rs (f + 1) n lo wa = (sp_lf nt rs f (nB nt n) lo wa) := by
  rw [sp_lf_s, show nt 0 n.toNatClampNeg = 85 from e]
  unfold sp_lb
  rw [if_neg (by decide), if_neg (by decide), if_pos (by decide)]
end
