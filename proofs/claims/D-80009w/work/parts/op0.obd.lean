/-! statements by their kind -/
section
variable {nt : sp_NT} {V : wR} {rec : wT} {n : Int32} {g : wG}
theorem w_bd60 (e : nK nt n = 60) : w_bd nt V rec n g = V (nA nt n) 1 0 g := by
  unfold w_bd
  rw [if_pos e]
theorem w_bd61 (e : nK nt n = 61) : w_bd nt V rec n g = s_pl (nA nt n).toNatClampNeg (g_nx (V (nB nt n) 0 0 g)) (w_ts (nT nt (nA nt n)) (w_tl (nT nt (nA nt n))).reverse (V (nB nt n) 0 0 g)) := by
  unfold w_bd
  rw [if_neg (by rw [e]; decide), if_pos e]
theorem w_bd62 (e : nK nt n = 62) : w_bd nt V rec n g = rec (nB nt n) (rec (nA nt n) g) := by
  unfold w_bd
  rw [if_neg (by rw [e]; decide), if_neg (by rw [e]; decide), if_pos e]
theorem w_bd63 (e : nK nt n = 63) : w_bd nt V rec n g = w_aln rec (nA nt n) g := by
  unfold w_bd
  rw [if_neg (by rw [e]; decide), if_neg (by rw [e]; decide), if_neg (by rw [e]; decide), if_pos e]
theorem w_bd64 (e : nK nt n = 64) : w_bd nt V rec n g = w_sl false (g_nl g) (w_put (g_nl g) (w_aln rec (nB nt n) (V (nA nt n) 3 (g_nl g) (w_lb (g_L g, []) g)))) := by
  unfold w_bd
  rw [if_neg (by rw [e]; decide), if_neg (by rw [e]; decide), if_neg (by rw [e]; decide), if_neg (by rw [e]; decide), if_pos e]
theorem w_bd65 (e : nK nt n = 65) : w_bd nt V rec n g = w_sl false (g_nl g + 1) (w_put (g_nl g + 1) (w_aln rec (nB nt (nB nt n)) (w_sl false (g_nl g) (w_put (g_nl g) (w_go (g_nl g + 1) (w_aln rec (nA nt (nB nt n)) (V (nA nt n) 3 (g_nl g) (w_lb (g_L g, []) (w_lb (g_L g, []) g))))))))) := by
  unfold w_bd
  rw [if_neg (by rw [e]; decide), if_neg (by rw [e]; decide), if_neg (by rw [e]; decide), if_neg (by rw [e]; decide), if_neg (by rw [e]; decide), if_pos e]
theorem w_bd67 (e : nK nt n = 67) : w_bd nt V rec n g = w_loop nt V rec (nK nt n) (nA nt n) (nB nt n) g := by
  unfold w_bd
  rw [if_neg (by rw [e]; decide), if_neg (by rw [e]; decide), if_neg (by rw [e]; decide), if_neg (by rw [e]; decide), if_neg (by rw [e]; decide), if_neg (by rw [e]; decide), if_pos (by rw [e]; decide)]
theorem w_bd68 (e : nK nt n = 68) : w_bd nt V rec n g = w_loop nt V rec (nK nt n) (nA nt n) (nB nt n) g := by
  unfold w_bd
  rw [if_neg (by rw [e]; decide), if_neg (by rw [e]; decide), if_neg (by rw [e]; decide), if_neg (by rw [e]; decide), if_neg (by rw [e]; decide), if_neg (by rw [e]; decide), if_pos (by rw [e]; decide)]
theorem w_bd69 (e : nK nt n = 69) : w_bd nt V rec n g = w_loop nt V rec (nK nt n) (nA nt n) (nB nt n) g := by
  unfold w_bd
  rw [if_neg (by rw [e]; decide), if_neg (by rw [e]; decide), if_neg (by rw [e]; decide), if_neg (by rw [e]; decide), if_neg (by rw [e]; decide), if_neg (by rw [e]; decide), if_pos (by rw [e]; decide)]
theorem w_bd71 (e : nK nt n = 71) : w_bd nt V rec n g = w_lvs rec (nA nt n).toNatClampNeg true g := by
  unfold w_bd
  rw [if_neg (by rw [e]; decide), if_neg (by rw [e]; decide), if_neg (by rw [e]; decide), if_neg (by rw [e]; decide), if_neg (by rw [e]; decide), if_neg (by rw [e]; decide), if_neg (by rw [e]; decide), if_pos e]
theorem w_bd72 (e : nK nt n = 72) : w_bd nt V rec n g = w_lvs rec (nA nt n).toNatClampNeg false g := by
  unfold w_bd
  rw [if_neg (by rw [e]; decide), if_neg (by rw [e]; decide), if_neg (by rw [e]; decide), if_neg (by rw [e]; decide), if_neg (by rw [e]; decide), if_neg (by rw [e]; decide), if_neg (by rw [e]; decide), if_neg (by rw [e]; decide), if_pos e]
theorem w_bd73 (e : nK nt n = 73) : w_bd nt V rec n g = w_ret nt V rec (nA nt n) g := by
  unfold w_bd
  rw [if_neg (by rw [e]; decide), if_neg (by rw [e]; decide), if_neg (by rw [e]; decide), if_neg (by rw [e]; decide), if_neg (by rw [e]; decide), if_neg (by rw [e]; decide), if_neg (by rw [e]; decide), if_neg (by rw [e]; decide), if_neg (by rw [e]; decide), if_pos e]
theorem w_bd74 (e : nK nt n = 74) : w_bd nt V rec n g = s_al false (w_em (16, 191, 0, 0, []) 1 [] (w_pe 15 71 0 1 [10] (V (nA nt n) 0 0 g))) := by
  unfold w_bd
  rw [if_neg (by rw [e]; decide), if_neg (by rw [e]; decide), if_neg (by rw [e]; decide), if_neg (by rw [e]; decide), if_neg (by rw [e]; decide), if_neg (by rw [e]; decide), if_neg (by rw [e]; decide), if_neg (by rw [e]; decide), if_neg (by rw [e]; decide), if_neg (by rw [e]; decide), if_pos e]
theorem w_bd75 (e : nK nt n = 75) : w_bd nt V rec n g = w_try nt rec (nA nt n) (nB nt n) g := by
  unfold w_bd
  rw [if_neg (by rw [e]; decide), if_neg (by rw [e]; decide), if_neg (by rw [e]; decide), if_neg (by rw [e]; decide), if_neg (by rw [e]; decide), if_neg (by rw [e]; decide), if_neg (by rw [e]; decide), if_neg (by rw [e]; decide), if_neg (by rw [e]; decide), if_neg (by rw [e]; decide), if_neg (by rw [e]; decide), if_pos e]
theorem w_bd79 (e : nK nt n = 79) : w_bd nt V rec n g = w_ended rec 3 (nA nt n) (nB nt n) g := by
  unfold w_bd
  rw [if_neg (by rw [e]; decide), if_neg (by rw [e]; decide), if_neg (by rw [e]; decide), if_neg (by rw [e]; decide), if_neg (by rw [e]; decide), if_neg (by rw [e]; decide), if_neg (by rw [e]; decide), if_neg (by rw [e]; decide), if_neg (by rw [e]; decide), if_neg (by rw [e]; decide), if_neg (by rw [e]; decide), if_neg (by rw [e]; decide), if_pos e]
theorem w_bd80 (e : nK nt n = 80) : w_bd nt V rec n g = w_lock nt V rec (nA nt n) (nB nt n) g := by
  unfold w_bd
  rw [if_neg (by rw [e]; decide), if_neg (by rw [e]; decide), if_neg (by rw [e]; decide), if_neg (by rw [e]; decide), if_neg (by rw [e]; decide), if_neg (by rw [e]; decide), if_neg (by rw [e]; decide), if_neg (by rw [e]; decide), if_neg (by rw [e]; decide), if_neg (by rw [e]; decide), if_neg (by rw [e]; decide), if_neg (by rw [e]; decide), if_neg (by rw [e]; decide), if_pos e]
theorem w_bd81 (e : nK nt n = 81) : w_bd nt V rec n g = w_swt nt V rec (nA nt n) (nB nt n) g := by
  unfold w_bd
  rw [if_neg (by rw [e]; decide), if_neg (by rw [e]; decide), if_neg (by rw [e]; decide), if_neg (by rw [e]; decide), if_neg (by rw [e]; decide), if_neg (by rw [e]; decide), if_neg (by rw [e]; decide), if_neg (by rw [e]; decide), if_neg (by rw [e]; decide), if_neg (by rw [e]; decide), if_neg (by rw [e]; decide), if_neg (by rw [e]; decide), if_neg (by rw [e]; decide), if_neg (by rw [e]; decide), if_pos e]
theorem w_bd85 (e : nK nt n = 85) : w_bd nt V rec n g = s_pn (bif Nat.blt (g_it g).length (g_it (rec (nB nt n) (s_pn (nA nt n) g))).length then -1 else g_pn g) (rec (nB nt n) (s_pn (nA nt n) g)) := by
  unfold w_bd
  rw [if_neg (by rw [e]; decide), if_neg (by rw [e]; decide), if_neg (by rw [e]; decide), if_neg (by rw [e]; decide), if_neg (by rw [e]; decide), if_neg (by rw [e]; decide), if_neg (by rw [e]; decide), if_neg (by rw [e]; decide), if_neg (by rw [e]; decide), if_neg (by rw [e]; decide), if_neg (by rw [e]; decide), if_neg (by rw [e]; decide), if_neg (by rw [e]; decide), if_neg (by rw [e]; decide), if_neg (by rw [e]; decide)]
end
