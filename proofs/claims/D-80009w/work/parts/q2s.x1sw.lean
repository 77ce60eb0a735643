theorem wX1_told_0_0 (d : Nat) (a1 : Int32) (a2 : Int32) (x : mj_X) (h : a2 = (0 : Int32)) : kX1 (d + 1) 100 [.ref 0, .int a1, .int a2] x = mj_rI (kX1 d 101 [.ref 0, .int a1] x) fun v2 x1 =>
  
  if v2 = 0 then some (some (.int (-1 : Int32)), x1)
  else rX1_told d (52, [some (.ref 0), some (.int a1), some (.int a2)], [], x1) := by rw [eX1_told, h]; rfl
theorem wX1_told_0_1 (d : Nat) (a1 : Int32) (a2 : Int32) (x : mj_X) (h : a2 = (1 : Int32)) : kX1 (d + 1) 100 [.ref 0, .int a1, .int a2] x = mj_rI (kX1 d 101 [.ref 0, .int a1] x) fun v2 x1 =>
  
  if v2 = 0 then some (some (.int (-1 : Int32)), x1)
  else rX1_told d (68, [some (.ref 0), some (.int a1), some (.int a2)], [], x1) := by rw [eX1_told, h]; rfl
theorem wX1_told_0_2 (d : Nat) (a1 : Int32) (a2 : Int32) (x : mj_X) (h : a2 = (2 : Int32)) : kX1 (d + 1) 100 [.ref 0, .int a1, .int a2] x = mj_rI (kX1 d 101 [.ref 0, .int a1] x) fun v2 x1 =>
  
  if v2 = 0 then some (some (.int (-1 : Int32)), x1)
  else rX1_told d (75, [some (.ref 0), some (.int a1), some (.int a2)], [], x1) := by rw [eX1_told, h]; rfl
theorem wX1_told_0_3 (d : Nat) (a1 : Int32) (a2 : Int32) (x : mj_X) (h : a2 = (3 : Int32)) : kX1 (d + 1) 100 [.ref 0, .int a1, .int a2] x = mj_rI (kX1 d 101 [.ref 0, .int a1] x) fun v2 x1 =>
  
  if v2 = 0 then some (some (.int (-1 : Int32)), x1)
  else rX1_told d (91, [some (.ref 0), some (.int a1), some (.int a2)], [], x1) := by rw [eX1_told, h]; rfl
theorem wX1_told_0_4 (d : Nat) (a1 : Int32) (a2 : Int32) (x : mj_X) (h : a2 = (4 : Int32)) : kX1 (d + 1) 100 [.ref 0, .int a1, .int a2] x = mj_rI (kX1 d 101 [.ref 0, .int a1] x) fun v2 x1 =>
  
  if v2 = 0 then some (some (.int (-1 : Int32)), x1)
  else rX1_told d (107, [some (.ref 0), some (.int a1), some (.int a2)], [], x1) := by rw [eX1_told, h]; rfl
theorem wX1_told_0_5 (d : Nat) (a1 : Int32) (a2 : Int32) (x : mj_X) (h : a2 = (5 : Int32)) : kX1 (d + 1) 100 [.ref 0, .int a1, .int a2] x = mj_rI (kX1 d 101 [.ref 0, .int a1] x) fun v2 x1 =>
  
  if v2 = 0 then some (some (.int (-1 : Int32)), x1)
  else rX1_told d (123, [some (.ref 0), some (.int a1), some (.int a2)], [], x1) := by rw [eX1_told, h]; rfl
theorem wX1_told_0_6 (d : Nat) (a1 : Int32) (a2 : Int32) (x : mj_X) (h : a2 = (6 : Int32)) : kX1 (d + 1) 100 [.ref 0, .int a1, .int a2] x = mj_rI (kX1 d 101 [.ref 0, .int a1] x) fun v2 x1 =>
  
  if v2 = 0 then some (some (.int (-1 : Int32)), x1)
  else rX1_told d (138, [some (.ref 0), some (.int a1), some (.int a2)], [], x1) := by rw [eX1_told, h]; rfl
theorem wX1_told_0_out (d : Nat) (a1 : Int32) (a2 : Int32) (x : mj_X) (h : (a2).toInt < 0 ∨ 6 < (a2).toInt) : kX1 (d + 1) 100 [.ref 0, .int a1, .int a2] x = mj_rI (kX1 d 101 [.ref 0, .int a1] x) fun v2 x1 =>
  
  if v2 = 0 then some (some (.int (-1 : Int32)), x1)
  else rX1_told d (145, [some (.ref 0), some (.int a1), some (.int a2)], [], x1) := by rw [eX1_told]; simp only [mj_sw_out a2 0 (134) [41, 57, 64, 80, 96, 112, 127] _ h (by decide) (by decide)]; try rfl
