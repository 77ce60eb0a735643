noncomputable abbrev rX0_array (d : Nat) : mj_S → mj_R := mj_run cdX0 1 tX0_array (kX0 d)
def zX0_array (p : Nat) : Bool := false
set_option maxRecDepth 100000 in
set_option maxHeartbeats 4000000 in
theorem eX0_array (d : Nat) (a1 : Int32) (a2 : Int32) (x : mj_X) : kX0 (d + 1) 124 [.ref 0, .int a1, .int a2] x = 
  if 0 ≤ a2 then 
   if (4000 : Int32) < a2 then some (some (.int (0 : Int32)), (mj_wI (mj_wI x 0 78 (6 : Int32)) 0 79 (0 : Int32)))
   else 
    if ((x.1 0 76) + a2) ≤ (20000 : Int32) then mj_g ((x.1 0 75) + (1 : Int32)) 120020 (mj_g ((x.1 0 75) + (1 : Int32)) 120020 (mj_g ((x.1 0 75) + (1 : Int32)) 120020 (mj_rV (mj_pr cdX0 1008 [.ref 75, .int (x.1 0 76), .int ((x.1 0 76) + a2), .long (0 : Int64)] (mj_wI (mj_wI (mj_wI (mj_wI x 0 75 ((x.1 0 75) + (1 : Int32))) 72 ((x.1 0 75) + (1 : Int32)).toNatClampNeg (x.1 0 76)) 73 ((x.1 0 75) + (1 : Int32)).toNatClampNeg a2) 74 ((x.1 0 75) + (1 : Int32)).toNatClampNeg a1.toInt8.toInt32.toInt8.toInt32)) fun x1 =>
     some (some (.int (x1.1 0 75)), (mj_wI x1 0 76 ((x1.1 0 76) + a2))))))
    else some (some (.int (0 : Int32)), (mj_wI (mj_wI x 0 78 (6 : Int32)) 0 79 (0 : Int32)))
  else some (some (.int (0 : Int32)), (mj_wI (mj_wI x 0 78 (4 : Int32)) 0 79 (0 : Int32))) := (mj_run_to (cd := cdX0) (rt := 1) (tab := tX0_array) (cal := kX0 d) zX0_array 82 (0, [some (.ref 0), some (.int a1), some (.int a2)], [], x)).trans rfl
noncomputable abbrev rX0_begins (d : Nat) : mj_S → mj_R := mj_run cdX0 5 tX0_begins (kX0 d)
def zX0_begins (p : Nat) : Bool := bif Nat.beq p 26 then true else false
set_option maxRecDepth 100000 in
set_option maxHeartbeats 4000000 in
theorem eX0_begins (d : Nat)  (x : mj_X) : kX0 (d + 1) 126 [.ref 0] x = 
  if ((x.1 0 80) + (1 : Int32)) ≤ (100000 : Int32) then rX0_begins d (26, [some (.ref 0)], [.int (0 : Int32), .ref 0], (mj_wI x 0 80 ((x.1 0 80) + (1 : Int32))))
  else rX0_begins d (26, [some (.ref 0)], [.int (1 : Int32), .ref 0], (mj_wI x 0 80 ((x.1 0 80) + (1 : Int32)))) := (mj_run_to (cd := cdX0) (rt := 5) (tab := tX0_begins) (cal := kX0 d) zX0_begins 18 (0, [some (.ref 0)], [], x)).trans rfl
set_option maxRecDepth 100000 in
set_option maxHeartbeats 4000000 in
theorem bX0_begins_26 (d : Nat) (s1 : Int32) (x : mj_X) : rX0_begins d (26, [some (.ref 0)], [.int s1, .ref 0], x) = mj_gb s1 (
  if s1 = 0 then some (some (.int (1 : Int32)), (mj_wI x 0 81 s1))
  else some (some (.int (0 : Int32)), (mj_wI x 0 81 s1))) := (mj_run_to (cd := cdX0) (rt := 5) (tab := tX0_begins) (cal := kX0 d) zX0_begins 18 (26, [some (.ref 0)], [.int s1, .ref 0], x)).trans rfl
noncomputable abbrev rX0_walk (d : Nat) : mj_S → mj_R := mj_run cdX0 2 tX0_walk (kX0 d)
def zX0_walk (p : Nat) : Bool := bif Nat.blt p 451 then (bif Nat.blt p 313 then (bif Nat.blt p 256 then (bif Nat.blt p 254 then (bif Nat.beq p 248 then true else false) else (bif Nat.beq p 254 then true else false)) else (bif Nat.blt p 272 then (bif Nat.beq p 256 then true else false) else (bif Nat.blt p 306 then (bif Nat.beq p 272 then true else false) else (bif Nat.beq p 306 then true else false)))) else (bif Nat.blt p 379 then (bif Nat.blt p 320 then (bif Nat.beq p 313 then true else false) else (bif Nat.blt p 335 then (bif Nat.beq p 320 then true else false) else (bif Nat.beq p 335 then true else false))) else (bif Nat.blt p 394 then (bif Nat.beq p 379 then true else false) else (bif Nat.blt p 421 then (bif Nat.beq p 394 then true else false) else (bif Nat.beq p 421 then true else false))))) else (bif Nat.blt p 550 then (bif Nat.blt p 482 then (bif Nat.blt p 467 then (bif Nat.beq p 451 then true else false) else (bif Nat.beq p 467 then true else false)) else (bif Nat.blt p 520 then (bif Nat.beq p 482 then true else false) else (bif Nat.blt p 535 then (bif Nat.beq p 520 then true else false) else (bif Nat.beq p 535 then true else false)))) else (bif Nat.blt p 625 then (bif Nat.blt p 578 then (bif Nat.beq p 550 then true else false) else (bif Nat.blt p 604 then (bif Nat.beq p 578 then true else false) else (bif Nat.beq p 604 then true else false))) else (bif Nat.blt p 632 then (bif Nat.beq p 625 then true else false) else (bif Nat.blt p 686 then (bif Nat.beq p 632 then true else false) else (bif Nat.beq p 686 then true else false)))))
set_option maxRecDepth 100000 in
set_option maxHeartbeats 4000000 in
theorem eX0_walk (d : Nat) (a1 : Int32) (x : mj_X) : kX0 (d + 1) 127 [.ref 0, .int a1] x = mj_rI (kX0 d 126 [.ref 0] x) fun v2 x1 =>
  
  if v2 = 0 then some (some (.long (0 : Int64)), x1)
  else mj_g a1 4000 (mj_g a1 4000 (mj_g a1 4000 (mj_sw (x1.1 1 a1.toNatClampNeg) 1 (603) [219, 219, 219, 219, 603, 227, 243, 277, 284, 603, 603, 603, 603, 603, 603, 603, 603, 603, 603, 603, 291, 306, 603, 603, 603, 603, 603, 603, 350, 350, 422, 438, 603, 491, 603, 603, 603, 603, 603, 603, 603, 603, 603, 603, 603, 521, 549, 596, 603, 603, 225] fun off => mj_j 29 off fun t => rX0_walk d (t, [some (.ref 0), some (.int a1), some (.int (x1.1 2 a1.toNatClampNeg)), some (.int (x1.1 3 a1.toNatClampNeg)), none, none, none, none, none, none, none, none, none, none], [], x1)))) := (mj_run_to (cd := cdX0) (rt := 2) (tab := tX0_walk) (cal := kX0 d) zX0_walk 48 (0, [some (.ref 0), some (.int a1), none, none, none, none, none, none, none, none, none, none, none, none], [], x)).trans rfl
set_option maxRecDepth 100000 in
set_option maxHeartbeats 4000000 in
theorem bX0_walk_248 (d : Nat) (a1 : Int32) (a2 : Int32) (a3 : Int32) (x : mj_X) : rX0_walk d (248, [some (.ref 0), some (.int a1), some (.int a2), some (.int a3), none, none, none, none, none, none, none, none, none, none], [], x) = mj_rL (kX0 d 58 [.ref 0, .int a1] x) fun v2 x1 =>
  some (some (.long v2), x1) := (mj_run_to (cd := cdX0) (rt := 2) (tab := tX0_walk) (cal := kX0 d) zX0_walk 48 (248, [some (.ref 0), some (.int a1), some (.int a2), some (.int a3), none, none, none, none, none, none, none, none, none, none], [], x)).trans rfl
set_option maxRecDepth 100000 in
set_option maxHeartbeats 4000000 in
theorem bX0_walk_254 (d : Nat) (a1 : Int32) (a2 : Int32) (a3 : Int32) (x : mj_X) : rX0_walk d (254, [some (.ref 0), some (.int a1), some (.int a2), some (.int a3), none, none, none, none, none, none, none, none, none, none], [], x) = some (some (.long (0 : Int64)), x) := (mj_run_to (cd := cdX0) (rt := 2) (tab := tX0_walk) (cal := kX0 d) zX0_walk 48 (254, [some (.ref 0), some (.int a1), some (.int a2), some (.int a3), none, none, none, none, none, none, none, none, none, none], [], x)).trans rfl
set_option maxRecDepth 100000 in
set_option maxHeartbeats 4000000 in
theorem bX0_walk_256 (d : Nat) (a1 : Int32) (a2 : Int32) (a3 : Int32) (x : mj_X) : rX0_walk d (256, [some (.ref 0), some (.int a1), some (.int a2), some (.int a3), none, none, none, none, none, none, none, none, none, none], [], x) = mj_g (((4000 : Int32) * (x.1 0 83)) + a2) 44000 (some (some (.long (x.2 83 (((4000 : Int32) * (x.1 0 83)) + a2).toNatClampNeg)), x)) := (mj_run_to (cd := cdX0) (rt := 2) (tab := tX0_walk) (cal := kX0 d) zX0_walk 48 (256, [some (.ref 0), some (.int a1), some (.int a2), some (.int a3), none, none, none, none, none, none, none, none, none, none], [], x)).trans rfl
set_option maxRecDepth 100000 in
set_option maxHeartbeats 4000000 in
theorem bX0_walk_272 (d : Nat) (a1 : Int32) (a2 : Int32) (a3 : Int32) (x : mj_X) : rX0_walk d (272, [some (.ref 0), some (.int a1), some (.int a2), some (.int a3), none, none, none, none, none, none, none, none, none, none], [], x) = mj_rL (kX0 d 127 [.ref 0, .int a3] x) fun v2 x1 =>
  mj_rI (kX0 d 128 [.ref 0] x1) fun v4 x3 =>
  
  if v4 = 0 then some (some (.long v2), x3)
  else mj_g (((4000 : Int32) * (x3.1 0 83)) + a2) 44000 (some (some (.long v2), (mj_wL x3 83 (((4000 : Int32) * (x3.1 0 83)) + a2).toNatClampNeg v2))) := (mj_run_to (cd := cdX0) (rt := 2) (tab := tX0_walk) (cal := kX0 d) zX0_walk 48 (272, [some (.ref 0), some (.int a1), some (.int a2), some (.int a3), none, none, none, none, none, none, none, none, none, none], [], x)).trans rfl
set_option maxRecDepth 100000 in
set_option maxHeartbeats 4000000 in
theorem bX0_walk_306 (d : Nat) (a1 : Int32) (a2 : Int32) (a3 : Int32) (x : mj_X) : rX0_walk d (306, [some (.ref 0), some (.int a1), some (.int a2), some (.int a3), none, none, none, none, none, none, none, none, none, none], [], x) = mj_rL (kX0 d 129 [.ref 0, .int a2, .int a3] x) fun v2 x1 =>
  some (some (.long v2), x1) := (mj_run_to (cd := cdX0) (rt := 2) (tab := tX0_walk) (cal := kX0 d) zX0_walk 48 (306, [some (.ref 0), some (.int a1), some (.int a2), some (.int a3), none, none, none, none, none, none, none, none, none, none], [], x)).trans rfl
set_option maxRecDepth 100000 in
set_option maxHeartbeats 4000000 in
theorem bX0_walk_313 (d : Nat) (a1 : Int32) (a2 : Int32) (a3 : Int32) (x : mj_X) : rX0_walk d (313, [some (.ref 0), some (.int a1), some (.int a2), some (.int a3), none, none, none, none, none, none, none, none, none, none], [], x) = mj_rL (kX0 d 131 [.ref 0, .int a2, .int a3] x) fun v2 x1 =>
  some (some (.long v2), x1) := (mj_run_to (cd := cdX0) (rt := 2) (tab := tX0_walk) (cal := kX0 d) zX0_walk 48 (313, [some (.ref 0), some (.int a1), some (.int a2), some (.int a3), none, none, none, none, none, none, none, none, none, none], [], x)).trans rfl
set_option maxRecDepth 100000 in
set_option maxHeartbeats 4000000 in
theorem bX0_walk_320 (d : Nat) (a1 : Int32) (a2 : Int32) (a3 : Int32) (x : mj_X) : rX0_walk d (320, [some (.ref 0), some (.int a1), some (.int a2), some (.int a3), none, none, none, none, none, none, none, none, none, none], [], x) = mj_g a1 4000 (mj_rL (kX0 d 127 [.ref 0, .int a2] x) fun v2 x1 =>
  mj_rL (kX0 d 132 [.int (x.1 4 a1.toNatClampNeg), .long v2] x1) fun v4 x3 =>
  some (some (.long v4), x3)) := (mj_run_to (cd := cdX0) (rt := 2) (tab := tX0_walk) (cal := kX0 d) zX0_walk 48 (320, [some (.ref 0), some (.int a1), some (.int a2), some (.int a3), none, none, none, none, none, none, none, none, none, none], [], x)).trans rfl
set_option maxRecDepth 100000 in
set_option maxHeartbeats 4000000 in
theorem bX0_walk_335 (d : Nat) (a1 : Int32) (a2 : Int32) (a3 : Int32) (x : mj_X) : rX0_walk d (335, [some (.ref 0), some (.int a1), some (.int a2), some (.int a3), none, none, none, none, none, none, none, none, none, none], [], x) = mj_rL (kX0 d 127 [.ref 0, .int a3] x) fun v2 x1 =>
  
  if a2 ≤ (4 : Int32) then mj_g a3 4000 (mj_rL (kX0 d 133 [.int (x1.1 4 a3.toNatClampNeg), .int a2, .long v2] x1) fun v4 x3 =>
   some (some (.long v4), x3))
  else mj_g a3 4000 (mj_rL (kX0 d 133 [.int (x1.1 4 a3.toNatClampNeg), .int (1 : Int32), .long v2] x1) fun v6 x5 =>
   mj_rL (kX0 d 134 [.int a2, .long v6] x5) fun v8 x7 =>
   some (some (.long v8), x7)) := (mj_run_to (cd := cdX0) (rt := 2) (tab := tX0_walk) (cal := kX0 d) zX0_walk 48 (335, [some (.ref 0), some (.int a1), some (.int a2), some (.int a3), none, none, none, none, none, none, none, none, none, none], [], x)).trans rfl
set_option maxRecDepth 100000 in
set_option maxHeartbeats 4000000 in
theorem bX0_walk_379 (d : Nat) (a1 : Int32) (a2 : Int32) (a3 : Int32) (x : mj_X) : rX0_walk d (379, [some (.ref 0), some (.int a1), some (.int a2), some (.int a3), none, none, none, none, none, none, none, none, none, none], [], x) = mj_rL (kX0 d 127 [.ref 0, .int a2] x) fun v2 x1 =>
  
  if (lg_cmp v2 (0 : Int64)) = 0 then rX0_walk d (394, [some (.ref 0), some (.int a1), some (.int a2), some (.int a3), none, none, none, none, none, none, none, none, none, none], [.int (0 : Int32)], x1)
  else rX0_walk d (394, [some (.ref 0), some (.int a1), some (.int a2), some (.int a3), none, none, none, none, none, none, none, none, none, none], [.int (1 : Int32)], x1) := (mj_run_to (cd := cdX0) (rt := 2) (tab := tX0_walk) (cal := kX0 d) zX0_walk 48 (379, [some (.ref 0), some (.int a1), some (.int a2), some (.int a3), none, none, none, none, none, none, none, none, none, none], [], x)).trans rfl
set_option maxRecDepth 100000 in
set_option maxHeartbeats 4000000 in
theorem bX0_walk_394 (d : Nat) (a1 : Int32) (a2 : Int32) (a3 : Int32) (s0 : Int32) (x : mj_X) : rX0_walk d (394, [some (.ref 0), some (.int a1), some (.int a2), some (.int a3), none, none, none, none, none, none, none, none, none, none], [.int s0], x) = mj_rI (kX0 d 128 [.ref 0] x) fun v2 x1 =>
  
  if v2 = 0 then 
   if s0 = 0 then some (some (.long (0 : Int64)), x1)
   else some (some (.long (1 : Int64)), x1)
  else mj_g a1 4000 (
   if (x1.1 1 a1.toNatClampNeg) = (30 : Int32) then rX0_walk d (421, [some (.ref 0), some (.int a1), some (.int a2), some (.int a3), none, none, none, none, some (.int s0), none, none, none, none, none], [.int (1 : Int32), .int s0], x1)
   else rX0_walk d (421, [some (.ref 0), some (.int a1), some (.int a2), some (.int a3), none, none, none, none, some (.int s0), none, none, none, none, none], [.int (0 : Int32), .int s0], x1)) := (mj_run_to (cd := cdX0) (rt := 2) (tab := tX0_walk) (cal := kX0 d) zX0_walk 48 (394, [some (.ref 0), some (.int a1), some (.int a2), some (.int a3), none, none, none, none, none, none, none, none, none, none], [.int s0], x)).trans rfl
set_option maxRecDepth 100000 in
set_option maxHeartbeats 4000000 in
theorem bX0_walk_421 (d : Nat) (a1 : Int32) (a2 : Int32) (a3 : Int32) (a8 : Int32) (s0 : Int32) (s1 : Int32) (x : mj_X) : rX0_walk d (421, [some (.ref 0), some (.int a1), some (.int a2), some (.int a3), none, none, none, none, some (.int a8), none, none, none, none, none], [.int s1, .int s0], x) = 
  if s0 = s1 then 
   if a8 = 0 then some (some (.long (0 : Int64)), x)
   else some (some (.long (1 : Int64)), x)
  else mj_rL (kX0 d 127 [.ref 0, .int a3] x) fun v2 x1 =>
   
   if (lg_cmp v2 (0 : Int64)) = 0 then some (some (.long (0 : Int64)), x1)
   else some (some (.long (1 : Int64)), x1) := (mj_run_to (cd := cdX0) (rt := 2) (tab := tX0_walk) (cal := kX0 d) zX0_walk 48 (421, [some (.ref 0), some (.int a1), some (.int a2), some (.int a3), none, none, none, none, some (.int a8), none, none, none, none, none], [.int s1, .int s0], x)).trans rfl
set_option maxRecDepth 100000 in
set_option maxHeartbeats 4000000 in
theorem bX0_walk_451 (d : Nat) (a1 : Int32) (a2 : Int32) (a3 : Int32) (x : mj_X) : rX0_walk d (451, [some (.ref 0), some (.int a1), some (.int a2), some (.int a3), none, none, none, none, none, none, none, none, none, none], [], x) = mj_rL (kX0 d 127 [.ref 0, .int a2] x) fun v2 x1 =>
  
  if (lg_cmp v2 (0 : Int64)) = 0 then some (some (.long (1 : Int64)), x1)
  else some (some (.long (0 : Int64)), x1) := (mj_run_to (cd := cdX0) (rt := 2) (tab := tX0_walk) (cal := kX0 d) zX0_walk 48 (451, [some (.ref 0), some (.int a1), some (.int a2), some (.int a3), none, none, none, none, none, none, none, none, none, none], [], x)).trans rfl
set_option maxRecDepth 100000 in
set_option maxHeartbeats 4000000 in
theorem bX0_walk_467 (d : Nat) (a1 : Int32) (a2 : Int32) (a3 : Int32) (x : mj_X) : rX0_walk d (467, [some (.ref 0), some (.int a1), some (.int a2), some (.int a3), none, none, none, none, none, none, none, none, none, none], [], x) = mj_rL (kX0 d 127 [.ref 0, .int a2] x) fun v2 x1 =>
  
  if (lg_cmp v2 (0 : Int64)) = 0 then rX0_walk d (482, [some (.ref 0), some (.int a1), some (.int a2), some (.int a3), none, none, none, none, none, none, none, none, none, none], [.int (0 : Int32)], x1)
  else rX0_walk d (482, [some (.ref 0), some (.int a1), some (.int a2), some (.int a3), none, none, none, none, none, none, none, none, none, none], [.int (1 : Int32)], x1) := (mj_run_to (cd := cdX0) (rt := 2) (tab := tX0_walk) (cal := kX0 d) zX0_walk 48 (467, [some (.ref 0), some (.int a1), some (.int a2), some (.int a3), none, none, none, none, none, none, none, none, none, none], [], x)).trans rfl
set_option maxRecDepth 100000 in
set_option maxHeartbeats 4000000 in
theorem bX0_walk_482 (d : Nat) (a1 : Int32) (a2 : Int32) (a3 : Int32) (s0 : Int32) (x : mj_X) : rX0_walk d (482, [some (.ref 0), some (.int a1), some (.int a2), some (.int a3), none, none, none, none, none, none, none, none, none, none], [.int s0], x) = mj_rI (kX0 d 128 [.ref 0] x) fun v2 x1 =>
  
  if v2 = 0 then some (some (.long (0 : Int64)), x1)
  else 
   if s0 = 0 then mj_g a3 4000 (mj_rL (kX0 d 127 [.ref 0, .int (x1.1 3 a3.toNatClampNeg)] x1) fun v4 x3 =>
    some (some (.long v4), x3))
   else mj_g a3 4000 (mj_rL (kX0 d 127 [.ref 0, .int (x1.1 2 a3.toNatClampNeg)] x1) fun v6 x5 =>
    some (some (.long v6), x5)) := (mj_run_to (cd := cdX0) (rt := 2) (tab := tX0_walk) (cal := kX0 d) zX0_walk 48 (482, [some (.ref 0), some (.int a1), some (.int a2), some (.int a3), none, none, none, none, none, none, none, none, none, none], [.int s0], x)).trans rfl
set_option maxRecDepth 100000 in
set_option maxHeartbeats 4000000 in
theorem bX0_walk_520 (d : Nat) (a1 : Int32) (a2 : Int32) (a3 : Int32) (x : mj_X) : rX0_walk d (520, [some (.ref 0), some (.int a1), some (.int a2), some (.int a3), none, none, none, none, none, none, none, none, none, none], [], x) = 
  if (a3 - a3 / (2 : Int32) * (2 : Int32)) = 0 then rX0_walk d (535, [some (.ref 0), some (.int a1), some (.int a2), some (.int a3), none, none, none, none, none, none, none, none, none, none], [.int (10 : Int32), .int a2, .ref 0], x)
  else rX0_walk d (535, [some (.ref 0), some (.int a1), some (.int a2), some (.int a3), none, none, none, none, none, none, none, none, none, none], [.int (11 : Int32), .int a2, .ref 0], x) := (mj_run_to (cd := cdX0) (rt := 2) (tab := tX0_walk) (cal := kX0 d) zX0_walk 48 (520, [some (.ref 0), some (.int a1), some (.int a2), some (.int a3), none, none, none, none, none, none, none, none, none, none], [], x)).trans rfl
set_option maxRecDepth 100000 in
set_option maxHeartbeats 4000000 in
theorem bX0_walk_535 (d : Nat) (a1 : Int32) (a2 : Int32) (a3 : Int32) (s1 : Int32) (s2 : Int32) (x : mj_X) : rX0_walk d (535, [some (.ref 0), some (.int a1), some (.int a2), some (.int a3), none, none, none, none, none, none, none, none, none, none], [.int s2, .int s1, .ref 0], x) = 
  if a3 < (2 : Int32) then mj_rL (kX0 d 135 [.ref 0, .int s1, .int s2, .int (-1 : Int32), .int (0 : Int32)] x) fun v2 x1 =>
   some (some (.long v2), x1)
  else mj_rL (kX0 d 135 [.ref 0, .int s1, .int s2, .int (-1 : Int32), .int (1 : Int32)] x) fun v4 x3 =>
   some (some (.long v4), x3) := (mj_run_to (cd := cdX0) (rt := 2) (tab := tX0_walk) (cal := kX0 d) zX0_walk 48 (535, [some (.ref 0), some (.int a1), some (.int a2), some (.int a3), none, none, none, none, none, none, none, none, none, none], [.int s2, .int s1, .ref 0], x)).trans rfl
set_option maxRecDepth 100000 in
set_option maxHeartbeats 4000000 in
theorem bX0_walk_550 (d : Nat) (a1 : Int32) (a2 : Int32) (a3 : Int32) (x : mj_X) : rX0_walk d (550, [some (.ref 0), some (.int a1), some (.int a2), some (.int a3), none, none, none, none, none, none, none, none, none, none], [], x) = mj_rL (kX0 d 127 [.ref 0, .int a3] x) fun v2 x1 =>
  mj_rI (kX0 d 128 [.ref 0] x1) fun v4 x3 =>
  
  if v4 = 0 then some (some (.long (0 : Int64)), x3)
  else mj_rI (kX0 d 124 [.ref 0, .int a2, .int v2.toInt32] x3) fun v6 x5 =>
   some (some (.long v6.toInt64), x5) := (mj_run_to (cd := cdX0) (rt := 2) (tab := tX0_walk) (cal := kX0 d) zX0_walk 48 (550, [some (.ref 0), some (.int a1), some (.int a2), some (.int a3), none, none, none, none, none, none, none, none, none, none], [], x)).trans rfl
set_option maxRecDepth 100000 in
set_option maxHeartbeats 4000000 in
theorem bX0_walk_578 (d : Nat) (a1 : Int32) (a2 : Int32) (a3 : Int32) (x : mj_X) : rX0_walk d (578, [some (.ref 0), some (.int a1), some (.int a2), some (.int a3), none, none, none, none, none, none, none, none, none, none], [], x) = mj_rL (kX0 d 127 [.ref 0, .int a2] x) fun v2 x1 =>
  mj_rI (kX0 d 128 [.ref 0] x1) fun v4 x3 =>
  
  if v4 = 0 then rX0_walk d (604, [some (.ref 0), some (.int a1), some (.int a2), some (.int a3), none, none, none, none, none, none, none, none, some (.long v2), none], [], x3)
  else 
   if (lg_cmp v2 (0 : Int64)) = 0 then mj_rV (kX0 d 139 [.ref 0, .int (2 : Int32)] x3) fun x5 =>
    rX0_walk d (604, [some (.ref 0), some (.int a1), some (.int a2), some (.int a3), none, none, none, none, none, none, none, none, some (.long v2), none], [], x5)
   else rX0_walk d (604, [some (.ref 0), some (.int a1), some (.int a2), some (.int a3), none, none, none, none, none, none, none, none, some (.long v2), none], [], x3) := (mj_run_to (cd := cdX0) (rt := 2) (tab := tX0_walk) (cal := kX0 d) zX0_walk 48 (578, [some (.ref 0), some (.int a1), some (.int a2), some (.int a3), none, none, none, none, none, none, none, none, none, none], [], x)).trans rfl
set_option maxRecDepth 100000 in
set_option maxHeartbeats 4000000 in
theorem bX0_walk_604 (d : Nat) (a1 : Int32) (a2 : Int32) (a3 : Int32) (a12 : Int64) (x : mj_X) : rX0_walk d (604, [some (.ref 0), some (.int a1), some (.int a2), some (.int a3), none, none, none, none, none, none, none, none, some (.long a12), none], [], x) = mj_rI (kX0 d 128 [.ref 0] x) fun v2 x1 =>
  
  if v2 = 0 then some (some (.long (0 : Int64)), x1)
  else mj_g a12.toInt32 120020 (some (some (.long (x1.1 73 a12.toInt32.toNatClampNeg).toInt64), x1)) := (mj_run_to (cd := cdX0) (rt := 2) (tab := tX0_walk) (cal := kX0 d) zX0_walk 48 (604, [some (.ref 0), some (.int a1), some (.int a2), some (.int a3), none, none, none, none, none, none, none, none, some (.long a12), none], [], x)).trans rfl
set_option maxRecDepth 100000 in
set_option maxHeartbeats 4000000 in
theorem bX0_walk_625 (d : Nat) (a1 : Int32) (a2 : Int32) (a3 : Int32) (x : mj_X) : rX0_walk d (625, [some (.ref 0), some (.int a1), some (.int a2), some (.int a3), none, none, none, none, none, none, none, none, none, none], [], x) = mj_rL (kX0 d 140 [.ref 0, .int a2, .int a3] x) fun v2 x1 =>
  some (some (.long v2), x1) := (mj_run_to (cd := cdX0) (rt := 2) (tab := tX0_walk) (cal := kX0 d) zX0_walk 48 (625, [some (.ref 0), some (.int a1), some (.int a2), some (.int a3), none, none, none, none, none, none, none, none, none, none], [], x)).trans rfl
set_option maxRecDepth 100000 in
set_option maxHeartbeats 4000000 in
theorem bX0_walk_632 (d : Nat) (a1 : Int32) (a2 : Int32) (a3 : Int32) (x : mj_X) : rX0_walk d (632, [some (.ref 0), some (.int a1), some (.int a2), some (.int a3), none, none, none, none, none, none, none, none, none, none], [], x) = mj_g a1 4000 (
  if (x.1 1 a1.toNatClampNeg) < (35 : Int32) then mj_rL (kX0 d 127 [.ref 0, .int a2] x) fun v2 x1 =>
   mj_rI (kX0 d 128 [.ref 0] x1) fun v4 x3 =>
   
   if v4 = 0 then rX0_walk d (686, [some (.ref 0), some (.int a1), some (.int a2), some (.int a3), some (.long v2), none, none, none, none, none, none, none, none, none], [.long (0 : Int64)], x3)
   else mj_rL (kX0 d 127 [.ref 0, .int a3] x3) fun v6 x5 =>
    rX0_walk d (686, [some (.ref 0), some (.int a1), some (.int a2), some (.int a3), some (.long v2), none, none, none, none, none, none, none, none, none], [.long v6], x5)
  else mj_g a1 4000 (mj_rL (kX0 d 135 [.ref 0, .int a2, .int (((x.1 1 a1.toNatClampNeg) - (35 : Int32)) + (10 : Int32)), .int a3, .int (0 : Int32)] x) fun v8 x7 =>
   some (some (.long v8), x7))) := (mj_run_to (cd := cdX0) (rt := 2) (tab := tX0_walk) (cal := kX0 d) zX0_walk 48 (632, [some (.ref 0), some (.int a1), some (.int a2), some (.int a3), none, none, none, none, none, none, none, none, none, none], [], x)).trans rfl
set_option maxRecDepth 100000 in
set_option maxHeartbeats 4000000 in
theorem bX0_walk_686 (d : Nat) (a1 : Int32) (a2 : Int32) (a3 : Int32) (a4 : Int64) (s0 : Int64) (x : mj_X) : rX0_walk d (686, [some (.ref 0), some (.int a1), some (.int a2), some (.int a3), some (.long a4), none, none, none, none, none, none, none, none, none], [.long s0], x) = mj_rI (kX0 d 128 [.ref 0] x) fun v2 x1 =>
  
  if v2 = 0 then some (some (.long (0 : Int64)), x1)
  else mj_g a1 4000 (mj_rI (kX0 d 2 [.long (x1.1 1 a1.toNatClampNeg).toInt64, .long (23 : Int64), .long (28 : Int64)] x1) fun v4 x3 =>
   
   if v4 = 0 then mj_g a1 4000 (mj_g a1 4000 (mj_rL (kX0 d 136 [.ref 0, .int (x3.1 1 a1.toNatClampNeg), .int (x3.1 4 a1.toNatClampNeg), .long a4, .long s0] x3) fun v6 x5 =>
    some (some (.long v6), x5)))
   else mj_g a1 4000 (mj_g a2 4000 (mj_rI (kX0 d 141 [.int (x3.1 1 a1.toNatClampNeg), .int (x3.1 4 a2.toNatClampNeg), .long a4, .long s0] x3) fun v8 x7 =>
    
    if v8 = 0 then some (some (.long (0 : Int64)), x7)
    else some (some (.long (1 : Int64)), x7)))) := (mj_run_to (cd := cdX0) (rt := 2) (tab := tX0_walk) (cal := kX0 d) zX0_walk 48 (686, [some (.ref 0), some (.int a1), some (.int a2), some (.int a3), some (.long a4), none, none, none, none, none, none, none, none, none], [.long s0], x)).trans rfl
noncomputable abbrev rX0_isOn (d : Nat) : mj_S → mj_R := mj_run cdX0 5 tX0_isOn (kX0 d)
def zX0_isOn (p : Nat) : Bool := false
set_option maxRecDepth 100000 in
set_option maxHeartbeats 4000000 in
theorem eX0_isOn (d : Nat)  (x : mj_X) : kX0 (d + 1) 128 [.ref 0] x = 
  if (x.1 0 78) = 0 then 
   if (x.1 0 81) = 0 then some (some (.int (1 : Int32)), x)
   else some (some (.int (0 : Int32)), x)
  else some (some (.int (0 : Int32)), x) := (mj_run_to (cd := cdX0) (rt := 5) (tab := tX0_isOn) (cal := kX0 d) zX0_isOn 15 (0, [some (.ref 0)], [], x)).trans rfl
noncomputable abbrev rX0_walkAt (d : Nat) : mj_S → mj_R := mj_run cdX0 2 tX0_walkAt (kX0 d)
def zX0_walkAt (p : Nat) : Bool := bif Nat.blt p 42 then (bif Nat.beq p 22 then true else false) else (bif Nat.beq p 42 then true else false)
set_option maxRecDepth 100000 in
set_option maxHeartbeats 4000000 in
theorem eX0_walkAt (d : Nat) (a1 : Int32) (a2 : Int32) (x : mj_X) : kX0 (d + 1) 129 [.ref 0, .int a1, .int a2] x = mj_rL (kX0 d 127 [.ref 0, .int a1] x) fun v2 x1 =>
  mj_rI (kX0 d 128 [.ref 0] x1) fun v4 x3 =>
  
  if v4 = 0 then rX0_walkAt d (22, [some (.ref 0), some (.int a1), some (.int a2), some (.long v2), none, none, none, none], [.long (0 : Int64)], x3)
  else mj_rL (kX0 d 127 [.ref 0, .int a2] x3) fun v6 x5 =>
   rX0_walkAt d (22, [some (.ref 0), some (.int a1), some (.int a2), some (.long v2), none, none, none, none], [.long v6], x5) := (mj_run_to (cd := cdX0) (rt := 2) (tab := tX0_walkAt) (cal := kX0 d) zX0_walkAt 16 (0, [some (.ref 0), some (.int a1), some (.int a2), none, none, none, none, none], [], x)).trans rfl
set_option maxRecDepth 100000 in
set_option maxHeartbeats 4000000 in
theorem bX0_walkAt_22 (d : Nat) (a1 : Int32) (a2 : Int32) (a3 : Int64) (s0 : Int64) (x : mj_X) : rX0_walkAt d (22, [some (.ref 0), some (.int a1), some (.int a2), some (.long a3), none, none, none, none], [.long s0], x) = mj_rI (kX0 d 128 [.ref 0] x) fun v2 x1 =>
  
  if v2 = 0 then rX0_walkAt d (42, [some (.ref 0), some (.int a1), some (.int a2), some (.long a3), none, some (.long s0), none, none], [.int (-1 : Int32)], x1)
  else mj_rI (kX0 d 130 [.ref 0, .long a3, .long s0] x1) fun v4 x3 =>
   rX0_walkAt d (42, [some (.ref 0), some (.int a1), some (.int a2), some (.long a3), none, some (.long s0), none, none], [.int v4], x3) := (mj_run_to (cd := cdX0) (rt := 2) (tab := tX0_walkAt) (cal := kX0 d) zX0_walkAt 16 (22, [some (.ref 0), some (.int a1), some (.int a2), some (.long a3), none, none, none, none], [.long s0], x)).trans rfl
set_option maxRecDepth 100000 in
set_option maxHeartbeats 4000000 in
theorem bX0_walkAt_42 (d : Nat) (a1 : Int32) (a2 : Int32) (a3 : Int64) (a5 : Int64) (s0 : Int32) (x : mj_X) : rX0_walkAt d (42, [some (.ref 0), some (.int a1), some (.int a2), some (.long a3), none, some (.long a5), none, none], [.int s0], x) = 
  if s0 = (-1 : Int32) then some (some (.long (0 : Int64)), x)
  else mj_g s0 20000 (some (some (.long (x.2 75 s0.toNatClampNeg)), x)) := (mj_run_to (cd := cdX0) (rt := 2) (tab := tX0_walkAt) (cal := kX0 d) zX0_walkAt 16 (42, [some (.ref 0), some (.int a1), some (.int a2), some (.long a3), none, some (.long a5), none, none], [.int s0], x)).trans rfl
noncomputable abbrev rX0_spot (d : Nat) : mj_S → mj_R := mj_run cdX0 1 tX0_spot (kX0 d)
def zX0_spot (p : Nat) : Bool := false
set_option maxRecDepth 100000 in
set_option maxHeartbeats 4000000 in
theorem eX0_spot (d : Nat) (a1 : Int64) (a3 : Int64) (x : mj_X) : kX0 (d + 1) 130 [.ref 0, .long a1, .long a3] x = 
  if (lg_cmp a1 (0 : Int64)) = 0 then some (some (.int (-1 : Int32)), (mj_wI (mj_wI x 0 78 (2 : Int32)) 0 79 (0 : Int32)))
  else mj_g a1.toInt32 120020 (mj_rI (kX0 d 2 [.long a3, .long (0 : Int64), .long ((x.1 73 a1.toInt32.toNatClampNeg) - (1 : Int32)).toInt64] x) fun v2 x1 =>
   
   if v2 = 0 then some (some (.int (-1 : Int32)), (mj_wI (mj_wI x1 0 78 (3 : Int32)) 0 79 (0 : Int32)))
   else mj_g a1.toInt32 120020 (some (some (.int ((x1.1 72 a1.toInt32.toNatClampNeg) + a3.toInt32)), x1))) := (mj_run_to (cd := cdX0) (rt := 1) (tab := tX0_spot) (cal := kX0 d) zX0_spot 43 (0, [some (.ref 0), some (.long a1), none, some (.long a3), none], [], x)).trans rfl
noncomputable abbrev rX0_walkPut (d : Nat) : mj_S → mj_R := mj_run cdX0 2 tX0_walkPut (kX0 d)
def zX0_walkPut (p : Nat) : Bool := bif Nat.blt p 61 then (bif Nat.blt p 43 then (bif Nat.beq p 21 then true else false) else (bif Nat.beq p 43 then true else false)) else (bif Nat.blt p 88 then (bif Nat.beq p 61 then true else false) else (bif Nat.blt p 108 then (bif Nat.beq p 88 then true else false) else (bif Nat.beq p 108 then true else false)))
set_option maxRecDepth 100000 in
set_option maxHeartbeats 4000000 in
theorem eX0_walkPut (d : Nat) (a1 : Int32) (a2 : Int32) (x : mj_X) : kX0 (d + 1) 131 [.ref 0, .int a1, .int a2] x = mj_rI (kX0 d 126 [.ref 0] x) fun v2 x1 =>
  
  if v2 = 0 then rX0_walkPut d (21, [some (.ref 0), some (.int a1), some (.int a2), none, none, none, none, none, none, none], [.long (0 : Int64)], x1)
  else mj_g a1 4000 (mj_rL (kX0 d 127 [.ref 0, .int (x1.1 2 a1.toNatClampNeg)] x1) fun v4 x3 =>
   rX0_walkPut d (21, [some (.ref 0), some (.int a1), some (.int a2), none, none, none, none, none, none, none], [.long v4], x3)) := (mj_run_to (cd := cdX0) (rt := 2) (tab := tX0_walkPut) (cal := kX0 d) zX0_walkPut 20 (0, [some (.ref 0), some (.int a1), some (.int a2), none, none, none, none, none, none, none], [], x)).trans rfl
set_option maxRecDepth 100000 in
set_option maxHeartbeats 4000000 in
theorem bX0_walkPut_21 (d : Nat) (a1 : Int32) (a2 : Int32) (s0 : Int64) (x : mj_X) : rX0_walkPut d (21, [some (.ref 0), some (.int a1), some (.int a2), none, none, none, none, none, none, none], [.long s0], x) = mj_rI (kX0 d 128 [.ref 0] x) fun v2 x1 =>
  
  if v2 = 0 then rX0_walkPut d (43, [some (.ref 0), some (.int a1), some (.int a2), some (.long s0), none, none, none, none, none, none], [.long (0 : Int64)], x1)
  else mj_g a1 4000 (mj_rL (kX0 d 127 [.ref 0, .int (x1.1 3 a1.toNatClampNeg)] x1) fun v4 x3 =>
   rX0_walkPut d (43, [some (.ref 0), some (.int a1), some (.int a2), some (.long s0), none, none, none, none, none, none], [.long v4], x3)) := (mj_run_to (cd := cdX0) (rt := 2) (tab := tX0_walkPut) (cal := kX0 d) zX0_walkPut 20 (21, [some (.ref 0), some (.int a1), some (.int a2), none, none, none, none, none, none, none], [.long s0], x)).trans rfl
set_option maxRecDepth 100000 in
set_option maxHeartbeats 4000000 in
theorem bX0_walkPut_43 (d : Nat) (a1 : Int32) (a2 : Int32) (a3 : Int64) (s0 : Int64) (x : mj_X) : rX0_walkPut d (43, [some (.ref 0), some (.int a1), some (.int a2), some (.long a3), none, none, none, none, none, none], [.long s0], x) = mj_rI (kX0 d 128 [.ref 0] x) fun v2 x1 =>
  
  if v2 = 0 then rX0_walkPut d (61, [some (.ref 0), some (.int a1), some (.int a2), some (.long a3), none, some (.long s0), none, none, none, none], [.long (0 : Int64)], x1)
  else mj_rL (kX0 d 127 [.ref 0, .int a2] x1) fun v4 x3 =>
   rX0_walkPut d (61, [some (.ref 0), some (.int a1), some (.int a2), some (.long a3), none, some (.long s0), none, none, none, none], [.long v4], x3) := (mj_run_to (cd := cdX0) (rt := 2) (tab := tX0_walkPut) (cal := kX0 d) zX0_walkPut 20 (43, [some (.ref 0), some (.int a1), some (.int a2), some (.long a3), none, none, none, none, none, none], [.long s0], x)).trans rfl
set_option maxRecDepth 100000 in
set_option maxHeartbeats 4000000 in
theorem bX0_walkPut_61 (d : Nat) (a1 : Int32) (a2 : Int32) (a3 : Int64) (a5 : Int64) (s0 : Int64) (x : mj_X) : rX0_walkPut d (61, [some (.ref 0), some (.int a1), some (.int a2), some (.long a3), none, some (.long a5), none, none, none, none], [.long s0], x) = mj_g a1 4000 (mj_g (x.1 2 a1.toNatClampNeg) 4000 (
  if (x.1 4 (x.1 2 a1.toNatClampNeg).toNatClampNeg) = (5 : Int32) then rX0_walkPut d (88, [some (.ref 0), some (.int a1), some (.int a2), some (.long a3), none, some (.long a5), none, some (.long s0), none, none], [.long s0.toInt32.toInt8.toInt32.toInt64], x)
  else rX0_walkPut d (88, [some (.ref 0), some (.int a1), some (.int a2), some (.long a3), none, some (.long a5), none, some (.long s0), none, none], [.long s0], x))) := (mj_run_to (cd := cdX0) (rt := 2) (tab := tX0_walkPut) (cal := kX0 d) zX0_walkPut 20 (61, [some (.ref 0), some (.int a1), some (.int a2), some (.long a3), none, some (.long a5), none, none, none, none], [.long s0], x)).trans rfl
set_option maxRecDepth 100000 in
set_option maxHeartbeats 4000000 in
theorem bX0_walkPut_88 (d : Nat) (a1 : Int32) (a2 : Int32) (a3 : Int64) (a5 : Int64) (a7 : Int64) (s0 : Int64) (x : mj_X) : rX0_walkPut d (88, [some (.ref 0), some (.int a1), some (.int a2), some (.long a3), none, some (.long a5), none, some (.long a7), none, none], [.long s0], x) = mj_rI (kX0 d 128 [.ref 0] x) fun v2 x1 =>
  
  if v2 = 0 then rX0_walkPut d (108, [some (.ref 0), some (.int a1), some (.int a2), some (.long a3), none, some (.long a5), none, some (.long s0), none, none], [.int (-1 : Int32)], x1)
  else mj_rI (kX0 d 130 [.ref 0, .long a3, .long a5] x1) fun v4 x3 =>
   rX0_walkPut d (108, [some (.ref 0), some (.int a1), some (.int a2), some (.long a3), none, some (.long a5), none, some (.long s0), none, none], [.int v4], x3) := (mj_run_to (cd := cdX0) (rt := 2) (tab := tX0_walkPut) (cal := kX0 d) zX0_walkPut 20 (88, [some (.ref 0), some (.int a1), some (.int a2), some (.long a3), none, some (.long a5), none, some (.long a7), none, none], [.long s0], x)).trans rfl
set_option maxRecDepth 100000 in
set_option maxHeartbeats 4000000 in
theorem bX0_walkPut_108 (d : Nat) (a1 : Int32) (a2 : Int32) (a3 : Int64) (a5 : Int64) (a7 : Int64) (s0 : Int32) (x : mj_X) : rX0_walkPut d (108, [some (.ref 0), some (.int a1), some (.int a2), some (.long a3), none, some (.long a5), none, some (.long a7), none, none], [.int s0], x) = 
  if s0 = (-1 : Int32) then some (some (.long a7), x)
  else mj_g s0 20000 (some (some (.long a7), (mj_wL x 75 s0.toNatClampNeg a7))) := (mj_run_to (cd := cdX0) (rt := 2) (tab := tX0_walkPut) (cal := kX0 d) zX0_walkPut 20 (108, [some (.ref 0), some (.int a1), some (.int a2), some (.long a3), none, some (.long a5), none, some (.long a7), none, none], [.int s0], x)).trans rfl
noncomputable abbrev rX0_walkChange (d : Nat) : mj_S → mj_R := mj_run cdX0 2 tX0_walkChange (kX0 d)
def zX0_walkChange (p : Nat) : Bool := bif Nat.blt p 205 then (bif Nat.blt p 120 then (bif Nat.blt p 96 then (bif Nat.beq p 42 then true else false) else (bif Nat.beq p 96 then true else false)) else (bif Nat.blt p 184 then (bif Nat.beq p 120 then true else false) else (bif Nat.beq p 184 then true else false))) else (bif Nat.blt p 248 then (bif Nat.blt p 224 then (bif Nat.beq p 205 then true else false) else (bif Nat.beq p 224 then true else false)) else (bif Nat.blt p 272 then (bif Nat.beq p 248 then true else false) else (bif Nat.blt p 299 then (bif Nat.beq p 272 then true else false) else (bif Nat.beq p 299 then true else false))))
set_option maxRecDepth 100000 in
set_option maxHeartbeats 4000000 in
theorem eX0_walkChange (d : Nat) (a1 : Int32) (a2 : Int32) (a3 : Int32) (a4 : Int32) (x : mj_X) : kX0 (d + 1) 135 [.ref 0, .int a1, .int a2, .int a3, .int a4] x = mj_rI (kX0 d 126 [.ref 0] x) fun v2 x1 =>
  
  if v2 = 0 then some (some (.long (0 : Int64)), x1)
  else mj_g a1 4000 (
   if (x1.1 4 a1.toNatClampNeg) = (3 : Int32) then rX0_walkChange d (42, [some (.ref 0), some (.int a1), some (.int a2), some (.int a3), some (.int a4), some (.int (x1.1 4 a1.toNatClampNeg)), none, none, none, none, none, none, none, none, none, none, none], [.long (1065353216 : Int64)], x1)
   else 
    if (x1.1 4 a1.toNatClampNeg) = (4 : Int32) then rX0_walkChange d (42, [some (.ref 0), some (.int a1), some (.int a2), some (.int a3), some (.int a4), some (.int (x1.1 4 a1.toNatClampNeg)), none, none, none, none, none, none, none, none, none, none, none], [.long (4607182418800017408 : Int64)], x1)
    else rX0_walkChange d (42, [some (.ref 0), some (.int a1), some (.int a2), some (.int a3), some (.int a4), some (.int (x1.1 4 a1.toNatClampNeg)), none, none, none, none, none, none, none, none, none, none, none], [.long (1 : Int64)], x1)) := (mj_run_to (cd := cdX0) (rt := 2) (tab := tX0_walkChange) (cal := kX0 d) zX0_walkChange 54 (0, [some (.ref 0), some (.int a1), some (.int a2), some (.int a3), some (.int a4), none, none, none, none, none, none, none, none, none, none, none, none], [], x)).trans rfl
set_option maxRecDepth 100000 in
set_option maxHeartbeats 4000000 in
theorem bX0_walkChange_42 (d : Nat) (a1 : Int32) (a2 : Int32) (a3 : Int32) (a4 : Int32) (a5 : Int32) (s0 : Int64) (x : mj_X) : rX0_walkChange d (42, [some (.ref 0), some (.int a1), some (.int a2), some (.int a3), some (.int a4), some (.int a5), none, none, none, none, none, none, none, none, none, none, none], [.long s0], x) = mj_g a1 4000 (
  if (x.1 1 a1.toNatClampNeg) = (6 : Int32) then mj_g a1 4000 (mj_g (((4000 : Int32) * (x.1 0 83)) + (x.1 2 a1.toNatClampNeg)) 44000 (
   if a3 = (-1 : Int32) then rX0_walkChange d (96, [some (.ref 0), some (.int a1), some (.int a2), some (.int a3), some (.int a4), some (.int a5), some (.long s0), none, some (.int (((4000 : Int32) * (x.1 0 83)) + (x.1 2 a1.toNatClampNeg))), some (.long (x.2 83 (((4000 : Int32) * (x.1 0 83)) + (x.1 2 a1.toNatClampNeg)).toNatClampNeg)), none, none, none, none, none, none, none], [.long s0], x)
   else mj_rL (kX0 d 127 [.ref 0, .int a3] x) fun v2 x1 =>
    rX0_walkChange d (96, [some (.ref 0), some (.int a1), some (.int a2), some (.int a3), some (.int a4), some (.int a5), some (.long s0), none, some (.int (((4000 : Int32) * (x.1 0 83)) + (x.1 2 a1.toNatClampNeg))), some (.long (x.2 83 (((4000 : Int32) * (x.1 0 83)) + (x.1 2 a1.toNatClampNeg)).toNatClampNeg)), none, none, none, none, none, none, none], [.long v2], x1)))
  else mj_g a1 4000 (mj_rL (kX0 d 127 [.ref 0, .int (x.1 2 a1.toNatClampNeg)] x) fun v4 x3 =>
   mj_rI (kX0 d 128 [.ref 0] x3) fun v6 x5 =>
   
   if v6 = 0 then rX0_walkChange d (184, [some (.ref 0), some (.int a1), some (.int a2), some (.int a3), some (.int a4), some (.int a5), some (.long s0), none, some (.long v4), none, none, none, none, none, none, none, none], [.long (0 : Int64)], x5)
   else mj_g a1 4000 (mj_rL (kX0 d 127 [.ref 0, .int (x5.1 3 a1.toNatClampNeg)] x5) fun v8 x7 =>
    rX0_walkChange d (184, [some (.ref 0), some (.int a1), some (.int a2), some (.int a3), some (.int a4), some (.int a5), some (.long s0), none, some (.long v4), none, none, none, none, none, none, none, none], [.long v8], x7)))) := (mj_run_to (cd := cdX0) (rt := 2) (tab := tX0_walkChange) (cal := kX0 d) zX0_walkChange 54 (42, [some (.ref 0), some (.int a1), some (.int a2), some (.int a3), some (.int a4), some (.int a5), none, none, none, none, none, none, none, none, none, none, none], [.long s0], x)).trans rfl
set_option maxRecDepth 100000 in
set_option maxHeartbeats 4000000 in
theorem bX0_walkChange_96 (d : Nat) (a1 : Int32) (a2 : Int32) (a3 : Int32) (a4 : Int32) (a5 : Int32) (a6 : Int64) (a8 : Int32) (a9 : Int64) (s0 : Int64) (x : mj_X) : rX0_walkChange d (96, [some (.ref 0), some (.int a1), some (.int a2), some (.int a3), some (.int a4), some (.int a5), some (.long a6), none, some (.int a8), some (.long a9), none, none, none, none, none, none, none], [.long s0], x) = mj_rI (kX0 d 128 [.ref 0] x) fun v2 x1 =>
  
  if v2 = 0 then rX0_walkChange d (120, [some (.ref 0), some (.int a1), some (.int a2), some (.int a3), some (.int a4), some (.int a5), some (.long s0), none, some (.int a8), some (.long a9), none, none, none, none, none, none, none], [.long (0 : Int64)], x1)
  else mj_rL (kX0 d 136 [.ref 0, .int a2, .int a5, .long a9, .long s0] x1) fun v4 x3 =>
   rX0_walkChange d (120, [some (.ref 0), some (.int a1), some (.int a2), some (.int a3), some (.int a4), some (.int a5), some (.long s0), none, some (.int a8), some (.long a9), none, none, none, none, none, none, none], [.long v4], x3) := (mj_run_to (cd := cdX0) (rt := 2) (tab := tX0_walkChange) (cal := kX0 d) zX0_walkChange 54 (96, [some (.ref 0), some (.int a1), some (.int a2), some (.int a3), some (.int a4), some (.int a5), some (.long a6), none, some (.int a8), some (.long a9), none, none, none, none, none, none, none], [.long s0], x)).trans rfl
set_option maxRecDepth 100000 in
set_option maxHeartbeats 4000000 in
theorem bX0_walkChange_120 (d : Nat) (a1 : Int32) (a2 : Int32) (a3 : Int32) (a4 : Int32) (a5 : Int32) (a6 : Int64) (a8 : Int32) (a9 : Int64) (s0 : Int64) (x : mj_X) : rX0_walkChange d (120, [some (.ref 0), some (.int a1), some (.int a2), some (.int a3), some (.int a4), some (.int a5), some (.long a6), none, some (.int a8), some (.long a9), none, none, none, none, none, none, none], [.long s0], x) = mj_rI (kX0 d 128 [.ref 0] x) fun v2 x1 =>
  
  if v2 = 0 then 
   if a4 = 0 then some (some (.long s0), x1)
   else some (some (.long a9), x1)
  else mj_g a8 44000 (
   if a4 = 0 then some (some (.long s0), (mj_wL x1 83 a8.toNatClampNeg s0))
   else some (some (.long a9), (mj_wL x1 83 a8.toNatClampNeg s0))) := (mj_run_to (cd := cdX0) (rt := 2) (tab := tX0_walkChange) (cal := kX0 d) zX0_walkChange 54 (120, [some (.ref 0), some (.int a1), some (.int a2), some (.int a3), some (.int a4), some (.int a5), some (.long a6), none, some (.int a8), some (.long a9), none, none, none, none, none, none, none], [.long s0], x)).trans rfl
set_option maxRecDepth 100000 in
set_option maxHeartbeats 4000000 in
theorem bX0_walkChange_184 (d : Nat) (a1 : Int32) (a2 : Int32) (a3 : Int32) (a4 : Int32) (a5 : Int32) (a6 : Int64) (a8 : Int64) (s0 : Int64) (x : mj_X) : rX0_walkChange d (184, [some (.ref 0), some (.int a1), some (.int a2), some (.int a3), some (.int a4), some (.int a5), some (.long a6), none, some (.long a8), none, none, none, none, none, none, none, none], [.long s0], x) = mj_rI (kX0 d 128 [.ref 0] x) fun v2 x1 =>
  
  if v2 = 0 then rX0_walkChange d (205, [some (.ref 0), some (.int a1), some (.int a2), some (.int a3), some (.int a4), some (.int a5), some (.long a6), none, some (.long a8), none, some (.long s0), none, none, none, none, none, none], [.int (-1 : Int32)], x1)
  else mj_rI (kX0 d 130 [.ref 0, .long a8, .long s0] x1) fun v4 x3 =>
   rX0_walkChange d (205, [some (.ref 0), some (.int a1), some (.int a2), some (.int a3), some (.int a4), some (.int a5), some (.long a6), none, some (.long a8), none, some (.long s0), none, none, none, none, none, none], [.int v4], x3) := (mj_run_to (cd := cdX0) (rt := 2) (tab := tX0_walkChange) (cal := kX0 d) zX0_walkChange 54 (184, [some (.ref 0), some (.int a1), some (.int a2), some (.int a3), some (.int a4), some (.int a5), some (.long a6), none, some (.long a8), none, none, none, none, none, none, none, none], [.long s0], x)).trans rfl
set_option maxRecDepth 100000 in
set_option maxHeartbeats 4000000 in
theorem bX0_walkChange_205 (d : Nat) (a1 : Int32) (a2 : Int32) (a3 : Int32) (a4 : Int32) (a5 : Int32) (a6 : Int64) (a8 : Int64) (a10 : Int64) (s0 : Int32) (x : mj_X) : rX0_walkChange d (205, [some (.ref 0), some (.int a1), some (.int a2), some (.int a3), some (.int a4), some (.int a5), some (.long a6), none, some (.long a8), none, some (.long a10), none, none, none, none, none, none], [.int s0], x) = 
  if s0 = (-1 : Int32) then rX0_walkChange d (224, [some (.ref 0), some (.int a1), some (.int a2), some (.int a3), some (.int a4), some (.int a5), some (.long a6), none, some (.long a8), none, some (.long a10), none, some (.int s0), none, none, none, none], [.long (0 : Int64)], x)
  else mj_g s0 20000 (rX0_walkChange d (224, [some (.ref 0), some (.int a1), some (.int a2), some (.int a3), some (.int a4), some (.int a5), some (.long a6), none, some (.long a8), none, some (.long a10), none, some (.int s0), none, none, none, none], [.long (x.2 75 s0.toNatClampNeg)], x)) := (mj_run_to (cd := cdX0) (rt := 2) (tab := tX0_walkChange) (cal := kX0 d) zX0_walkChange 54 (205, [some (.ref 0), some (.int a1), some (.int a2), some (.int a3), some (.int a4), some (.int a5), some (.long a6), none, some (.long a8), none, some (.long a10), none, none, none, none, none, none], [.int s0], x)).trans rfl
set_option maxRecDepth 100000 in
set_option maxHeartbeats 4000000 in
theorem bX0_walkChange_224 (d : Nat) (a1 : Int32) (a2 : Int32) (a3 : Int32) (a4 : Int32) (a5 : Int32) (a6 : Int64) (a8 : Int64) (a10 : Int64) (a12 : Int32) (s0 : Int64) (x : mj_X) : rX0_walkChange d (224, [some (.ref 0), some (.int a1), some (.int a2), some (.int a3), some (.int a4), some (.int a5), some (.long a6), none, some (.long a8), none, some (.long a10), none, some (.int a12), none, none, none, none], [.long s0], x) = 
  if a3 = (-1 : Int32) then rX0_walkChange d (248, [some (.ref 0), some (.int a1), some (.int a2), some (.int a3), some (.int a4), some (.int a5), some (.long a6), none, some (.long a8), none, some (.long a10), none, some (.int a12), some (.long s0), none, none, none], [.long a6], x)
  else mj_rI (kX0 d 128 [.ref 0] x) fun v2 x1 =>
   
   if v2 = 0 then rX0_walkChange d (248, [some (.ref 0), some (.int a1), some (.int a2), some (.int a3), some (.int a4), some (.int a5), some (.long a6), none, some (.long a8), none, some (.long a10), none, some (.int a12), some (.long s0), none, none, none], [.long a6], x1)
   else mj_rL (kX0 d 127 [.ref 0, .int a3] x1) fun v4 x3 =>
    rX0_walkChange d (248, [some (.ref 0), some (.int a1), some (.int a2), some (.int a3), some (.int a4), some (.int a5), some (.long a6), none, some (.long a8), none, some (.long a10), none, some (.int a12), some (.long s0), none, none, none], [.long v4], x3) := (mj_run_to (cd := cdX0) (rt := 2) (tab := tX0_walkChange) (cal := kX0 d) zX0_walkChange 54 (224, [some (.ref 0), some (.int a1), some (.int a2), some (.int a3), some (.int a4), some (.int a5), some (.long a6), none, some (.long a8), none, some (.long a10), none, some (.int a12), none, none, none, none], [.long s0], x)).trans rfl
set_option maxRecDepth 100000 in
set_option maxHeartbeats 4000000 in
theorem bX0_walkChange_248 (d : Nat) (a1 : Int32) (a2 : Int32) (a3 : Int32) (a4 : Int32) (a5 : Int32) (a6 : Int64) (a8 : Int64) (a10 : Int64) (a12 : Int32) (a13 : Int64) (s0 : Int64) (x : mj_X) : rX0_walkChange d (248, [some (.ref 0), some (.int a1), some (.int a2), some (.int a3), some (.int a4), some (.int a5), some (.long a6), none, some (.long a8), none, some (.long a10), none, some (.int a12), some (.long a13), none, none, none], [.long s0], x) = mj_rI (kX0 d 128 [.ref 0] x) fun v2 x1 =>
  
  if v2 = 0 then rX0_walkChange d (272, [some (.ref 0), some (.int a1), some (.int a2), some (.int a3), some (.int a4), some (.int a5), some (.long s0), none, some (.long a8), none, some (.long a10), none, some (.int a12), some (.long a13), none, none, none], [.long (0 : Int64)], x1)
  else mj_rL (kX0 d 136 [.ref 0, .int a2, .int a5, .long a13, .long s0] x1) fun v4 x3 =>
   rX0_walkChange d (272, [some (.ref 0), some (.int a1), some (.int a2), some (.int a3), some (.int a4), some (.int a5), some (.long s0), none, some (.long a8), none, some (.long a10), none, some (.int a12), some (.long a13), none, none, none], [.long v4], x3) := (mj_run_to (cd := cdX0) (rt := 2) (tab := tX0_walkChange) (cal := kX0 d) zX0_walkChange 54 (248, [some (.ref 0), some (.int a1), some (.int a2), some (.int a3), some (.int a4), some (.int a5), some (.long a6), none, some (.long a8), none, some (.long a10), none, some (.int a12), some (.long a13), none, none, none], [.long s0], x)).trans rfl
set_option maxRecDepth 100000 in
set_option maxHeartbeats 4000000 in
theorem bX0_walkChange_272 (d : Nat) (a1 : Int32) (a2 : Int32) (a3 : Int32) (a4 : Int32) (a5 : Int32) (a6 : Int64) (a8 : Int64) (a10 : Int64) (a12 : Int32) (a13 : Int64) (s0 : Int64) (x : mj_X) : rX0_walkChange d (272, [some (.ref 0), some (.int a1), some (.int a2), some (.int a3), some (.int a4), some (.int a5), some (.long a6), none, some (.long a8), none, some (.long a10), none, some (.int a12), some (.long a13), none, none, none], [.long s0], x) = mj_g a1 4000 (mj_g (x.1 2 a1.toNatClampNeg) 4000 (
  if (x.1 4 (x.1 2 a1.toNatClampNeg).toNatClampNeg) = (5 : Int32) then rX0_walkChange d (299, [some (.ref 0), some (.int a1), some (.int a2), some (.int a3), some (.int a4), some (.int a5), some (.long a6), none, some (.long a8), none, some (.long a10), none, some (.int a12), some (.long a13), none, some (.long s0), none], [.long s0.toInt32.toInt8.toInt32.toInt64], x)
  else rX0_walkChange d (299, [some (.ref 0), some (.int a1), some (.int a2), some (.int a3), some (.int a4), some (.int a5), some (.long a6), none, some (.long a8), none, some (.long a10), none, some (.int a12), some (.long a13), none, some (.long s0), none], [.long s0], x))) := (mj_run_to (cd := cdX0) (rt := 2) (tab := tX0_walkChange) (cal := kX0 d) zX0_walkChange 54 (272, [some (.ref 0), some (.int a1), some (.int a2), some (.int a3), some (.int a4), some (.int a5), some (.long a6), none, some (.long a8), none, some (.long a10), none, some (.int a12), some (.long a13), none, none, none], [.long s0], x)).trans rfl
set_option maxRecDepth 100000 in
set_option maxHeartbeats 4000000 in
theorem bX0_walkChange_299 (d : Nat) (a1 : Int32) (a2 : Int32) (a3 : Int32) (a4 : Int32) (a5 : Int32) (a6 : Int64) (a8 : Int64) (a10 : Int64) (a12 : Int32) (a13 : Int64) (a15 : Int64) (s0 : Int64) (x : mj_X) : rX0_walkChange d (299, [some (.ref 0), some (.int a1), some (.int a2), some (.int a3), some (.int a4), some (.int a5), some (.long a6), none, some (.long a8), none, some (.long a10), none, some (.int a12), some (.long a13), none, some (.long a15), none], [.long s0], x) = mj_rI (kX0 d 128 [.ref 0] x) fun v2 x1 =>
  
  if v2 = 0 then 
   if a4 = 0 then some (some (.long s0), x1)
   else some (some (.long a13), x1)
  else mj_g a12 20000 (
   if a4 = 0 then some (some (.long s0), (mj_wL x1 75 a12.toNatClampNeg s0))
   else some (some (.long a13), (mj_wL x1 75 a12.toNatClampNeg s0))) := (mj_run_to (cd := cdX0) (rt := 2) (tab := tX0_walkChange) (cal := kX0 d) zX0_walkChange 54 (299, [some (.ref 0), some (.int a1), some (.int a2), some (.int a3), some (.int a4), some (.int a5), some (.long a6), none, some (.long a8), none, some (.long a10), none, some (.int a12), some (.long a13), none, some (.long a15), none], [.long s0], x)).trans rfl
noncomputable abbrev rX0_throwIt (d : Nat) : mj_S → mj_R := mj_run cdX0 0 tX0_throwIt (kX0 d)
def zX0_throwIt (p : Nat) : Bool := false
set_option maxRecDepth 100000 in
set_option maxHeartbeats 4000000 in
theorem eX0_throwIt (d : Nat) (a1 : Int32) (x : mj_X) : kX0 (d + 1) 139 [.ref 0, .int a1] x = some (none, (mj_wI (mj_wI x 0 78 a1) 0 79 (0 : Int32))) := (mj_run_to (cd := cdX0) (rt := 0) (tab := tX0_throwIt) (cal := kX0 d) zX0_throwIt 9 (0, [some (.ref 0), some (.int a1)], [], x)).trans rfl
noncomputable abbrev rX0_walkCall (d : Nat) : mj_S → mj_R := mj_run cdX0 2 tX0_walkCall (kX0 d)
def zX0_walkCall (p : Nat) : Bool := bif Nat.blt p 70 then (bif Nat.beq p 11 then true else false) else (bif Nat.blt p 126 then (bif Nat.beq p 70 then true else false) else (bif Nat.beq p 126 then true else false))
set_option maxRecDepth 100000 in
set_option maxHeartbeats 4000000 in
theorem eX0_walkCall (d : Nat) (a1 : Int32) (a2 : Int32) (x : mj_X) : kX0 (d + 1) 140 [.ref 0, .int a1, .int a2] x = rX0_walkCall d (11, [some (.ref 0), some (.int a1), some (.int a2), some (.int (0 : Int32)), some (.int (x.1 0 83)), some (.int a2), none, none], [], x) := (mj_run_to (cd := cdX0) (rt := 2) (tab := tX0_walkCall) (cal := kX0 d) zX0_walkCall 54 (0, [some (.ref 0), some (.int a1), some (.int a2), none, none, none, none, none], [], x)).trans rfl
set_option maxRecDepth 100000 in
set_option maxHeartbeats 4000000 in
theorem bX0_walkCall_11 (d : Nat) (a1 : Int32) (a2 : Int32) (a3 : Int32) (a4 : Int32) (a5 : Int32) (o6 : Option Value) (x : mj_X) : rX0_walkCall d (11, [some (.ref 0), some (.int a1), some (.int a2), some (.int a3), some (.int a4), some (.int a5), o6, none], [], x) = 
  if a5 = (-1 : Int32) then rX0_walkCall d (70, [some (.ref 0), some (.int a1), some (.int a2), some (.int a3), some (.int a4), some (.int a5), o6, none], [], x)
  else mj_rI (kX0 d 128 [.ref 0] x) fun v2 x1 =>
   
   if v2 = 0 then rX0_walkCall d (70, [some (.ref 0), some (.int a1), some (.int a2), some (.int a3), some (.int a4), some (.int a5), o6, none], [], x1)
   else mj_g a5 4000 (mj_rL (kX0 d 127 [.ref 0, .int (x1.1 2 a5.toNatClampNeg)] x1) fun v4 x3 =>
    mj_g (x3.1 0 87) 2000 (mj_g a5 4000 (rX0_walkCall d (11, [some (.ref 0), some (.int a1), some (.int a2), some (.int (a3 + (1 : Int32))), some (.int a4), some (.int (x3.1 3 a5.toNatClampNeg)), some (.long v4), none], [], (mj_wL (mj_wI x3 0 87 ((x3.1 0 87) + (1 : Int32))) 87 (x3.1 0 87).toNatClampNeg v4))))) := (mj_run_to (cd := cdX0) (rt := 2) (tab := tX0_walkCall) (cal := kX0 d) zX0_walkCall 54 (11, [some (.ref 0), some (.int a1), some (.int a2), some (.int a3), some (.int a4), some (.int a5), o6, none], [], x)).trans rfl
set_option maxRecDepth 100000 in
set_option maxHeartbeats 4000000 in
theorem bX0_walkCall_70 (d : Nat) (a1 : Int32) (a2 : Int32) (a3 : Int32) (a4 : Int32) (a5 : Int32) (o6 : Option Value) (x : mj_X) : rX0_walkCall d (70, [some (.ref 0), some (.int a1), some (.int a2), some (.int a3), some (.int a4), some (.int a5), o6, none], [], x) = mj_rI (kX0 d 128 [.ref 0] (mj_wI x 0 87 ((x.1 0 87) - a3))) fun v2 x1 =>
  
  if v2 = 0 then some (some (.long (0 : Int64)), x1)
  else 
   if (x1.1 0 83) = (10 : Int32) then mj_rV (kX0 d 139 [.ref 0, .int (5 : Int32)] x1) fun x3 =>
    some (some (.long (0 : Int64)), x3)
   else mj_g a1 40 (rX0_walkCall d (126, [some (.ref 0), some (.int a1), some (.int a2), some (.int a3), some (.int a4), some (.int a5), some (.int (x1.1 10 a1.toNatClampNeg)), some (.int (0 : Int32))], [], (mj_wI x1 0 83 ((x1.1 0 83) + (1 : Int32))))) := (mj_run_to (cd := cdX0) (rt := 2) (tab := tX0_walkCall) (cal := kX0 d) zX0_walkCall 54 (70, [some (.ref 0), some (.int a1), some (.int a2), some (.int a3), some (.int a4), some (.int a5), o6, none], [], x)).trans rfl
set_option maxRecDepth 100000 in
set_option maxHeartbeats 4000000 in
theorem bX0_walkCall_126 (d : Nat) (a1 : Int32) (a2 : Int32) (a3 : Int32) (a4 : Int32) (a5 : Int32) (a6 : Int32) (a7 : Int32) (x : mj_X) : rX0_walkCall d (126, [some (.ref 0), some (.int a1), some (.int a2), some (.int a3), some (.int a4), some (.int a5), some (.int a6), some (.int a7)], [], x) = 
  if a3 ≤ a7 then mj_g a1 40 (mj_rI (kX0 d 125 [.ref 0, .int (x.1 11 a1.toNatClampNeg)] (mj_wL x 0 85 (0 : Int64))) fun v2 x1 =>
   
   if v2 = (3 : Int32) then some (some (.long (x1.2 0 85)), (mj_wI x1 0 83 a4))
   else some (some (.long (0 : Int64)), (mj_wI x1 0 83 a4)))
  else mj_g a6 4000 (mj_g ((x.1 0 87) + a7) 2000 (mj_g (((4000 : Int32) * (x.1 0 83)) + (x.1 2 a6.toNatClampNeg)) 44000 (mj_g a6 4000 (rX0_walkCall d (126, [some (.ref 0), some (.int a1), some (.int a2), some (.int a3), some (.int a4), some (.int a5), some (.int (x.1 3 a6.toNatClampNeg)), some (.int (a7 + (1 : Int32)))], [], (mj_wL x 83 (((4000 : Int32) * (x.1 0 83)) + (x.1 2 a6.toNatClampNeg)).toNatClampNeg (x.2 87 ((x.1 0 87) + a7).toNatClampNeg))))))) := (mj_run_to (cd := cdX0) (rt := 2) (tab := tX0_walkCall) (cal := kX0 d) zX0_walkCall 54 (126, [some (.ref 0), some (.int a1), some (.int a2), some (.int a3), some (.int a4), some (.int a5), some (.int a6), some (.int a7)], [], x)).trans rfl
noncomputable abbrev rX0_run_2 (d : Nat) : mj_S → mj_R := mj_run cdX0 1 tX0_run_2 (kX0 d)
def zX0_run_2 (p : Nat) : Bool := bif Nat.blt p 332 then (bif Nat.blt p 226 then (bif Nat.blt p 191 then (bif Nat.blt p 157 then (bif Nat.beq p 148 then true else false) else (bif Nat.beq p 157 then true else false)) else (bif Nat.blt p 214 then (bif Nat.beq p 191 then true else false) else (bif Nat.blt p 220 then (bif Nat.beq p 214 then true else false) else (bif Nat.beq p 220 then true else false)))) else (bif Nat.blt p 268 then (bif Nat.blt p 241 then (bif Nat.beq p 226 then true else false) else (bif Nat.beq p 241 then true else false)) else (bif Nat.blt p 283 then (bif Nat.beq p 268 then true else false) else (bif Nat.blt p 324 then (bif Nat.beq p 283 then true else false) else (bif Nat.beq p 324 then true else false))))) else (bif Nat.blt p 410 then (bif Nat.blt p 346 then (bif Nat.blt p 339 then (bif Nat.beq p 332 then true else false) else (bif Nat.beq p 339 then true else false)) else (bif Nat.blt p 360 then (bif Nat.beq p 346 then true else false) else (bif Nat.blt p 381 then (bif Nat.beq p 360 then true else false) else (bif Nat.beq p 381 then true else false)))) else (bif Nat.blt p 424 then (bif Nat.blt p 417 then (bif Nat.beq p 410 then true else false) else (bif Nat.beq p 417 then true else false)) else (bif Nat.blt p 431 then (bif Nat.beq p 424 then true else false) else (bif Nat.blt p 457 then (bif Nat.beq p 431 then true else false) else (bif Nat.beq p 457 then true else false)))))
set_option maxRecDepth 100000 in
set_option maxHeartbeats 4000000 in
theorem eX0_run_2 (d : Nat) (a1 : Int32) (x : mj_X) : kX0 (d + 1) 125 [.ref 0, .int a1] x = mj_rI (kX0 d 126 [.ref 0] x) fun v2 x1 =>
  
  if v2 = 0 then some (some (.int (4 : Int32)), x1)
  else mj_g a1 4000 (mj_g a1 4000 (mj_g a1 4000 (mj_sw (x1.1 1 a1.toNatClampNeg) 60 (402) [119, 128, 162, 185, 197, 239, 402, 295, 295, 295, 402, 303, 310, 317, 352, 388, 402, 402, 402, 395, 402, 381, 402, 402, 402, 191] fun off => mj_j 29 off fun t => rX0_run_2 d (t, [some (.ref 0), some (.int a1), some (.int (x1.1 2 a1.toNatClampNeg)), some (.int (x1.1 3 a1.toNatClampNeg)), none, none, none, none, none, none, none, none, none, none, none], [], x1)))) := (mj_run_to (cd := cdX0) (rt := 1) (tab := tX0_run_2) (cal := kX0 d) zX0_run_2 38 (0, [some (.ref 0), some (.int a1), none, none, none, none, none, none, none, none, none, none, none, none, none], [], x)).trans rfl
set_option maxRecDepth 100000 in
set_option maxHeartbeats 4000000 in
theorem bX0_run_2_148 (d : Nat) (a1 : Int32) (a2 : Int32) (a3 : Int32) (x : mj_X) : rX0_run_2 d (148, [some (.ref 0), some (.int a1), some (.int a2), some (.int a3), none, none, none, none, none, none, none, none, none, none, none], [], x) = mj_rL (kX0 d 127 [.ref 0, .int a2] x) fun v2 x1 =>
  mj_rI (kX0 d 144 [.ref 0] x1) fun v4 x3 =>
  some (some (.int v4), x3) := (mj_run_to (cd := cdX0) (rt := 1) (tab := tX0_run_2) (cal := kX0 d) zX0_run_2 38 (148, [some (.ref 0), some (.int a1), some (.int a2), some (.int a3), none, none, none, none, none, none, none, none, none, none, none], [], x)).trans rfl
set_option maxRecDepth 100000 in
set_option maxHeartbeats 4000000 in
theorem bX0_run_2_157 (d : Nat) (a1 : Int32) (a2 : Int32) (a3 : Int32) (x : mj_X) : rX0_run_2 d (157, [some (.ref 0), some (.int a1), some (.int a2), some (.int a3), none, none, none, none, none, none, none, none, none, none, none], [], x) = mj_rL (kX0 d 127 [.ref 0, .int a3] x) fun v2 x1 =>
  mj_rI (kX0 d 128 [.ref 0] x1) fun v4 x3 =>
  
  if v4 = 0 then mj_rI (kX0 d 144 [.ref 0] x3) fun v6 x5 =>
   some (some (.int v6), x5)
  else mj_g (((4000 : Int32) * (x3.1 0 83)) + a2) 44000 (mj_rI (kX0 d 144 [.ref 0] (mj_wL x3 83 (((4000 : Int32) * (x3.1 0 83)) + a2).toNatClampNeg v2)) fun v8 x7 =>
   some (some (.int v8), x7)) := (mj_run_to (cd := cdX0) (rt := 1) (tab := tX0_run_2) (cal := kX0 d) zX0_run_2 38 (157, [some (.ref 0), some (.int a1), some (.int a2), some (.int a3), none, none, none, none, none, none, none, none, none, none, none], [], x)).trans rfl
set_option maxRecDepth 100000 in
set_option maxHeartbeats 4000000 in
theorem bX0_run_2_191 (d : Nat) (a1 : Int32) (a2 : Int32) (a3 : Int32) (x : mj_X) : rX0_run_2 d (191, [some (.ref 0), some (.int a1), some (.int a2), some (.int a3), none, none, none, none, none, none, none, none, none, none, none], [], x) = mj_rI (kX0 d 125 [.ref 0, .int a2] x) fun v2 x1 =>
  
  if v2 = 0 then mj_rI (kX0 d 125 [.ref 0, .int a3] x1) fun v4 x3 =>
   some (some (.int v4), x3)
  else some (some (.int v2), x1) := (mj_run_to (cd := cdX0) (rt := 1) (tab := tX0_run_2) (cal := kX0 d) zX0_run_2 38 (191, [some (.ref 0), some (.int a1), some (.int a2), some (.int a3), none, none, none, none, none, none, none, none, none, none, none], [], x)).trans rfl
set_option maxRecDepth 100000 in
set_option maxHeartbeats 4000000 in
theorem bX0_run_2_214 (d : Nat) (a1 : Int32) (a2 : Int32) (a3 : Int32) (x : mj_X) : rX0_run_2 d (214, [some (.ref 0), some (.int a1), some (.int a2), some (.int a3), none, none, none, none, none, none, none, none, none, none, none], [], x) = mj_rI (kX0 d 125 [.ref 0, .int a2] x) fun v2 x1 =>
  some (some (.int v2), x1) := (mj_run_to (cd := cdX0) (rt := 1) (tab := tX0_run_2) (cal := kX0 d) zX0_run_2 38 (214, [some (.ref 0), some (.int a1), some (.int a2), some (.int a3), none, none, none, none, none, none, none, none, none, none, none], [], x)).trans rfl
set_option maxRecDepth 100000 in
set_option maxHeartbeats 4000000 in
theorem bX0_run_2_220 (d : Nat) (a1 : Int32) (a2 : Int32) (a3 : Int32) (x : mj_X) : rX0_run_2 d (220, [some (.ref 0), some (.int a1), some (.int a2), some (.int a3), none, none, none, none, none, none, none, none, none, none, none], [], x) = mj_rI (kX0 d 125 [.ref 0, .int a3] x) fun v2 x1 =>
  some (some (.int v2), x1) := (mj_run_to (cd := cdX0) (rt := 1) (tab := tX0_run_2) (cal := kX0 d) zX0_run_2 38 (220, [some (.ref 0), some (.int a1), some (.int a2), some (.int a3), none, none, none, none, none, none, none, none, none, none, none], [], x)).trans rfl
set_option maxRecDepth 100000 in
set_option maxHeartbeats 4000000 in
theorem bX0_run_2_226 (d : Nat) (a1 : Int32) (a2 : Int32) (a3 : Int32) (x : mj_X) : rX0_run_2 d (226, [some (.ref 0), some (.int a1), some (.int a2), some (.int a3), none, none, none, none, none, none, none, none, none, none, none], [], x) = mj_rL (kX0 d 127 [.ref 0, .int a2] x) fun v2 x1 =>
  
  if (lg_cmp v2 (0 : Int64)) = 0 then rX0_run_2 d (241, [some (.ref 0), some (.int a1), some (.int a2), some (.int a3), none, none, none, none, none, none, none, none, none, none, none], [.int (0 : Int32)], x1)
  else rX0_run_2 d (241, [some (.ref 0), some (.int a1), some (.int a2), some (.int a3), none, none, none, none, none, none, none, none, none, none, none], [.int (1 : Int32)], x1) := (mj_run_to (cd := cdX0) (rt := 1) (tab := tX0_run_2) (cal := kX0 d) zX0_run_2 38 (226, [some (.ref 0), some (.int a1), some (.int a2), some (.int a3), none, none, none, none, none, none, none, none, none, none, none], [], x)).trans rfl
set_option maxRecDepth 100000 in
set_option maxHeartbeats 4000000 in
theorem bX0_run_2_241 (d : Nat) (a1 : Int32) (a2 : Int32) (a3 : Int32) (s0 : Int32) (x : mj_X) : rX0_run_2 d (241, [some (.ref 0), some (.int a1), some (.int a2), some (.int a3), none, none, none, none, none, none, none, none, none, none, none], [.int s0], x) = mj_rI (kX0 d 128 [.ref 0] x) fun v2 x1 =>
  
  if v2 = 0 then mj_rI (kX0 d 144 [.ref 0] x1) fun v4 x3 =>
   some (some (.int v4), x3)
  else 
   if s0 = 0 then mj_rI (kX0 d 144 [.ref 0] x1) fun v6 x5 =>
    some (some (.int v6), x5)
   else mj_rI (kX0 d 125 [.ref 0, .int a3] x1) fun v8 x7 =>
    some (some (.int v8), x7) := (mj_run_to (cd := cdX0) (rt := 1) (tab := tX0_run_2) (cal := kX0 d) zX0_run_2 38 (241, [some (.ref 0), some (.int a1), some (.int a2), some (.int a3), none, none, none, none, none, none, none, none, none, none, none], [.int s0], x)).trans rfl
set_option maxRecDepth 100000 in
set_option maxHeartbeats 4000000 in
theorem bX0_run_2_268 (d : Nat) (a1 : Int32) (a2 : Int32) (a3 : Int32) (x : mj_X) : rX0_run_2 d (268, [some (.ref 0), some (.int a1), some (.int a2), some (.int a3), none, none, none, none, none, none, none, none, none, none, none], [], x) = mj_rL (kX0 d 127 [.ref 0, .int a2] x) fun v2 x1 =>
  
  if (lg_cmp v2 (0 : Int64)) = 0 then rX0_run_2 d (283, [some (.ref 0), some (.int a1), some (.int a2), some (.int a3), none, none, none, none, none, none, none, none, none, none, none], [.int (0 : Int32)], x1)
  else rX0_run_2 d (283, [some (.ref 0), some (.int a1), some (.int a2), some (.int a3), none, none, none, none, none, none, none, none, none, none, none], [.int (1 : Int32)], x1) := (mj_run_to (cd := cdX0) (rt := 1) (tab := tX0_run_2) (cal := kX0 d) zX0_run_2 38 (268, [some (.ref 0), some (.int a1), some (.int a2), some (.int a3), none, none, none, none, none, none, none, none, none, none, none], [], x)).trans rfl
set_option maxRecDepth 100000 in
set_option maxHeartbeats 4000000 in
theorem bX0_run_2_283 (d : Nat) (a1 : Int32) (a2 : Int32) (a3 : Int32) (s0 : Int32) (x : mj_X) : rX0_run_2 d (283, [some (.ref 0), some (.int a1), some (.int a2), some (.int a3), none, none, none, none, none, none, none, none, none, none, none], [.int s0], x) = mj_rI (kX0 d 128 [.ref 0] x) fun v2 x1 =>
  
  if v2 = 0 then mj_rI (kX0 d 144 [.ref 0] x1) fun v4 x3 =>
   some (some (.int v4), x3)
  else 
   if s0 = 0 then mj_g a3 4000 (mj_rI (kX0 d 125 [.ref 0, .int (x1.1 3 a3.toNatClampNeg)] x1) fun v6 x5 =>
    some (some (.int v6), x5))
   else mj_g a3 4000 (mj_rI (kX0 d 125 [.ref 0, .int (x1.1 2 a3.toNatClampNeg)] x1) fun v8 x7 =>
    some (some (.int v8), x7)) := (mj_run_to (cd := cdX0) (rt := 1) (tab := tX0_run_2) (cal := kX0 d) zX0_run_2 38 (283, [some (.ref 0), some (.int a1), some (.int a2), some (.int a3), none, none, none, none, none, none, none, none, none, none, none], [.int s0], x)).trans rfl
set_option maxRecDepth 100000 in
set_option maxHeartbeats 4000000 in
theorem bX0_run_2_324 (d : Nat) (a1 : Int32) (a2 : Int32) (a3 : Int32) (x : mj_X) : rX0_run_2 d (324, [some (.ref 0), some (.int a1), some (.int a2), some (.int a3), none, none, none, none, none, none, none, none, none, none, none], [], x) = mj_rI (kX0 d 145 [.ref 0, .int a1, .int a2, .int a3] x) fun v2 x1 =>
  some (some (.int v2), x1) := (mj_run_to (cd := cdX0) (rt := 1) (tab := tX0_run_2) (cal := kX0 d) zX0_run_2 38 (324, [some (.ref 0), some (.int a1), some (.int a2), some (.int a3), none, none, none, none, none, none, none, none, none, none, none], [], x)).trans rfl
set_option maxRecDepth 100000 in
set_option maxHeartbeats 4000000 in
theorem bX0_run_2_332 (d : Nat) (a1 : Int32) (a2 : Int32) (a3 : Int32) (x : mj_X) : rX0_run_2 d (332, [some (.ref 0), some (.int a1), some (.int a2), some (.int a3), none, none, none, none, none, none, none, none, none, none, none], [], x) = some (some (.int (1 : Int32)), (mj_wI x 0 84 a2)) := (mj_run_to (cd := cdX0) (rt := 1) (tab := tX0_run_2) (cal := kX0 d) zX0_run_2 38 (332, [some (.ref 0), some (.int a1), some (.int a2), some (.int a3), none, none, none, none, none, none, none, none, none, none, none], [], x)).trans rfl
set_option maxRecDepth 100000 in
set_option maxHeartbeats 4000000 in
theorem bX0_run_2_339 (d : Nat) (a1 : Int32) (a2 : Int32) (a3 : Int32) (x : mj_X) : rX0_run_2 d (339, [some (.ref 0), some (.int a1), some (.int a2), some (.int a3), none, none, none, none, none, none, none, none, none, none, none], [], x) = some (some (.int (2 : Int32)), (mj_wI x 0 84 a2)) := (mj_run_to (cd := cdX0) (rt := 1) (tab := tX0_run_2) (cal := kX0 d) zX0_run_2 38 (339, [some (.ref 0), some (.int a1), some (.int a2), some (.int a3), none, none, none, none, none, none, none, none, none, none, none], [], x)).trans rfl
set_option maxRecDepth 100000 in
set_option maxHeartbeats 4000000 in
theorem bX0_run_2_346 (d : Nat) (a1 : Int32) (a2 : Int32) (a3 : Int32) (x : mj_X) : rX0_run_2 d (346, [some (.ref 0), some (.int a1), some (.int a2), some (.int a3), none, none, none, none, none, none, none, none, none, none, none], [], x) = 
  if a2 = (-1 : Int32) then rX0_run_2 d (360, [some (.ref 0), some (.int a1), some (.int a2), some (.int a3), none, none, none, none, none, none, none, none, none, none, none], [.long (0 : Int64)], x)
  else mj_rL (kX0 d 127 [.ref 0, .int a2] x) fun v2 x1 =>
   rX0_run_2 d (360, [some (.ref 0), some (.int a1), some (.int a2), some (.int a3), none, none, none, none, none, none, none, none, none, none, none], [.long v2], x1) := (mj_run_to (cd := cdX0) (rt := 1) (tab := tX0_run_2) (cal := kX0 d) zX0_run_2 38 (346, [some (.ref 0), some (.int a1), some (.int a2), some (.int a3), none, none, none, none, none, none, none, none, none, none, none], [], x)).trans rfl
set_option maxRecDepth 100000 in
set_option maxHeartbeats 4000000 in
theorem bX0_run_2_360 (d : Nat) (a1 : Int32) (a2 : Int32) (a3 : Int32) (s0 : Int64) (x : mj_X) : rX0_run_2 d (360, [some (.ref 0), some (.int a1), some (.int a2), some (.int a3), none, none, none, none, none, none, none, none, none, none, none], [.long s0], x) = mj_rI (kX0 d 128 [.ref 0] (mj_wL x 0 85 s0)) fun v2 x1 =>
  
  if v2 = 0 then some (some (.int (4 : Int32)), x1)
  else some (some (.int (3 : Int32)), x1) := (mj_run_to (cd := cdX0) (rt := 1) (tab := tX0_run_2) (cal := kX0 d) zX0_run_2 38 (360, [some (.ref 0), some (.int a1), some (.int a2), some (.int a3), none, none, none, none, none, none, none, none, none, none, none], [.long s0], x)).trans rfl
set_option maxRecDepth 100000 in
set_option maxHeartbeats 4000000 in
theorem bX0_run_2_381 (d : Nat) (a1 : Int32) (a2 : Int32) (a3 : Int32) (x : mj_X) : rX0_run_2 d (381, [some (.ref 0), some (.int a1), some (.int a2), some (.int a3), none, none, none, none, none, none, none, none, none, none, none], [], x) = mj_rL (kX0 d 127 [.ref 0, .int a2] x) fun v2 x1 =>
  mj_rI (kX0 d 128 [.ref 0] x1) fun v4 x3 =>
  
  if v4 = 0 then some (some (.int (4 : Int32)), x3)
  else some (some (.int (4 : Int32)), (mj_wI (mj_wI x3 0 78 (7 : Int32)) 0 79 v2.toInt32)) := (mj_run_to (cd := cdX0) (rt := 1) (tab := tX0_run_2) (cal := kX0 d) zX0_run_2 38 (381, [some (.ref 0), some (.int a1), some (.int a2), some (.int a3), none, none, none, none, none, none, none, none, none, none, none], [], x)).trans rfl
set_option maxRecDepth 100000 in
set_option maxHeartbeats 4000000 in
theorem bX0_run_2_410 (d : Nat) (a1 : Int32) (a2 : Int32) (a3 : Int32) (x : mj_X) : rX0_run_2 d (410, [some (.ref 0), some (.int a1), some (.int a2), some (.int a3), none, none, none, none, none, none, none, none, none, none, none], [], x) = mj_rI (kX0 d 146 [.ref 0, .int a2, .int a3] x) fun v2 x1 =>
  some (some (.int v2), x1) := (mj_run_to (cd := cdX0) (rt := 1) (tab := tX0_run_2) (cal := kX0 d) zX0_run_2 38 (410, [some (.ref 0), some (.int a1), some (.int a2), some (.int a3), none, none, none, none, none, none, none, none, none, none, none], [], x)).trans rfl
set_option maxRecDepth 100000 in
set_option maxHeartbeats 4000000 in
theorem bX0_run_2_417 (d : Nat) (a1 : Int32) (a2 : Int32) (a3 : Int32) (x : mj_X) : rX0_run_2 d (417, [some (.ref 0), some (.int a1), some (.int a2), some (.int a3), none, none, none, none, none, none, none, none, none, none, none], [], x) = mj_rI (kX0 d 147 [.ref 0, .int a2, .int a3] x) fun v2 x1 =>
  some (some (.int v2), x1) := (mj_run_to (cd := cdX0) (rt := 1) (tab := tX0_run_2) (cal := kX0 d) zX0_run_2 38 (417, [some (.ref 0), some (.int a1), some (.int a2), some (.int a3), none, none, none, none, none, none, none, none, none, none, none], [], x)).trans rfl
set_option maxRecDepth 100000 in
set_option maxHeartbeats 4000000 in
theorem bX0_run_2_424 (d : Nat) (a1 : Int32) (a2 : Int32) (a3 : Int32) (x : mj_X) : rX0_run_2 d (424, [some (.ref 0), some (.int a1), some (.int a2), some (.int a3), none, none, none, none, none, none, none, none, none, none, none], [], x) = mj_rI (kX0 d 148 [.ref 0, .int a2, .int a3] x) fun v2 x1 =>
  some (some (.int v2), x1) := (mj_run_to (cd := cdX0) (rt := 1) (tab := tX0_run_2) (cal := kX0 d) zX0_run_2 38 (424, [some (.ref 0), some (.int a1), some (.int a2), some (.int a3), none, none, none, none, none, none, none, none, none, none, none], [], x)).trans rfl
set_option maxRecDepth 100000 in
set_option maxHeartbeats 4000000 in
theorem bX0_run_2_431 (d : Nat) (a1 : Int32) (a2 : Int32) (a3 : Int32) (x : mj_X) : rX0_run_2 d (431, [some (.ref 0), some (.int a1), some (.int a2), some (.int a3), none, none, none, none, none, none, none, none, none, none, none], [], x) = mj_rL (kX0 d 127 [.ref 0, .int a2] x) fun v2 x1 =>
  mj_rI (kX0 d 128 [.ref 0] x1) fun v4 x3 =>
  
  if v4 = 0 then rX0_run_2 d (457, [some (.ref 0), some (.int a1), some (.int a2), some (.int a3), none, none, none, none, none, none, none, none, none, some (.long v2), none], [], x3)
  else 
   if (lg_cmp v2 (0 : Int64)) = 0 then mj_rV (kX0 d 139 [.ref 0, .int (2 : Int32)] x3) fun x5 =>
    rX0_run_2 d (457, [some (.ref 0), some (.int a1), some (.int a2), some (.int a3), none, none, none, none, none, none, none, none, none, some (.long v2), none], [], x5)
   else rX0_run_2 d (457, [some (.ref 0), some (.int a1), some (.int a2), some (.int a3), none, none, none, none, none, none, none, none, none, some (.long v2), none], [], x3) := (mj_run_to (cd := cdX0) (rt := 1) (tab := tX0_run_2) (cal := kX0 d) zX0_run_2 38 (431, [some (.ref 0), some (.int a1), some (.int a2), some (.int a3), none, none, none, none, none, none, none, none, none, none, none], [], x)).trans rfl
set_option maxRecDepth 100000 in
set_option maxHeartbeats 4000000 in
theorem bX0_run_2_457 (d : Nat) (a1 : Int32) (a2 : Int32) (a3 : Int32) (a13 : Int64) (x : mj_X) : rX0_run_2 d (457, [some (.ref 0), some (.int a1), some (.int a2), some (.int a3), none, none, none, none, none, none, none, none, none, some (.long a13), none], [], x) = mj_rI (kX0 d 128 [.ref 0] x) fun v2 x1 =>
  
  if v2 = 0 then some (some (.int (4 : Int32)), x1)
  else mj_rI (kX0 d 125 [.ref 0, .int a3] x1) fun v4 x3 =>
   some (some (.int v4), x3) := (mj_run_to (cd := cdX0) (rt := 1) (tab := tX0_run_2) (cal := kX0 d) zX0_run_2 38 (457, [some (.ref 0), some (.int a1), some (.int a2), some (.int a3), none, none, none, none, none, none, none, none, none, some (.long a13), none], [], x)).trans rfl
noncomputable abbrev rX0_done (d : Nat) : mj_S → mj_R := mj_run cdX0 1 tX0_done (kX0 d)
def zX0_done (p : Nat) : Bool := false
set_option maxRecDepth 100000 in
set_option maxHeartbeats 4000000 in
theorem eX0_done (d : Nat)  (x : mj_X) : kX0 (d + 1) 144 [.ref 0] x = mj_rI (kX0 d 128 [.ref 0] x) fun v2 x1 =>
  
  if v2 = 0 then some (some (.int (4 : Int32)), x1)
  else some (some (.int (0 : Int32)), x1) := (mj_run_to (cd := cdX0) (rt := 1) (tab := tX0_done) (cal := kX0 d) zX0_done 10 (0, [some (.ref 0)], [], x)).trans rfl
noncomputable abbrev rX0_runLoop (d : Nat) : mj_S → mj_R := mj_run cdX0 1 tX0_runLoop (kX0 d)
def zX0_runLoop (p : Nat) : Bool := bif Nat.blt p 87 then (bif Nat.blt p 56 then (bif Nat.beq p 22 then true else false) else (bif Nat.blt p 69 then (bif Nat.beq p 56 then true else false) else (bif Nat.beq p 69 then true else false))) else (bif Nat.blt p 120 then (bif Nat.blt p 103 then (bif Nat.beq p 87 then true else false) else (bif Nat.beq p 103 then true else false)) else (bif Nat.blt p 156 then (bif Nat.beq p 120 then true else false) else (bif Nat.beq p 156 then true else false)))
set_option maxRecDepth 100000 in
set_option maxHeartbeats 4000000 in
theorem eX0_runLoop (d : Nat) (a1 : Int32) (a2 : Int32) (a3 : Int32) (x : mj_X) : kX0 (d + 1) 145 [.ref 0, .int a1, .int a2, .int a3] x = mj_g a1 4000 (
  if (x.1 1 a1.toNatClampNeg) = (68 : Int32) then rX0_runLoop d (22, [some (.ref 0), some (.int a1), some (.int a2), some (.int a3), some (.int (x.1 1 a1.toNatClampNeg)), some (.int (1 : Int32)), none], [], x)
  else rX0_runLoop d (22, [some (.ref 0), some (.int a1), some (.int a2), some (.int a3), some (.int (x.1 1 a1.toNatClampNeg)), some (.int (0 : Int32)), none], [], x)) := (mj_run_to (cd := cdX0) (rt := 1) (tab := tX0_runLoop) (cal := kX0 d) zX0_runLoop 30 (0, [some (.ref 0), some (.int a1), some (.int a2), some (.int a3), none, none, none], [], x)).trans rfl
set_option maxRecDepth 100000 in
set_option maxHeartbeats 4000000 in
theorem bX0_runLoop_22 (d : Nat) (a1 : Int32) (a2 : Int32) (a3 : Int32) (a4 : Int32) (a5 : Int32) (o6 : Option Value) (x : mj_X) : rX0_runLoop d (22, [some (.ref 0), some (.int a1), some (.int a2), some (.int a3), some (.int a4), some (.int a5), o6], [], x) = 
  if a5 = 0 then 
   if a4 = (68 : Int32) then rX0_runLoop d (56, [some (.ref 0), some (.int a1), some (.int a2), some (.int a3), some (.int a4), some (.int a5), o6], [.int a3, .ref 0], x)
   else 
    if a4 = (67 : Int32) then rX0_runLoop d (56, [some (.ref 0), some (.int a1), some (.int a2), some (.int a3), some (.int a4), some (.int a5), o6], [.int a2, .ref 0], x)
    else mj_g a2 4000 (rX0_runLoop d (56, [some (.ref 0), some (.int a1), some (.int a2), some (.int a3), some (.int a4), some (.int a5), o6], [.int (x.1 2 a2.toNatClampNeg), .ref 0], x))
  else rX0_runLoop d (87, [some (.ref 0), some (.int a1), some (.int a2), some (.int a3), some (.int a4), some (.int a5), o6], [], x) := (mj_run_to (cd := cdX0) (rt := 1) (tab := tX0_runLoop) (cal := kX0 d) zX0_runLoop 30 (22, [some (.ref 0), some (.int a1), some (.int a2), some (.int a3), some (.int a4), some (.int a5), o6], [], x)).trans rfl
set_option maxRecDepth 100000 in
set_option maxHeartbeats 4000000 in
theorem bX0_runLoop_56 (d : Nat) (a1 : Int32) (a2 : Int32) (a3 : Int32) (a4 : Int32) (a5 : Int32) (o6 : Option Value) (s1 : Int32) (x : mj_X) : rX0_runLoop d (56, [some (.ref 0), some (.int a1), some (.int a2), some (.int a3), some (.int a4), some (.int a5), o6], [.int s1, .ref 0], x) = mj_rL (kX0 d 127 [.ref 0, .int s1] x) fun v2 x1 =>
  
  if (lg_cmp v2 (0 : Int64)) = 0 then rX0_runLoop d (69, [some (.ref 0), some (.int a1), some (.int a2), some (.int a3), some (.int a4), some (.int a5), o6], [.int (0 : Int32)], x1)
  else rX0_runLoop d (69, [some (.ref 0), some (.int a1), some (.int a2), some (.int a3), some (.int a4), some (.int a5), o6], [.int (1 : Int32)], x1) := (mj_run_to (cd := cdX0) (rt := 1) (tab := tX0_runLoop) (cal := kX0 d) zX0_runLoop 30 (56, [some (.ref 0), some (.int a1), some (.int a2), some (.int a3), some (.int a4), some (.int a5), o6], [.int s1, .ref 0], x)).trans rfl
set_option maxRecDepth 100000 in
set_option maxHeartbeats 4000000 in
theorem bX0_runLoop_69 (d : Nat) (a1 : Int32) (a2 : Int32) (a3 : Int32) (a4 : Int32) (a5 : Int32) (o6 : Option Value) (s0 : Int32) (x : mj_X) : rX0_runLoop d (69, [some (.ref 0), some (.int a1), some (.int a2), some (.int a3), some (.int a4), some (.int a5), o6], [.int s0], x) = mj_rI (kX0 d 128 [.ref 0] x) fun v2 x1 =>
  
  if v2 = 0 then some (some (.int (4 : Int32)), x1)
  else 
   if s0 = 0 then some (some (.int (0 : Int32)), x1)
   else rX0_runLoop d (87, [some (.ref 0), some (.int a1), some (.int a2), some (.int a3), some (.int a4), some (.int a5), some (.int s0)], [], x1) := (mj_run_to (cd := cdX0) (rt := 1) (tab := tX0_runLoop) (cal := kX0 d) zX0_runLoop 30 (69, [some (.ref 0), some (.int a1), some (.int a2), some (.int a3), some (.int a4), some (.int a5), o6], [.int s0], x)).trans rfl
set_option maxRecDepth 100000 in
set_option maxHeartbeats 4000000 in
theorem bX0_runLoop_87 (d : Nat) (a1 : Int32) (a2 : Int32) (a3 : Int32) (a4 : Int32) (a5 : Int32) (o6 : Option Value) (x : mj_X) : rX0_runLoop d (87, [some (.ref 0), some (.int a1), some (.int a2), some (.int a3), some (.int a4), some (.int a5), o6], [], x) = 
  if a4 = (68 : Int32) then rX0_runLoop d (103, [some (.ref 0), some (.int a1), some (.int a2), some (.int a3), some (.int a4), some (.int (0 : Int32)), o6], [.int a2, .ref 0], x)
  else rX0_runLoop d (103, [some (.ref 0), some (.int a1), some (.int a2), some (.int a3), some (.int a4), some (.int (0 : Int32)), o6], [.int a3, .ref 0], x) := (mj_run_to (cd := cdX0) (rt := 1) (tab := tX0_runLoop) (cal := kX0 d) zX0_runLoop 30 (87, [some (.ref 0), some (.int a1), some (.int a2), some (.int a3), some (.int a4), some (.int a5), o6], [], x)).trans rfl
set_option maxRecDepth 100000 in
set_option maxHeartbeats 4000000 in
theorem bX0_runLoop_103 (d : Nat) (a1 : Int32) (a2 : Int32) (a3 : Int32) (a4 : Int32) (a5 : Int32) (o6 : Option Value) (s1 : Int32) (x : mj_X) : rX0_runLoop d (103, [some (.ref 0), some (.int a1), some (.int a2), some (.int a3), some (.int a4), some (.int a5), o6], [.int s1, .ref 0], x) = mj_rI (kX0 d 125 [.ref 0, .int s1] x) fun v2 x1 =>
  
  if v2 = (1 : Int32) then rX0_runLoop d (120, [some (.ref 0), some (.int a1), some (.int a2), some (.int a3), some (.int a4), some (.int a5), some (.int v2)], [], x1)
  else 
   if v2 = (2 : Int32) then rX0_runLoop d (120, [some (.ref 0), some (.int a1), some (.int a2), some (.int a3), some (.int a4), some (.int a5), some (.int v2)], [], x1)
   else 
    if v2 = 0 then rX0_runLoop d (156, [some (.ref 0), some (.int a1), some (.int a2), some (.int a3), some (.int a4), some (.int a5), some (.int v2)], [], x1)
    else some (some (.int v2), x1) := (mj_run_to (cd := cdX0) (rt := 1) (tab := tX0_runLoop) (cal := kX0 d) zX0_runLoop 30 (103, [some (.ref 0), some (.int a1), some (.int a2), some (.int a3), some (.int a4), some (.int a5), o6], [.int s1, .ref 0], x)).trans rfl
set_option maxRecDepth 100000 in
set_option maxHeartbeats 4000000 in
theorem bX0_runLoop_120 (d : Nat) (a1 : Int32) (a2 : Int32) (a3 : Int32) (a4 : Int32) (a5 : Int32) (a6 : Int32) (x : mj_X) : rX0_runLoop d (120, [some (.ref 0), some (.int a1), some (.int a2), some (.int a3), some (.int a4), some (.int a5), some (.int a6)], [], x) = 
  if (x.1 0 84) ≤ 0 then 
   if a6 = (1 : Int32) then some (some (.int (0 : Int32)), x)
   else rX0_runLoop d (156, [some (.ref 0), some (.int a1), some (.int a2), some (.int a3), some (.int a4), some (.int a5), some (.int a6)], [], x)
  else some (some (.int a6), (mj_wI x 0 84 ((x.1 0 84) - (1 : Int32)))) := (mj_run_to (cd := cdX0) (rt := 1) (tab := tX0_runLoop) (cal := kX0 d) zX0_runLoop 30 (120, [some (.ref 0), some (.int a1), some (.int a2), some (.int a3), some (.int a4), some (.int a5), some (.int a6)], [], x)).trans rfl
set_option maxRecDepth 100000 in
set_option maxHeartbeats 4000000 in
theorem bX0_runLoop_156 (d : Nat) (a1 : Int32) (a2 : Int32) (a3 : Int32) (a4 : Int32) (a5 : Int32) (a6 : Int32) (x : mj_X) : rX0_runLoop d (156, [some (.ref 0), some (.int a1), some (.int a2), some (.int a3), some (.int a4), some (.int a5), some (.int a6)], [], x) = 
  if a4 = (69 : Int32) then mj_g a2 4000 (mj_rI (kX0 d 125 [.ref 0, .int (x.1 3 a2.toNatClampNeg)] x) fun v2 x1 =>
   
   if v2 = 0 then 
    if (x1.1 0 81) = 0 then rX0_runLoop d (22, [some (.ref 0), some (.int a1), some (.int a2), some (.int a3), some (.int a4), some (.int a5), some (.int v2)], [], x1)
    else some (some (.int (4 : Int32)), x1)
   else some (some (.int v2), x1))
  else 
   if (x.1 0 81) = 0 then rX0_runLoop d (22, [some (.ref 0), some (.int a1), some (.int a2), some (.int a3), some (.int a4), some (.int a5), some (.int a6)], [], x)
   else some (some (.int (4 : Int32)), x) := (mj_run_to (cd := cdX0) (rt := 1) (tab := tX0_runLoop) (cal := kX0 d) zX0_runLoop 30 (156, [some (.ref 0), some (.int a1), some (.int a2), some (.int a3), some (.int a4), some (.int a5), some (.int a6)], [], x)).trans rfl
noncomputable abbrev rX0_runSwitch (d : Nat) : mj_S → mj_R := mj_run cdX0 1 tX0_runSwitch (kX0 d)
def zX0_runSwitch (p : Nat) : Bool := bif Nat.blt p 103 then (bif Nat.beq p 24 then true else false) else (bif Nat.beq p 103 then true else false)
set_option maxRecDepth 100000 in
set_option maxHeartbeats 4000000 in
theorem eX0_runSwitch (d : Nat) (a1 : Int32) (a2 : Int32) (x : mj_X) : kX0 (d + 1) 146 [.ref 0, .int a1, .int a2] x = mj_rL (kX0 d 127 [.ref 0, .int a1] x) fun v2 x1 =>
  mj_rI (kX0 d 128 [.ref 0] x1) fun v4 x3 =>
  
  if v4 = 0 then some (some (.int (4 : Int32)), x3)
  else rX0_runSwitch d (24, [some (.ref 0), some (.int a1), some (.int a2), some (.long v2), none, some (.int (-1 : Int32)), some (.int (-1 : Int32)), some (.int a2), none], [], x3) := (mj_run_to (cd := cdX0) (rt := 1) (tab := tX0_runSwitch) (cal := kX0 d) zX0_runSwitch 61 (0, [some (.ref 0), some (.int a1), some (.int a2), none, none, none, none, none, none], [], x)).trans rfl
set_option maxRecDepth 100000 in
set_option maxHeartbeats 4000000 in
theorem bX0_runSwitch_24 (d : Nat) (a1 : Int32) (a2 : Int32) (a3 : Int64) (a5 : Int32) (a6 : Int32) (a7 : Int32) (x : mj_X) : rX0_runSwitch d (24, [some (.ref 0), some (.int a1), some (.int a2), some (.long a3), none, some (.int a5), some (.int a6), some (.int a7), none], [], x) = 
  if a7 = (-1 : Int32) then 
   if a5 = (-1 : Int32) then rX0_runSwitch d (103, [some (.ref 0), some (.int a1), some (.int a2), some (.long a3), none, some (.int a5), some (.int a6), some (.int a6), none], [], x)
   else rX0_runSwitch d (103, [some (.ref 0), some (.int a1), some (.int a2), some (.long a3), none, some (.int a5), some (.int a6), some (.int a5), none], [], x)
  else mj_g a7 4000 (mj_g (x.1 2 a7.toNatClampNeg) 4000 (
   if (x.1 1 (x.1 2 a7.toNatClampNeg).toNatClampNeg) = (84 : Int32) then mj_g a7 4000 (rX0_runSwitch d (24, [some (.ref 0), some (.int a1), some (.int a2), some (.long a3), none, some (.int a5), some (.int a7), some (.int (x.1 3 a7.toNatClampNeg)), none], [], x))
   else mj_g a7 4000 (mj_g (x.1 2 a7.toNatClampNeg) 4000 (
    if (lg_cmp (x.1 2 (x.1 2 a7.toNatClampNeg).toNatClampNeg).toInt64 a3) = 0 then mj_g a7 4000 (rX0_runSwitch d (24, [some (.ref 0), some (.int a1), some (.int a2), some (.long a3), none, some (.int a7), some (.int a6), some (.int (x.1 3 a7.toNatClampNeg)), none], [], x))
    else mj_g a7 4000 (rX0_runSwitch d (24, [some (.ref 0), some (.int a1), some (.int a2), some (.long a3), none, some (.int a5), some (.int a6), some (.int (x.1 3 a7.toNatClampNeg)), none], [], x)))))) := (mj_run_to (cd := cdX0) (rt := 1) (tab := tX0_runSwitch) (cal := kX0 d) zX0_runSwitch 61 (24, [some (.ref 0), some (.int a1), some (.int a2), some (.long a3), none, some (.int a5), some (.int a6), some (.int a7), none], [], x)).trans rfl
set_option maxRecDepth 100000 in
set_option maxHeartbeats 4000000 in
theorem bX0_runSwitch_103 (d : Nat) (a1 : Int32) (a2 : Int32) (a3 : Int64) (a5 : Int32) (a6 : Int32) (a7 : Int32) (o8 : Option Value) (x : mj_X) : rX0_runSwitch d (103, [some (.ref 0), some (.int a1), some (.int a2), some (.long a3), none, some (.int a5), some (.int a6), some (.int a7), o8], [], x) = 
  if a7 = (-1 : Int32) then some (some (.int (0 : Int32)), x)
  else mj_g a7 4000 (mj_g (x.1 2 a7.toNatClampNeg) 4000 (mj_rI (kX0 d 125 [.ref 0, .int (x.1 3 (x.1 2 a7.toNatClampNeg).toNatClampNeg)] x) fun v2 x1 =>
   
   if v2 = (1 : Int32) then 
    if (x1.1 0 84) ≤ 0 then some (some (.int (0 : Int32)), x1)
    else some (some (.int (1 : Int32)), (mj_wI x1 0 84 ((x1.1 0 84) - (1 : Int32))))
   else 
    if v2 = 0 then mj_g a7 4000 (rX0_runSwitch d (103, [some (.ref 0), some (.int a1), some (.int a2), some (.long a3), none, some (.int a5), some (.int a6), some (.int (x1.1 3 a7.toNatClampNeg)), some (.int v2)], [], x1))
    else some (some (.int v2), x1))) := (mj_run_to (cd := cdX0) (rt := 1) (tab := tX0_runSwitch) (cal := kX0 d) zX0_runSwitch 61 (103, [some (.ref 0), some (.int a1), some (.int a2), some (.long a3), none, some (.int a5), some (.int a6), some (.int a7), o8], [], x)).trans rfl
noncomputable abbrev rX0_runTry (d : Nat) : mj_S → mj_R := mj_run cdX0 1 tX0_runTry (kX0 d)
def zX0_runTry (p : Nat) : Bool := bif Nat.blt p 94 then (bif Nat.blt p 68 then (bif Nat.beq p 23 then true else false) else (bif Nat.beq p 68 then true else false)) else (bif Nat.blt p 155 then (bif Nat.beq p 94 then true else false) else (bif Nat.beq p 155 then true else false))
set_option maxRecDepth 100000 in
set_option maxHeartbeats 4000000 in
theorem eX0_runTry (d : Nat) (a1 : Int32) (a2 : Int32) (x : mj_X) : kX0 (d + 1) 147 [.ref 0, .int a1, .int a2] x = mj_rI (kX0 d 125 [.ref 0, .int a1] x) fun v2 x1 =>
  
  if v2 = (4 : Int32) then 
   if (x1.1 0 81) = 0 then rX0_runTry d (23, [some (.ref 0), some (.int a1), some (.int a2), some (.int v2), some (.int a2), none], [], x1)
   else some (some (.int v2), x1)
  else some (some (.int v2), x1) := (mj_run_to (cd := cdX0) (rt := 1) (tab := tX0_runTry) (cal := kX0 d) zX0_runTry 39 (0, [some (.ref 0), some (.int a1), some (.int a2), none, none, none], [], x)).trans rfl
set_option maxRecDepth 100000 in
set_option maxHeartbeats 4000000 in
theorem bX0_runTry_23 (d : Nat) (a1 : Int32) (a2 : Int32) (a3 : Int32) (a4 : Int32) (o5 : Option Value) (x : mj_X) : rX0_runTry d (23, [some (.ref 0), some (.int a1), some (.int a2), some (.int a3), some (.int a4), o5], [], x) = 
  if a4 = (-1 : Int32) then some (some (.int (4 : Int32)), x)
  else mj_g a4 4000 (mj_g (x.1 2 a4.toNatClampNeg) 4000 (
   if (x.1 1 (x.1 2 a4.toNatClampNeg).toNatClampNeg) = (78 : Int32) then mj_g a4 4000 (mj_g (x.1 2 a4.toNatClampNeg) 4000 (rX0_runTry d (68, [some (.ref 0), some (.int a1), some (.int a2), some (.int a3), some (.int a4), o5], [.int (x.1 3 (x.1 2 a4.toNatClampNeg).toNatClampNeg)], x)))
   else mj_g a4 4000 (rX0_runTry d (68, [some (.ref 0), some (.int a1), some (.int a2), some (.int a3), some (.int a4), o5], [.int (x.1 2 a4.toNatClampNeg)], x)))) := (mj_run_to (cd := cdX0) (rt := 1) (tab := tX0_runTry) (cal := kX0 d) zX0_runTry 39 (23, [some (.ref 0), some (.int a1), some (.int a2), some (.int a3), some (.int a4), o5], [], x)).trans rfl
set_option maxRecDepth 100000 in
set_option maxHeartbeats 4000000 in
theorem bX0_runTry_68 (d : Nat) (a1 : Int32) (a2 : Int32) (a3 : Int32) (a4 : Int32) (o5 : Option Value) (s0 : Int32) (x : mj_X) : rX0_runTry d (68, [some (.ref 0), some (.int a1), some (.int a2), some (.int a3), some (.int a4), o5], [.int s0], x) = mj_g s0 4000 (
  if (x.1 2 s0.toNatClampNeg) = 0 then rX0_runTry d (94, [some (.ref 0), some (.int a1), some (.int a2), some (.int a3), some (.int a4), some (.int s0)], [], x)
  else mj_g s0 4000 (
   if (x.1 2 s0.toNatClampNeg) = (x.1 0 78) then rX0_runTry d (94, [some (.ref 0), some (.int a1), some (.int a2), some (.int a3), some (.int a4), some (.int s0)], [], x)
   else mj_g a4 4000 (rX0_runTry d (23, [some (.ref 0), some (.int a1), some (.int a2), some (.int a3), some (.int (x.1 3 a4.toNatClampNeg)), some (.int s0)], [], x)))) := (mj_run_to (cd := cdX0) (rt := 1) (tab := tX0_runTry) (cal := kX0 d) zX0_runTry 39 (68, [some (.ref 0), some (.int a1), some (.int a2), some (.int a3), some (.int a4), o5], [.int s0], x)).trans rfl
set_option maxRecDepth 100000 in
set_option maxHeartbeats 4000000 in
theorem bX0_runTry_94 (d : Nat) (a1 : Int32) (a2 : Int32) (a3 : Int32) (a4 : Int32) (a5 : Int32) (x : mj_X) : rX0_runTry d (94, [some (.ref 0), some (.int a1), some (.int a2), some (.int a3), some (.int a4), some (.int a5)], [], x) = mj_g a4 4000 (mj_g (x.1 2 a4.toNatClampNeg) 4000 (
  if (x.1 1 (x.1 2 a4.toNatClampNeg).toNatClampNeg) = (78 : Int32) then mj_g a4 4000 (mj_g (x.1 2 a4.toNatClampNeg) 4000 (
   if (x.1 0 78) = (7 : Int32) then mj_g (((4000 : Int32) * (x.1 0 83)) + (x.1 2 (x.1 2 a4.toNatClampNeg).toNatClampNeg)) 44000 (rX0_runTry d (155, [some (.ref 0), some (.int a1), some (.int a2), some (.int a3), some (.int a4), some (.int a5)], [], (mj_wL x 83 (((4000 : Int32) * (x.1 0 83)) + (x.1 2 (x.1 2 a4.toNatClampNeg).toNatClampNeg)).toNatClampNeg (x.1 0 79).toInt64)))
   else mj_g (((4000 : Int32) * (x.1 0 83)) + (x.1 2 (x.1 2 a4.toNatClampNeg).toNatClampNeg)) 44000 (rX0_runTry d (155, [some (.ref 0), some (.int a1), some (.int a2), some (.int a3), some (.int a4), some (.int a5)], [], (mj_wL x 83 (((4000 : Int32) * (x.1 0 83)) + (x.1 2 (x.1 2 a4.toNatClampNeg).toNatClampNeg)).toNatClampNeg (0 : Int64))))))
  else rX0_runTry d (155, [some (.ref 0), some (.int a1), some (.int a2), some (.int a3), some (.int a4), some (.int a5)], [], x))) := (mj_run_to (cd := cdX0) (rt := 1) (tab := tX0_runTry) (cal := kX0 d) zX0_runTry 39 (94, [some (.ref 0), some (.int a1), some (.int a2), some (.int a3), some (.int a4), some (.int a5)], [], x)).trans rfl
set_option maxRecDepth 100000 in
set_option maxHeartbeats 4000000 in
theorem bX0_runTry_155 (d : Nat) (a1 : Int32) (a2 : Int32) (a3 : Int32) (a4 : Int32) (a5 : Int32) (x : mj_X) : rX0_runTry d (155, [some (.ref 0), some (.int a1), some (.int a2), some (.int a3), some (.int a4), some (.int a5)], [], x) = mj_g a5 4000 (mj_rI (kX0 d 125 [.ref 0, .int (x.1 3 a5.toNatClampNeg)] (mj_wI x 0 78 (0 : Int32))) fun v2 x1 =>
  some (some (.int v2), x1)) := (mj_run_to (cd := cdX0) (rt := 1) (tab := tX0_runTry) (cal := kX0 d) zX0_runTry 39 (155, [some (.ref 0), some (.int a1), some (.int a2), some (.int a3), some (.int a4), some (.int a5)], [], x)).trans rfl
noncomputable abbrev rX0_runFinally (d : Nat) : mj_S → mj_R := mj_run cdX0 1 tX0_runFinally (kX0 d)
def zX0_runFinally (p : Nat) : Bool := bif Nat.beq p 44 then true else false
set_option maxRecDepth 100000 in
set_option maxHeartbeats 4000000 in
theorem eX0_runFinally (d : Nat) (a1 : Int32) (a2 : Int32) (x : mj_X) : kX0 (d + 1) 148 [.ref 0, .int a1, .int a2] x = mj_rI (kX0 d 125 [.ref 0, .int a1] x) fun v2 x1 =>
  
  if (x1.1 0 81) = 0 then rX0_runFinally d (44, [some (.ref 0), some (.int a1), some (.int a2), some (.int v2), some (.int (x1.1 0 78)), some (.int (x1.1 0 79)), some (.int (x1.1 0 84)), some (.long (x1.2 0 85)), none, none], [], (mj_wI x1 0 78 (0 : Int32)))
  else some (some (.int (4 : Int32)), x1) := (mj_run_to (cd := cdX0) (rt := 1) (tab := tX0_runFinally) (cal := kX0 d) zX0_runFinally 27 (0, [some (.ref 0), some (.int a1), some (.int a2), none, none, none, none, none, none, none], [], x)).trans rfl
set_option maxRecDepth 100000 in
set_option maxHeartbeats 4000000 in
theorem bX0_runFinally_44 (d : Nat) (a1 : Int32) (a2 : Int32) (a3 : Int32) (a4 : Int32) (a5 : Int32) (a6 : Int32) (a7 : Int64) (x : mj_X) : rX0_runFinally d (44, [some (.ref 0), some (.int a1), some (.int a2), some (.int a3), some (.int a4), some (.int a5), some (.int a6), some (.long a7), none, none], [], x) = mj_rI (kX0 d 125 [.ref 0, .int a2] x) fun v2 x1 =>
  
  if v2 = 0 then some (some (.int a3), (mj_wL (mj_wI (mj_wI (mj_wI x1 0 78 a4) 0 79 a5) 0 84 a6) 0 85 a7))
  else some (some (.int v2), x1) := (mj_run_to (cd := cdX0) (rt := 1) (tab := tX0_runFinally) (cal := kX0 d) zX0_runFinally 27 (44, [some (.ref 0), some (.int a1), some (.int a2), some (.int a3), some (.int a4), some (.int a5), some (.int a6), some (.long a7), none, none], [], x)).trans rfl
