noncomputable abbrev rX0_open (d : Nat) : mj_S → mj_R := mj_run cdX0 1 tX0_open (kX0 d)
def zX0_open (p : Nat) : Bool := false
set_option maxRecDepth 100000 in
set_option maxHeartbeats 4000000 in
theorem eX0_open (d : Nat) (a1 : Int32) (a2 : Int32) (x : mj_X) : kX0 (d + 1) 78 [.ref 0, .int a1, .int a2] x = mj_g (x.1 0 58) 2000 (mj_g (x.1 0 58) 2000 (mj_g (x.1 0 58) 2000 (mj_g (x.1 0 58) 2000 (mj_g (x.1 0 58) 2000 (mj_g (x.1 0 58) 2000 (some (some (.int (x.1 0 58)), (mj_wI (mj_wI (mj_wI (mj_wI (mj_wI (mj_wI (mj_wI (mj_wI (mj_wI x 0 58 ((x.1 0 58) + (1 : Int32))) 50 (x.1 0 58).toNatClampNeg a1) 53 (x.1 0 58).toNatClampNeg a2) 51 (x.1 0 58).toNatClampNeg (x.1 0 59)) 56 (x.1 0 58).toNatClampNeg (x.1 0 32)) 58 (x.1 0 58).toNatClampNeg (x.1 0 28)) 0 66 ((x.1 0 66) + (1 : Int32))) 52 (x.1 0 58).toNatClampNeg (x.1 0 66)) 0 59 (x.1 0 58))))))))) := (mj_run_to (cd := cdX0) (rt := 1) (tab := tX0_open) (cal := kX0 d) zX0_open 54 (0, [some (.ref 0), some (.int a1), some (.int a2), none], [], x)).trans rfl
noncomputable abbrev rX0_shut (d : Nat) : mj_S → mj_R := mj_run cdX0 0 tX0_shut (kX0 d)
def zX0_shut (p : Nat) : Bool := false
set_option maxRecDepth 100000 in
set_option maxHeartbeats 4000000 in
theorem eX0_shut (d : Nat) (a1 : Int32) (x : mj_X) : kX0 (d + 1) 79 [.ref 0, .int a1] x = mj_g a1 2000 (some (none, (mj_wI (mj_wI x 0 59 (x.1 51 a1.toNatClampNeg)) 0 58 a1))) := (mj_run_to (cd := cdX0) (rt := 0) (tab := tX0_shut) (cal := kX0 d) zX0_shut 12 (0, [some (.ref 0), some (.int a1)], [], x)).trans rfl
noncomputable abbrev rX0_target (d : Nat) : mj_S → mj_R := mj_run cdX0 1 tX0_target (kX0 d)
def zX0_target (p : Nat) : Bool := bif Nat.blt p 31 then (bif Nat.beq p 8 then true else false) else (bif Nat.beq p 31 then true else false)
set_option maxRecDepth 100000 in
set_option maxHeartbeats 4000000 in
theorem eX0_target (d : Nat) (a1 : Int32) (a2 : Int32) (x : mj_X) : kX0 (d + 1) 80 [.ref 0, .int a1, .int a2] x = rX0_target d (8, [some (.ref 0), some (.int a1), some (.int a2), some (.int (x.1 0 59)), some (.int a2)], [], x) := (mj_run_to (cd := cdX0) (rt := 1) (tab := tX0_target) (cal := kX0 d) zX0_target 31 (0, [some (.ref 0), some (.int a1), some (.int a2), none, none], [], x)).trans rfl
set_option maxRecDepth 100000 in
set_option maxHeartbeats 4000000 in
theorem bX0_target_8 (d : Nat) (a1 : Int32) (a2 : Int32) (a3 : Int32) (a4 : Int32) (x : mj_X) : rX0_target d (8, [some (.ref 0), some (.int a1), some (.int a2), some (.int a3), some (.int a4)], [], x) = mj_g a3 2000 (
  if (x.1 50 a3.toNatClampNeg) = 0 then rX0_target d (31, [some (.ref 0), some (.int a1), some (.int a2), some (.int a3), some (.int a4)], [], x)
  else mj_g a3 2000 (
   if (x.1 50 a3.toNatClampNeg) = (1 : Int32) then 
    if a1 = 0 then rX0_target d (31, [some (.ref 0), some (.int a1), some (.int a2), some (.int a3), some (.int a4)], [], x)
    else mj_g a3 2000 (rX0_target d (8, [some (.ref 0), some (.int a1), some (.int a2), some (.int (x.1 51 a3.toNatClampNeg)), some (.int a4)], [], x))
   else mj_g a3 2000 (rX0_target d (8, [some (.ref 0), some (.int a1), some (.int a2), some (.int (x.1 51 a3.toNatClampNeg)), some (.int a4)], [], x)))) := (mj_run_to (cd := cdX0) (rt := 1) (tab := tX0_target) (cal := kX0 d) zX0_target 31 (8, [some (.ref 0), some (.int a1), some (.int a2), some (.int a3), some (.int a4)], [], x)).trans rfl
set_option maxRecDepth 100000 in
set_option maxHeartbeats 4000000 in
theorem bX0_target_31 (d : Nat) (a1 : Int32) (a2 : Int32) (a3 : Int32) (a4 : Int32) (x : mj_X) : rX0_target d (31, [some (.ref 0), some (.int a1), some (.int a2), some (.int a3), some (.int a4)], [], x) = 
  if a4 = 0 then some (some (.int a3), x)
  else mj_g a3 2000 (rX0_target d (8, [some (.ref 0), some (.int a1), some (.int a2), some (.int (x.1 51 a3.toNatClampNeg)), some (.int (a4 + (-1 : Int32)))], [], x)) := (mj_run_to (cd := cdX0) (rt := 1) (tab := tX0_target) (cal := kX0 d) zX0_target 31 (31, [some (.ref 0), some (.int a1), some (.int a2), some (.int a3), some (.int a4)], [], x)).trans rfl
noncomputable abbrev rX0_leave (d : Nat) : mj_S → mj_R := mj_run cdX0 0 tX0_leave (kX0 d)
def zX0_leave (p : Nat) : Bool := bif Nat.blt p 224 then (bif Nat.blt p 110 then (bif Nat.blt p 50 then (bif Nat.beq p 15 then true else false) else (bif Nat.blt p 96 then (bif Nat.beq p 50 then true else false) else (bif Nat.beq p 96 then true else false))) else (bif Nat.blt p 156 then (bif Nat.blt p 128 then (bif Nat.beq p 110 then true else false) else (bif Nat.beq p 128 then true else false)) else (bif Nat.blt p 178 then (bif Nat.beq p 156 then true else false) else (bif Nat.beq p 178 then true else false)))) else (bif Nat.blt p 341 then (bif Nat.blt p 262 then (bif Nat.beq p 224 then true else false) else (bif Nat.blt p 278 then (bif Nat.beq p 262 then true else false) else (bif Nat.beq p 278 then true else false))) else (bif Nat.blt p 375 then (bif Nat.blt p 360 then (bif Nat.beq p 341 then true else false) else (bif Nat.beq p 360 then true else false)) else (bif Nat.blt p 408 then (bif Nat.beq p 375 then true else false) else (bif Nat.beq p 408 then true else false))))
set_option maxRecDepth 100000 in
set_option maxHeartbeats 4000000 in
theorem eX0_leave (d : Nat) (a1 : Int32) (a2 : Int32) (a3 : Int32) (x : mj_X) : kX0 (d + 1) 81 [.ref 0, .int a1, .int a2, .int a3] x = rX0_leave d (15, [some (.ref 0), some (.int a1), some (.int a2), some (.int a3), some (.int (x.1 0 32)), some (.int (0 : Int32)), some (.int (x.1 0 59)), none, none, none, none, none, none], [], x) := (mj_run_to (cd := cdX0) (rt := 0) (tab := tX0_leave) (cal := kX0 d) zX0_leave 54 (0, [some (.ref 0), some (.int a1), some (.int a2), some (.int a3), none, none, none, none, none, none, none, none, none], [], x)).trans rfl
set_option maxRecDepth 100000 in
set_option maxHeartbeats 4000000 in
theorem bX0_leave_15 (d : Nat) (a1 : Int32) (a2 : Int32) (a3 : Int32) (a4 : Int32) (a5 : Int32) (a6 : Int32) (x : mj_X) : rX0_leave d (15, [some (.ref 0), some (.int a1), some (.int a2), some (.int a3), some (.int a4), some (.int a5), some (.int a6), none, none, none, none, none, none], [], x) = 
  if a6 = a1 then 
   if a1 = (-1 : Int32) then 
    if a3 ≤ 0 then rX0_leave d (96, [some (.ref 0), some (.int a1), some (.int a2), some (.int a3), some (.int a4), some (.int a5), some (.int (-1 : Int32)), none, none, none, none, none, none], [], x)
    else 
     if a5 ≤ 0 then rX0_leave d (96, [some (.ref 0), some (.int a1), some (.int a2), some (.int a3), some (.int a4), some (.int a5), some (.int (-1 : Int32)), none, none, none, none, none, none], [], x)
     else mj_rI (kX0 d 33 [.ref 0, .int a3] x) fun v2 x1 =>
      mj_rV (kX0 d 39 [.ref 0, .int a3, .int v2] x1) fun x3 =>
      rX0_leave d (96, [some (.ref 0), some (.int a1), some (.int a2), some (.int a3), some (.int a4), some (.int a5), some (.int v2), none, none, none, none, none, none], [], x3)
   else rX0_leave d (96, [some (.ref 0), some (.int a1), some (.int a2), some (.int a3), some (.int a4), some (.int a5), some (.int (-1 : Int32)), none, none, none, none, none, none], [], x)
  else mj_g a6 2000 (
   if (x.1 50 a6.toNatClampNeg) = (3 : Int32) then rX0_leave d (50, [some (.ref 0), some (.int a1), some (.int a2), some (.int a3), some (.int a4), some (.int a5), some (.int a6), none, none, none, none, none, none], [.int (1 : Int32), .int a5], x)
   else mj_g a6 2000 (
    if (x.1 50 a6.toNatClampNeg) = (4 : Int32) then rX0_leave d (50, [some (.ref 0), some (.int a1), some (.int a2), some (.int a3), some (.int a4), some (.int a5), some (.int a6), none, none, none, none, none, none], [.int (1 : Int32), .int a5], x)
    else rX0_leave d (50, [some (.ref 0), some (.int a1), some (.int a2), some (.int a3), some (.int a4), some (.int a5), some (.int a6), none, none, none, none, none, none], [.int (0 : Int32), .int a5], x))) := (mj_run_to (cd := cdX0) (rt := 0) (tab := tX0_leave) (cal := kX0 d) zX0_leave 54 (15, [some (.ref 0), some (.int a1), some (.int a2), some (.int a3), some (.int a4), some (.int a5), some (.int a6), none, none, none, none, none, none], [], x)).trans rfl
set_option maxRecDepth 100000 in
set_option maxHeartbeats 4000000 in
theorem bX0_leave_50 (d : Nat) (a1 : Int32) (a2 : Int32) (a3 : Int32) (a4 : Int32) (a5 : Int32) (a6 : Int32) (s0 : Int32) (s1 : Int32) (x : mj_X) : rX0_leave d (50, [some (.ref 0), some (.int a1), some (.int a2), some (.int a3), some (.int a4), some (.int a5), some (.int a6), none, none, none, none, none, none], [.int s1, .int s0], x) = mj_g a6 2000 (rX0_leave d (15, [some (.ref 0), some (.int a1), some (.int a2), some (.int a3), some (.int a4), some (.int (s0 + s1)), some (.int (x.1 51 a6.toNatClampNeg)), none, none, none, none, none, none], [], x)) := (mj_run_to (cd := cdX0) (rt := 0) (tab := tX0_leave) (cal := kX0 d) zX0_leave 54 (50, [some (.ref 0), some (.int a1), some (.int a2), some (.int a3), some (.int a4), some (.int a5), some (.int a6), none, none, none, none, none, none], [.int s1, .int s0], x)).trans rfl
set_option maxRecDepth 100000 in
set_option maxHeartbeats 4000000 in
theorem bX0_leave_96 (d : Nat) (a1 : Int32) (a2 : Int32) (a3 : Int32) (a4 : Int32) (a5 : Int32) (a6 : Int32) (x : mj_X) : rX0_leave d (96, [some (.ref 0), some (.int a1), some (.int a2), some (.int a3), some (.int a4), some (.int a5), some (.int a6), none, none, none, none, none, none], [], x) = 
  if a6 = (-1 : Int32) then rX0_leave d (110, [some (.ref 0), some (.int a1), some (.int a2), some (.int a3), some (.int a4), some (.int a5), some (.int a6), none, none, none, none, none, none], [.int (0 : Int32)], x)
  else rX0_leave d (110, [some (.ref 0), some (.int a1), some (.int a2), some (.int a3), some (.int a4), some (.int a5), some (.int a6), none, none, none, none, none, none], [.int (x.1 0 32)], x) := (mj_run_to (cd := cdX0) (rt := 0) (tab := tX0_leave) (cal := kX0 d) zX0_leave 54 (96, [some (.ref 0), some (.int a1), some (.int a2), some (.int a3), some (.int a4), some (.int a5), some (.int a6), none, none, none, none, none, none], [], x)).trans rfl
set_option maxRecDepth 100000 in
set_option maxHeartbeats 4000000 in
theorem bX0_leave_110 (d : Nat) (a1 : Int32) (a2 : Int32) (a3 : Int32) (a4 : Int32) (a5 : Int32) (a6 : Int32) (s0 : Int32) (x : mj_X) : rX0_leave d (110, [some (.ref 0), some (.int a1), some (.int a2), some (.int a3), some (.int a4), some (.int a5), some (.int a6), none, none, none, none, none, none], [.int s0], x) = rX0_leave d (128, [some (.ref 0), some (.int a1), some (.int a2), some (.int a3), some (.int a4), some (.int a5), some (.int a6), some (.int s0), some (.int (x.1 0 59)), some (.int a1), some (.int (1 : Int32)), some (.int (x.1 0 59)), none], [], x) := (mj_run_to (cd := cdX0) (rt := 0) (tab := tX0_leave) (cal := kX0 d) zX0_leave 54 (110, [some (.ref 0), some (.int a1), some (.int a2), some (.int a3), some (.int a4), some (.int a5), some (.int a6), none, none, none, none, none, none], [.int s0], x)).trans rfl
set_option maxRecDepth 100000 in
set_option maxHeartbeats 4000000 in
theorem bX0_leave_128 (d : Nat) (a1 : Int32) (a2 : Int32) (a3 : Int32) (a4 : Int32) (a5 : Int32) (a6 : Int32) (a7 : Int32) (a8 : Int32) (a9 : Int32) (a10 : Int32) (a11 : Int32) (x : mj_X) : rX0_leave d (128, [some (.ref 0), some (.int a1), some (.int a2), some (.int a3), some (.int a4), some (.int a5), some (.int a6), some (.int a7), some (.int a8), some (.int a9), some (.int a10), some (.int a11), none], [], x) = 
  if a11 = a1 then rX0_leave d (278, [some (.ref 0), some (.int a1), some (.int a2), some (.int a3), some (.int a4), some (.int a5), some (.int a6), some (.int a7), some (.int a8), some (.int a9), some (.int a10), some (.int a11), none], [], x)
  else 
   if a10 = 0 then rX0_leave d (278, [some (.ref 0), some (.int a1), some (.int a2), some (.int a3), some (.int a4), some (.int a5), some (.int a6), some (.int a7), some (.int a8), some (.int a9), some (.int a10), some (.int a11), none], [], x)
   else mj_g a11 2000 (
    if (x.1 50 a11.toNatClampNeg) < (2 : Int32) then rX0_leave d (156, [some (.ref 0), some (.int a1), some (.int a2), some (.int a3), some (.int a4), some (.int a5), some (.int a6), some (.int a7), some (.int a8), some (.int a9), some (.int a10), some (.int a11), none], [], x)
    else mj_rV (kX0 d 82 [.ref 0, .int a11] x) fun x1 =>
     rX0_leave d (156, [some (.ref 0), some (.int a1), some (.int a2), some (.int a3), some (.int a4), some (.int a5), some (.int a6), some (.int a7), some (.int a8), some (.int a9), some (.int a10), some (.int a11), none], [], x1)) := (mj_run_to (cd := cdX0) (rt := 0) (tab := tX0_leave) (cal := kX0 d) zX0_leave 54 (128, [some (.ref 0), some (.int a1), some (.int a2), some (.int a3), some (.int a4), some (.int a5), some (.int a6), some (.int a7), some (.int a8), some (.int a9), some (.int a10), some (.int a11), none], [], x)).trans rfl
set_option maxRecDepth 100000 in
set_option maxHeartbeats 4000000 in
theorem bX0_leave_156 (d : Nat) (a1 : Int32) (a2 : Int32) (a3 : Int32) (a4 : Int32) (a5 : Int32) (a6 : Int32) (a7 : Int32) (a8 : Int32) (a9 : Int32) (a10 : Int32) (a11 : Int32) (x : mj_X) : rX0_leave d (156, [some (.ref 0), some (.int a1), some (.int a2), some (.int a3), some (.int a4), some (.int a5), some (.int a6), some (.int a7), some (.int a8), some (.int a9), some (.int a10), some (.int a11), none], [], x) = mj_g a11 2000 (
  if (x.1 50 a11.toNatClampNeg) = (3 : Int32) then rX0_leave d (178, [some (.ref 0), some (.int a1), some (.int a2), some (.int a3), some (.int a4), some (.int a5), some (.int a6), some (.int a7), some (.int a8), some (.int a9), some (.int a10), some (.int a11), none], [], x)
  else mj_g a11 2000 (
   if (x.1 50 a11.toNatClampNeg) = (4 : Int32) then rX0_leave d (178, [some (.ref 0), some (.int a1), some (.int a2), some (.int a3), some (.int a4), some (.int a5), some (.int a6), some (.int a7), some (.int a8), some (.int a9), some (.int a10), some (.int a11), none], [], x)
   else rX0_leave d (262, [some (.ref 0), some (.int a1), some (.int a2), some (.int a3), some (.int a4), some (.int a5), some (.int a6), some (.int a7), some (.int a8), some (.int a9), some (.int a10), some (.int a11), none], [], x))) := (mj_run_to (cd := cdX0) (rt := 0) (tab := tX0_leave) (cal := kX0 d) zX0_leave 54 (156, [some (.ref 0), some (.int a1), some (.int a2), some (.int a3), some (.int a4), some (.int a5), some (.int a6), some (.int a7), some (.int a8), some (.int a9), some (.int a10), some (.int a11), none], [], x)).trans rfl
set_option maxRecDepth 100000 in
set_option maxHeartbeats 4000000 in
theorem bX0_leave_178 (d : Nat) (a1 : Int32) (a2 : Int32) (a3 : Int32) (a4 : Int32) (a5 : Int32) (a6 : Int32) (a7 : Int32) (a8 : Int32) (a9 : Int32) (a10 : Int32) (a11 : Int32) (x : mj_X) : rX0_leave d (178, [some (.ref 0), some (.int a1), some (.int a2), some (.int a3), some (.int a4), some (.int a5), some (.int a6), some (.int a7), some (.int a8), some (.int a9), some (.int a10), some (.int a11), none], [], x) = mj_g a11 2000 (mj_g a11 2000 (mj_g a11 2000 (
  if (x.1 50 a11.toNatClampNeg) = (4 : Int32) then rX0_leave d (224, [some (.ref 0), some (.int a1), some (.int a2), some (.int a3), some (.int a4), some (.int a5), some (.int a6), some (.int a7), some (.int a8), some (.int a9), some (.int a10), some (.int a11), none], [.int (1 : Int32), .int a11, .ref 0], (mj_wI (mj_wI x 0 59 (x.1 51 a11.toNatClampNeg)) 0 32 (mj_max (x.1 56 a11.toNatClampNeg) a7)))
  else rX0_leave d (224, [some (.ref 0), some (.int a1), some (.int a2), some (.int a3), some (.int a4), some (.int a5), some (.int a6), some (.int a7), some (.int a8), some (.int a9), some (.int a10), some (.int a11), none], [.int (0 : Int32), .int a11, .ref 0], (mj_wI (mj_wI x 0 59 (x.1 51 a11.toNatClampNeg)) 0 32 (mj_max (x.1 56 a11.toNatClampNeg) a7)))))) := (mj_run_to (cd := cdX0) (rt := 0) (tab := tX0_leave) (cal := kX0 d) zX0_leave 54 (178, [some (.ref 0), some (.int a1), some (.int a2), some (.int a3), some (.int a4), some (.int a5), some (.int a6), some (.int a7), some (.int a8), some (.int a9), some (.int a10), some (.int a11), none], [], x)).trans rfl
set_option maxRecDepth 100000 in
set_option maxHeartbeats 4000000 in
theorem bX0_leave_224 (d : Nat) (a1 : Int32) (a2 : Int32) (a3 : Int32) (a4 : Int32) (a5 : Int32) (a6 : Int32) (a7 : Int32) (a8 : Int32) (a9 : Int32) (a10 : Int32) (a11 : Int32) (s1 : Int32) (s2 : Int32) (x : mj_X) : rX0_leave d (224, [some (.ref 0), some (.int a1), some (.int a2), some (.int a3), some (.int a4), some (.int a5), some (.int a6), some (.int a7), some (.int a8), some (.int a9), some (.int a10), some (.int a11), none], [.int s2, .int s1, .ref 0], x) = mj_g a11 2000 (mj_g a11 2000 (mj_rV (kX0 d 83 [.ref 0, .int s1, .int s2, .int (x.1 57 a11.toNatClampNeg), .int (x.1 53 a11.toNatClampNeg)] x) fun x1 =>
  
  if (x1.1 0 30) = 0 then rX0_leave d (262, [some (.ref 0), some (.int a1), some (.int a2), some (.int a3), some (.int a4), some (.int a5), some (.int a6), some (.int a7), some (.int a8), some (.int a9), some (.int (0 : Int32)), some (.int a11), none], [], x1)
  else 
   if (x1.1 0 29) = 0 then rX0_leave d (262, [some (.ref 0), some (.int a1), some (.int a2), some (.int a3), some (.int a4), some (.int a5), some (.int a6), some (.int a7), some (.int a8), some (.int a9), some (.int (1 : Int32)), some (.int a11), none], [], x1)
   else rX0_leave d (262, [some (.ref 0), some (.int a1), some (.int a2), some (.int a3), some (.int a4), some (.int a5), some (.int a6), some (.int a7), some (.int a8), some (.int a9), some (.int (0 : Int32)), some (.int a11), none], [], x1))) := (mj_run_to (cd := cdX0) (rt := 0) (tab := tX0_leave) (cal := kX0 d) zX0_leave 54 (224, [some (.ref 0), some (.int a1), some (.int a2), some (.int a3), some (.int a4), some (.int a5), some (.int a6), some (.int a7), some (.int a8), some (.int a9), some (.int a10), some (.int a11), none], [.int s2, .int s1, .ref 0], x)).trans rfl
set_option maxRecDepth 100000 in
set_option maxHeartbeats 4000000 in
theorem bX0_leave_262 (d : Nat) (a1 : Int32) (a2 : Int32) (a3 : Int32) (a4 : Int32) (a5 : Int32) (a6 : Int32) (a7 : Int32) (a8 : Int32) (a9 : Int32) (a10 : Int32) (a11 : Int32) (x : mj_X) : rX0_leave d (262, [some (.ref 0), some (.int a1), some (.int a2), some (.int a3), some (.int a4), some (.int a5), some (.int a6), some (.int a7), some (.int a8), some (.int a9), some (.int a10), some (.int a11), none], [], x) = mj_g a11 2000 (rX0_leave d (128, [some (.ref 0), some (.int a1), some (.int a2), some (.int a3), some (.int a4), some (.int a5), some (.int a6), some (.int a7), some (.int a8), some (.int a11), some (.int a10), some (.int (x.1 51 a11.toNatClampNeg)), none], [], x)) := (mj_run_to (cd := cdX0) (rt := 0) (tab := tX0_leave) (cal := kX0 d) zX0_leave 54 (262, [some (.ref 0), some (.int a1), some (.int a2), some (.int a3), some (.int a4), some (.int a5), some (.int a6), some (.int a7), some (.int a8), some (.int a9), some (.int a10), some (.int a11), none], [], x)).trans rfl
set_option maxRecDepth 100000 in
set_option maxHeartbeats 4000000 in
theorem bX0_leave_278 (d : Nat) (a1 : Int32) (a2 : Int32) (a3 : Int32) (a4 : Int32) (a5 : Int32) (a6 : Int32) (a7 : Int32) (a8 : Int32) (a9 : Int32) (a10 : Int32) (a11 : Int32) (x : mj_X) : rX0_leave d (278, [some (.ref 0), some (.int a1), some (.int a2), some (.int a3), some (.int a4), some (.int a5), some (.int a6), some (.int a7), some (.int a8), some (.int a9), some (.int a10), some (.int a11), none], [], x) = 
  if (x.1 0 30) = 0 then rX0_leave d (375, [some (.ref 0), some (.int a1), some (.int a2), some (.int a3), some (.int a4), some (.int a5), some (.int a6), some (.int a7), some (.int a8), some (.int a9), some (.int a10), some (.int (1 : Int32)), some (.int a8)], [], (mj_wI (mj_wI x 0 59 a8) 0 32 a4))
  else 
   if a1 = (-1 : Int32) then 
    if a6 = (-1 : Int32) then rX0_leave d (341, [some (.ref 0), some (.int a1), some (.int a2), some (.int a3), some (.int a4), some (.int a5), some (.int a6), some (.int a7), some (.int a8), some (.int a9), some (.int a10), some (.int a11), none], [], (mj_wI (mj_wI x 0 59 a8) 0 32 a4))
    else mj_rV (kX0 d 47 [.ref 0, .int a3, .int a6] (mj_wI (mj_wI x 0 59 a8) 0 32 a4)) fun x1 =>
     rX0_leave d (341, [some (.ref 0), some (.int a1), some (.int a2), some (.int a3), some (.int a4), some (.int a5), some (.int a6), some (.int a7), some (.int a8), some (.int a9), some (.int a10), some (.int a11), none], [], x1)
   else 
    if a2 = 0 then mj_g a1 2000 (mj_rV (kX0 d 67 [.ref 0, .int (x.1 54 a1.toNatClampNeg)] (mj_wI (mj_wI x 0 59 a8) 0 32 a4)) fun x2 =>
     rX0_leave d (375, [some (.ref 0), some (.int a1), some (.int a2), some (.int a3), some (.int a4), some (.int a5), some (.int a6), some (.int a7), some (.int a8), some (.int a9), some (.int a10), some (.int (1 : Int32)), some (.int a8)], [], x2))
    else mj_g a1 2000 (mj_rV (kX0 d 67 [.ref 0, .int (x.1 55 a1.toNatClampNeg)] (mj_wI (mj_wI x 0 59 a8) 0 32 a4)) fun x3 =>
     rX0_leave d (375, [some (.ref 0), some (.int a1), some (.int a2), some (.int a3), some (.int a4), some (.int a5), some (.int a6), some (.int a7), some (.int a8), some (.int a9), some (.int a10), some (.int (1 : Int32)), some (.int a8)], [], x3)) := (mj_run_to (cd := cdX0) (rt := 0) (tab := tX0_leave) (cal := kX0 d) zX0_leave 54 (278, [some (.ref 0), some (.int a1), some (.int a2), some (.int a3), some (.int a4), some (.int a5), some (.int a6), some (.int a7), some (.int a8), some (.int a9), some (.int a10), some (.int a11), none], [], x)).trans rfl
set_option maxRecDepth 100000 in
set_option maxHeartbeats 4000000 in
theorem bX0_leave_341 (d : Nat) (a1 : Int32) (a2 : Int32) (a3 : Int32) (a4 : Int32) (a5 : Int32) (a6 : Int32) (a7 : Int32) (a8 : Int32) (a9 : Int32) (a10 : Int32) (a11 : Int32) (x : mj_X) : rX0_leave d (341, [some (.ref 0), some (.int a1), some (.int a2), some (.int a3), some (.int a4), some (.int a5), some (.int a6), some (.int a7), some (.int a8), some (.int a9), some (.int a10), some (.int a11), none], [], x) = 
  if a3 = 0 then rX0_leave d (360, [some (.ref 0), some (.int a1), some (.int a2), some (.int a3), some (.int a4), some (.int a5), some (.int a6), some (.int a7), some (.int a8), some (.int a9), some (.int a10), some (.int a11), none], [.int (177 : Int32), .ref 0], x)
  else mj_rI (kX0 d 41 [.int a3] x) fun v2 x1 =>
   rX0_leave d (360, [some (.ref 0), some (.int a1), some (.int a2), some (.int a3), some (.int a4), some (.int a5), some (.int a6), some (.int a7), some (.int a8), some (.int a9), some (.int a10), some (.int a11), none], [.int ((172 : Int32) + v2), .ref 0], x1) := (mj_run_to (cd := cdX0) (rt := 0) (tab := tX0_leave) (cal := kX0 d) zX0_leave 54 (341, [some (.ref 0), some (.int a1), some (.int a2), some (.int a3), some (.int a4), some (.int a5), some (.int a6), some (.int a7), some (.int a8), some (.int a9), some (.int a10), some (.int a11), none], [], x)).trans rfl
set_option maxRecDepth 100000 in
set_option maxHeartbeats 4000000 in
theorem bX0_leave_360 (d : Nat) (a1 : Int32) (a2 : Int32) (a3 : Int32) (a4 : Int32) (a5 : Int32) (a6 : Int32) (a7 : Int32) (a8 : Int32) (a9 : Int32) (a10 : Int32) (a11 : Int32) (s1 : Int32) (x : mj_X) : rX0_leave d (360, [some (.ref 0), some (.int a1), some (.int a2), some (.int a3), some (.int a4), some (.int a5), some (.int a6), some (.int a7), some (.int a8), some (.int a9), some (.int a10), some (.int a11), none], [.int s1, .ref 0], x) = mj_rV (kX0 d 37 [.ref 0, .int s1] x) fun x1 =>
  rX0_leave d (375, [some (.ref 0), some (.int a1), some (.int a2), some (.int a3), some (.int a4), some (.int a5), some (.int a6), some (.int a7), some (.int a8), some (.int a9), some (.int a10), some (.int (1 : Int32)), some (.int a8)], [], (mj_wI x1 0 30 (0 : Int32))) := (mj_run_to (cd := cdX0) (rt := 0) (tab := tX0_leave) (cal := kX0 d) zX0_leave 54 (360, [some (.ref 0), some (.int a1), some (.int a2), some (.int a3), some (.int a4), some (.int a5), some (.int a6), some (.int a7), some (.int a8), some (.int a9), some (.int a10), some (.int a11), none], [.int s1, .ref 0], x)).trans rfl
set_option maxRecDepth 100000 in
set_option maxHeartbeats 4000000 in
theorem bX0_leave_375 (d : Nat) (a1 : Int32) (a2 : Int32) (a3 : Int32) (a4 : Int32) (a5 : Int32) (a6 : Int32) (a7 : Int32) (a8 : Int32) (a9 : Int32) (a10 : Int32) (a11 : Int32) (a12 : Int32) (x : mj_X) : rX0_leave d (375, [some (.ref 0), some (.int a1), some (.int a2), some (.int a3), some (.int a4), some (.int a5), some (.int a6), some (.int a7), some (.int a8), some (.int a9), some (.int a10), some (.int a11), some (.int a12)], [], x) = 
  if a12 = a1 then some (none, x)
  else 
   if a11 = 0 then some (none, x)
   else mj_g a12 2000 (
    if (x.1 50 a12.toNatClampNeg) < (2 : Int32) then rX0_leave d (408, [some (.ref 0), some (.int a1), some (.int a2), some (.int a3), some (.int a4), some (.int a5), some (.int a6), some (.int a7), some (.int a8), some (.int a9), some (.int a10), some (.int a11), some (.int a12)], [], x)
    else mj_g a12 2000 (rX0_leave d (408, [some (.ref 0), some (.int a1), some (.int a2), some (.int a3), some (.int a4), some (.int a5), some (.int a6), some (.int a7), some (.int a8), some (.int a9), some (.int a10), some (.int a11), some (.int a12)], [], (mj_wI x 58 a12.toNatClampNeg (x.1 0 28))))) := (mj_run_to (cd := cdX0) (rt := 0) (tab := tX0_leave) (cal := kX0 d) zX0_leave 54 (375, [some (.ref 0), some (.int a1), some (.int a2), some (.int a3), some (.int a4), some (.int a5), some (.int a6), some (.int a7), some (.int a8), some (.int a9), some (.int a10), some (.int a11), some (.int a12)], [], x)).trans rfl
set_option maxRecDepth 100000 in
set_option maxHeartbeats 4000000 in
theorem bX0_leave_408 (d : Nat) (a1 : Int32) (a2 : Int32) (a3 : Int32) (a4 : Int32) (a5 : Int32) (a6 : Int32) (a7 : Int32) (a8 : Int32) (a9 : Int32) (a10 : Int32) (a11 : Int32) (a12 : Int32) (x : mj_X) : rX0_leave d (408, [some (.ref 0), some (.int a1), some (.int a2), some (.int a3), some (.int a4), some (.int a5), some (.int a6), some (.int a7), some (.int a8), some (.int a9), some (.int a10), some (.int a11), some (.int a12)], [], x) = 
  if a12 = a9 then mj_g a12 2000 (rX0_leave d (375, [some (.ref 0), some (.int a1), some (.int a2), some (.int a3), some (.int a4), some (.int a5), some (.int a6), some (.int a7), some (.int a8), some (.int a9), some (.int a10), some (.int (0 : Int32)), some (.int (x.1 51 a12.toNatClampNeg))], [], x))
  else mj_g a12 2000 (rX0_leave d (375, [some (.ref 0), some (.int a1), some (.int a2), some (.int a3), some (.int a4), some (.int a5), some (.int a6), some (.int a7), some (.int a8), some (.int a9), some (.int a10), some (.int (1 : Int32)), some (.int (x.1 51 a12.toNatClampNeg))], [], x)) := (mj_run_to (cd := cdX0) (rt := 0) (tab := tX0_leave) (cal := kX0 d) zX0_leave 54 (408, [some (.ref 0), some (.int a1), some (.int a2), some (.int a3), some (.int a4), some (.int a5), some (.int a6), some (.int a7), some (.int a8), some (.int a9), some (.int a10), some (.int a11), some (.int a12)], [], x)).trans rfl
noncomputable abbrev rX0_cut (d : Nat) : mj_S → mj_R := mj_run cdX0 0 tX0_cut (kX0 d)
def zX0_cut (p : Nat) : Bool := false
set_option maxRecDepth 100000 in
set_option maxHeartbeats 4000000 in
theorem eX0_cut (d : Nat) (a1 : Int32) (x : mj_X) : kX0 (d + 1) 82 [.ref 0, .int a1] x = mj_g a1 2000 (
  if (x.1 58 a1.toNatClampNeg) = (-1 : Int32) then mj_g a1 2000 (some (none, (mj_wI x 58 a1.toNatClampNeg (-1 : Int32))))
  else mj_g a1 2000 (
   if (x.1 0 28) ≤ (x.1 58 a1.toNatClampNeg) then mj_g a1 2000 (some (none, (mj_wI x 58 a1.toNatClampNeg (-1 : Int32))))
   else 
    if (x.1 0 65) = (20000 : Int32) then some (none, (mj_wI x 0 29 (1 : Int32)))
    else mj_g a1 2000 (mj_g (x.1 0 65) 20000 (mj_g a1 2000 (mj_g (x.1 0 65) 20000 (mj_g (x.1 0 65) 20000 (mj_g a1 2000 (some (none, (mj_wI (mj_wI (mj_wI (mj_wI (mj_wI x 63 (x.1 0 65).toNatClampNeg (x.1 52 a1.toNatClampNeg)) 64 (x.1 0 65).toNatClampNeg (x.1 58 a1.toNatClampNeg)) 65 (x.1 0 65).toNatClampNeg (x.1 0 28)) 0 65 ((x.1 0 65) + (1 : Int32))) 58 a1.toNatClampNeg (-1 : Int32))))))))))) := (mj_run_to (cd := cdX0) (rt := 0) (tab := tX0_cut) (cal := kX0 d) zX0_cut 72 (0, [some (.ref 0), some (.int a1)], [], x)).trans rfl
noncomputable abbrev rX0_finish (d : Nat) : mj_S → mj_R := mj_run cdX0 0 tX0_finish (kX0 d)
def zX0_finish (p : Nat) : Bool := false
set_option maxRecDepth 100000 in
set_option maxHeartbeats 4000000 in
theorem eX0_finish (d : Nat) (a1 : Int32) (a2 : Int32) (a3 : Int32) (a4 : Int32) (x : mj_X) : kX0 (d + 1) 83 [.ref 0, .int a1, .int a2, .int a3, .int a4] x = 
  if (x.1 0 30) = 0 then some (none, x)
  else 
   if a2 = 0 then mj_rV (kX0 d 75 [.ref 0, .int a4] x) fun x1 =>
    some (none, x1)
   else mj_rV (kX0 d 47 [.ref 0, .int (5 : Int32), .int a3] x) fun x2 =>
    mj_rV (kX0 d 37 [.ref 0, .int (195 : Int32)] x2) fun x3 =>
    some (none, x3) := (mj_run_to (cd := cdX0) (rt := 0) (tab := tX0_finish) (cal := kX0 d) zX0_finish 21 (0, [some (.ref 0), some (.int a1), some (.int a2), some (.int a3), some (.int a4)], [], x)).trans rfl
noncomputable abbrev rX0_caseOf (d : Nat) : mj_S → mj_R := mj_run cdX0 1 tX0_caseOf (kX0 d)
def zX0_caseOf (p : Nat) : Bool := bif Nat.beq p 3 then true else false
set_option maxRecDepth 100000 in
set_option maxHeartbeats 4000000 in
theorem eX0_caseOf (d : Nat) (a1 : Int32) (a2 : Int64) (x : mj_X) : kX0 (d + 1) 85 [.ref 0, .int a1, .long a2] x = rX0_caseOf d (3, [some (.ref 0), some (.int a1), some (.long a2), none, some (.int a1)], [], x) := (mj_run_to (cd := cdX0) (rt := 1) (tab := tX0_caseOf) (cal := kX0 d) zX0_caseOf 46 (0, [some (.ref 0), some (.int a1), some (.long a2), none, none], [], x)).trans rfl
set_option maxRecDepth 100000 in
set_option maxHeartbeats 4000000 in
theorem bX0_caseOf_3 (d : Nat) (a1 : Int32) (a2 : Int64) (a4 : Int32) (x : mj_X) : rX0_caseOf d (3, [some (.ref 0), some (.int a1), some (.long a2), none, some (.int a4)], [], x) = 
  if a4 = (-1 : Int32) then some (some (.int (-1 : Int32)), x)
  else mj_g a4 4000 (mj_g (x.1 2 a4.toNatClampNeg) 4000 (
   if (x.1 1 (x.1 2 a4.toNatClampNeg).toNatClampNeg) = (83 : Int32) then mj_g a4 4000 (mj_g (x.1 2 a4.toNatClampNeg) 4000 (
    if (lg_cmp (x.1 2 (x.1 2 a4.toNatClampNeg).toNatClampNeg).toInt64 a2) = 0 then mj_g a4 4000 (some (some (.int (x.1 2 a4.toNatClampNeg)), x))
    else mj_g a4 4000 (rX0_caseOf d (3, [some (.ref 0), some (.int a1), some (.long a2), none, some (.int (x.1 3 a4.toNatClampNeg))], [], x))))
   else mj_g a4 4000 (rX0_caseOf d (3, [some (.ref 0), some (.int a1), some (.long a2), none, some (.int (x.1 3 a4.toNatClampNeg))], [], x)))) := (mj_run_to (cd := cdX0) (rt := 1) (tab := tX0_caseOf) (cal := kX0 d) zX0_caseOf 46 (3, [some (.ref 0), some (.int a1), some (.long a2), none, some (.int a4)], [], x)).trans rfl
noncomputable abbrev rX0_leastAbove (d : Nat) : mj_S → mj_R := mj_run cdX0 1 tX0_leastAbove (kX0 d)
def zX0_leastAbove (p : Nat) : Bool := bif Nat.blt p 73 then (bif Nat.beq p 6 then true else false) else (bif Nat.beq p 73 then true else false)
set_option maxRecDepth 100000 in
set_option maxHeartbeats 4000000 in
theorem eX0_leastAbove (d : Nat) (a1 : Int32) (a2 : Int64) (x : mj_X) : kX0 (d + 1) 86 [.ref 0, .int a1, .long a2] x = rX0_leastAbove d (6, [some (.ref 0), some (.int a1), some (.long a2), none, some (.int (-1 : Int32)), some (.int a1), none], [], x) := (mj_run_to (cd := cdX0) (rt := 1) (tab := tX0_leastAbove) (cal := kX0 d) zX0_leastAbove 47 (0, [some (.ref 0), some (.int a1), some (.long a2), none, none, none, none], [], x)).trans rfl
set_option maxRecDepth 100000 in
set_option maxHeartbeats 4000000 in
theorem bX0_leastAbove_6 (d : Nat) (a1 : Int32) (a2 : Int64) (a4 : Int32) (a5 : Int32) (o6 : Option Value) (x : mj_X) : rX0_leastAbove d (6, [some (.ref 0), some (.int a1), some (.long a2), none, some (.int a4), some (.int a5), o6], [], x) = 
  if a5 = (-1 : Int32) then some (some (.int a4), x)
  else mj_g a5 4000 (mj_g (x.1 2 a5.toNatClampNeg) 4000 (
   if (x.1 1 (x.1 2 a5.toNatClampNeg).toNatClampNeg) = (83 : Int32) then mj_g (x.1 2 a5.toNatClampNeg) 4000 (
    if (lg_cmp (x.1 2 (x.1 2 a5.toNatClampNeg).toNatClampNeg).toInt64 a2) ≤ 0 then rX0_leastAbove d (73, [some (.ref 0), some (.int a1), some (.long a2), none, some (.int a4), some (.int a5), some (.int (x.1 2 a5.toNatClampNeg))], [], x)
    else 
     if a4 = (-1 : Int32) then rX0_leastAbove d (73, [some (.ref 0), some (.int a1), some (.long a2), none, some (.int (x.1 2 a5.toNatClampNeg)), some (.int a5), some (.int (x.1 2 a5.toNatClampNeg))], [], x)
     else mj_g (x.1 2 a5.toNatClampNeg) 4000 (mj_g a4 4000 (
      if (x.1 2 a4.toNatClampNeg) ≤ (x.1 2 (x.1 2 a5.toNatClampNeg).toNatClampNeg) then rX0_leastAbove d (73, [some (.ref 0), some (.int a1), some (.long a2), none, some (.int a4), some (.int a5), some (.int (x.1 2 a5.toNatClampNeg))], [], x)
      else rX0_leastAbove d (73, [some (.ref 0), some (.int a1), some (.long a2), none, some (.int (x.1 2 a5.toNatClampNeg)), some (.int a5), some (.int (x.1 2 a5.toNatClampNeg))], [], x))))
   else rX0_leastAbove d (73, [some (.ref 0), some (.int a1), some (.long a2), none, some (.int a4), some (.int a5), some (.int (x.1 2 a5.toNatClampNeg))], [], x))) := (mj_run_to (cd := cdX0) (rt := 1) (tab := tX0_leastAbove) (cal := kX0 d) zX0_leastAbove 47 (6, [some (.ref 0), some (.int a1), some (.long a2), none, some (.int a4), some (.int a5), o6], [], x)).trans rfl
set_option maxRecDepth 100000 in
set_option maxHeartbeats 4000000 in
theorem bX0_leastAbove_73 (d : Nat) (a1 : Int32) (a2 : Int64) (a4 : Int32) (a5 : Int32) (a6 : Int32) (x : mj_X) : rX0_leastAbove d (73, [some (.ref 0), some (.int a1), some (.long a2), none, some (.int a4), some (.int a5), some (.int a6)], [], x) = mj_g a5 4000 (rX0_leastAbove d (6, [some (.ref 0), some (.int a1), some (.long a2), none, some (.int a4), some (.int (x.1 3 a5.toNatClampNeg)), some (.int a6)], [], x)) := (mj_run_to (cd := cdX0) (rt := 1) (tab := tX0_leastAbove) (cal := kX0 d) zX0_leastAbove 47 (73, [some (.ref 0), some (.int a1), some (.long a2), none, some (.int a4), some (.int a5), some (.int a6)], [], x)).trans rfl
noncomputable abbrev rX0_tries (d : Nat) : mj_S → mj_R := mj_run cdX0 0 tX0_tries (kX0 d)
def zX0_tries (p : Nat) : Bool := bif Nat.beq p 63 then true else false
set_option maxRecDepth 100000 in
set_option maxHeartbeats 4000000 in
theorem eX0_tries (d : Nat) (a1 : Int32) (a2 : Int32) (x : mj_X) : kX0 (d + 1) 87 [.ref 0, .int a1, .int a2] x = mj_rI (kX0 d 64 [.ref 0] x) fun v2 x1 =>
  mj_rI (kX0 d 78 [.ref 0, .int (2 : Int32), .int (-1 : Int32)] x1) fun v4 x3 =>
  mj_g v4 2000 (mj_rV (kX0 d 75 [.ref 0, .int a1] x3) fun x5 =>
  mj_rV (kX0 d 82 [.ref 0, .int v4] x5) fun x6 =>
  mj_rV (kX0 d 79 [.ref 0, .int v4] x6) fun x7 =>
  mj_rV (kX0 d 66 [.ref 0, .int v2] x7) fun x8 =>
  mj_rI (kX0 d 88 [.ref 0, .int (x3.1 52 v4.toNatClampNeg)] x8) fun v10 x9 =>
  
  if v10 = 0 then mj_rV (kX0 d 92 [.ref 0, .int (x3.1 52 v4.toNatClampNeg)] x9) fun x11 =>
   mj_rV (kX0 d 70 [.ref 0, .int v2] x11) fun x12 =>
   some (none, x12)
  else 
   if (x9.1 0 29) = 0 then rX0_tries d (63, [some (.ref 0), some (.int a1), some (.int a2), some (.int v2), some (.int v4), some (.int (x3.1 52 v4.toNatClampNeg)), some (.int a2)], [], x9)
   else mj_rV (kX0 d 92 [.ref 0, .int (x3.1 52 v4.toNatClampNeg)] x9) fun x13 =>
    mj_rV (kX0 d 70 [.ref 0, .int v2] x13) fun x14 =>
    some (none, x14)) := (mj_run_to (cd := cdX0) (rt := 0) (tab := tX0_tries) (cal := kX0 d) zX0_tries 51 (0, [some (.ref 0), some (.int a1), some (.int a2), none, none, none, none], [], x)).trans rfl
set_option maxRecDepth 100000 in
set_option maxHeartbeats 4000000 in
theorem bX0_tries_63 (d : Nat) (a1 : Int32) (a2 : Int32) (a3 : Int32) (a4 : Int32) (a5 : Int32) (a6 : Int32) (x : mj_X) : rX0_tries d (63, [some (.ref 0), some (.int a1), some (.int a2), some (.int a3), some (.int a4), some (.int a5), some (.int a6)], [], x) = 
  if a6 = (-1 : Int32) then mj_rV (kX0 d 92 [.ref 0, .int a5] x) fun x1 =>
   mj_rV (kX0 d 70 [.ref 0, .int a3] x1) fun x2 =>
   some (none, x2)
  else mj_g a6 4000 (mj_rV (kX0 d 89 [.ref 0, .int (x.1 2 a6.toNatClampNeg), .int a5] x) fun x3 =>
   mj_rV (kX0 d 66 [.ref 0, .int a3] x3) fun x4 =>
   mj_g a6 4000 (rX0_tries d (63, [some (.ref 0), some (.int a1), some (.int a2), some (.int a3), some (.int a4), some (.int a5), some (.int (x4.1 3 a6.toNatClampNeg))], [], x4))) := (mj_run_to (cd := cdX0) (rt := 0) (tab := tX0_tries) (cal := kX0 d) zX0_tries 51 (63, [some (.ref 0), some (.int a1), some (.int a2), some (.int a3), some (.int a4), some (.int a5), some (.int a6)], [], x)).trans rfl
noncomputable abbrev rX0_hasPieces (d : Nat) : mj_S → mj_R := mj_run cdX0 5 tX0_hasPieces (kX0 d)
def zX0_hasPieces (p : Nat) : Bool := bif Nat.beq p 2 then true else false
set_option maxRecDepth 100000 in
set_option maxHeartbeats 4000000 in
theorem eX0_hasPieces (d : Nat) (a1 : Int32) (x : mj_X) : kX0 (d + 1) 88 [.ref 0, .int a1] x = rX0_hasPieces d (2, [some (.ref 0), some (.int a1), some (.int (0 : Int32))], [], x) := (mj_run_to (cd := cdX0) (rt := 5) (tab := tX0_hasPieces) (cal := kX0 d) zX0_hasPieces 19 (0, [some (.ref 0), some (.int a1), none], [], x)).trans rfl
set_option maxRecDepth 100000 in
set_option maxHeartbeats 4000000 in
theorem bX0_hasPieces_2 (d : Nat) (a1 : Int32) (a2 : Int32) (x : mj_X) : rX0_hasPieces d (2, [some (.ref 0), some (.int a1), some (.int a2)], [], x) = 
  if (x.1 0 65) ≤ a2 then some (some (.int (0 : Int32)), x)
  else mj_g a2 20000 (
   if (x.1 63 a2.toNatClampNeg) = a1 then some (some (.int (1 : Int32)), x)
   else rX0_hasPieces d (2, [some (.ref 0), some (.int a1), some (.int (a2 + (1 : Int32)))], [], x)) := (mj_run_to (cd := cdX0) (rt := 5) (tab := tX0_hasPieces) (cal := kX0 d) zX0_hasPieces 19 (2, [some (.ref 0), some (.int a1), some (.int a2)], [], x)).trans rfl
noncomputable abbrev rX0_handler (d : Nat) : mj_S → mj_R := mj_run cdX0 0 tX0_handler (kX0 d)
def zX0_handler (p : Nat) : Bool := bif Nat.blt p 31 then (bif Nat.beq p 16 then true else false) else (bif Nat.blt p 112 then (bif Nat.beq p 31 then true else false) else (bif Nat.beq p 112 then true else false))
set_option maxRecDepth 100000 in
set_option maxHeartbeats 4000000 in
theorem eX0_handler (d : Nat) (a1 : Int32) (a2 : Int32) (x : mj_X) : kX0 (d + 1) 89 [.ref 0, .int a1, .int a2] x = mj_g a1 4000 (
  if (x.1 1 a1.toNatClampNeg) = (78 : Int32) then rX0_handler d (16, [some (.ref 0), some (.int a1), some (.int a2), none, none, none], [.int (1 : Int32)], x)
  else rX0_handler d (16, [some (.ref 0), some (.int a1), some (.int a2), none, none, none], [.int (0 : Int32)], x)) := (mj_run_to (cd := cdX0) (rt := 0) (tab := tX0_handler) (cal := kX0 d) zX0_handler 50 (0, [some (.ref 0), some (.int a1), some (.int a2), none, none, none], [], x)).trans rfl
set_option maxRecDepth 100000 in
set_option maxHeartbeats 4000000 in
theorem bX0_handler_16 (d : Nat) (a1 : Int32) (a2 : Int32) (s0 : Int32) (x : mj_X) : rX0_handler d (16, [some (.ref 0), some (.int a1), some (.int a2), none, none, none], [.int s0], x) = 
  if s0 = 0 then rX0_handler d (31, [some (.ref 0), some (.int a1), some (.int a2), some (.int s0), none, none], [.int a1], x)
  else mj_g a1 4000 (rX0_handler d (31, [some (.ref 0), some (.int a1), some (.int a2), some (.int s0), none, none], [.int (x.1 3 a1.toNatClampNeg)], x)) := (mj_run_to (cd := cdX0) (rt := 0) (tab := tX0_handler) (cal := kX0 d) zX0_handler 50 (16, [some (.ref 0), some (.int a1), some (.int a2), none, none, none], [.int s0], x)).trans rfl
set_option maxRecDepth 100000 in
set_option maxHeartbeats 4000000 in
theorem bX0_handler_31 (d : Nat) (a1 : Int32) (a2 : Int32) (a3 : Int32) (s0 : Int32) (x : mj_X) : rX0_handler d (31, [some (.ref 0), some (.int a1), some (.int a2), some (.int a3), none, none], [.int s0], x) = mj_g s0 4000 (mj_rV (kX0 d 90 [.ref 0, .int a2, .int (x.1 0 28), .int (x.1 2 s0.toNatClampNeg)] (mj_wI x 0 30 (1 : Int32))) fun x1 =>
  
  if a3 = 0 then mj_rV (kX0 d 37 [.ref 0, .int (87 : Int32)] x1) fun x2 =>
   rX0_handler d (112, [some (.ref 0), some (.int a1), some (.int a2), some (.int a3), some (.int s0), some (.int (x1.1 0 32))], [], x2)
  else mj_rV (kX0 d 54 [.ref 0, .int (72 : Int32), .long (0 : Int64)] x1) fun x3 =>
   mj_g a1 4000 (mj_rI (kX0 d 33 [.ref 0, .int (1 : Int32)] x3) fun v5 x4 =>
   mj_g (x3.1 2 a1.toNatClampNeg) 4000 (mj_g a1 4000 (mj_g (x4.1 2 a1.toNatClampNeg) 4000 (mj_rV (kX0 d 39 [.ref 0, .int (1 : Int32), .int ((mj_wI x4 35 (x3.1 2 a1.toNatClampNeg).toNatClampNeg v5).1 35 (x4.1 2 a1.toNatClampNeg).toNatClampNeg)] (mj_wI x4 35 (x3.1 2 a1.toNatClampNeg).toNatClampNeg v5)) fun x6 =>
   rX0_handler d (112, [some (.ref 0), some (.int a1), some (.int a2), some (.int a3), some (.int s0), some (.int (x1.1 0 32))], [], x6)))))) := (mj_run_to (cd := cdX0) (rt := 0) (tab := tX0_handler) (cal := kX0 d) zX0_handler 50 (31, [some (.ref 0), some (.int a1), some (.int a2), some (.int a3), none, none], [.int s0], x)).trans rfl
set_option maxRecDepth 100000 in
set_option maxHeartbeats 4000000 in
theorem bX0_handler_112 (d : Nat) (a1 : Int32) (a2 : Int32) (a3 : Int32) (a4 : Int32) (a5 : Int32) (x : mj_X) : rX0_handler d (112, [some (.ref 0), some (.int a1), some (.int a2), some (.int a3), some (.int a4), some (.int a5)], [], x) = mj_g a4 4000 (mj_rV (kX0 d 75 [.ref 0, .int (x.1 3 a4.toNatClampNeg)] x) fun x1 =>
  some (none, (mj_wI x1 0 32 a5))) := (mj_run_to (cd := cdX0) (rt := 0) (tab := tX0_handler) (cal := kX0 d) zX0_handler 50 (112, [some (.ref 0), some (.int a1), some (.int a2), some (.int a3), some (.int a4), some (.int a5)], [], x)).trans rfl
noncomputable abbrev rX0_register (d : Nat) : mj_S → mj_R := mj_run cdX0 0 tX0_register (kX0 d)
def zX0_register (p : Nat) : Bool := bif Nat.beq p 3 then true else false
set_option maxRecDepth 100000 in
set_option maxHeartbeats 4000000 in
theorem eX0_register (d : Nat) (a1 : Int32) (a2 : Int32) (a3 : Int32) (x : mj_X) : kX0 (d + 1) 90 [.ref 0, .int a1, .int a2, .int a3] x = rX0_register d (3, [some (.ref 0), some (.int a1), some (.int a2), some (.int a3), some (.int (0 : Int32))], [], x) := (mj_run_to (cd := cdX0) (rt := 0) (tab := tX0_register) (cal := kX0 d) zX0_register 31 (0, [some (.ref 0), some (.int a1), some (.int a2), some (.int a3), none], [], x)).trans rfl
set_option maxRecDepth 100000 in
set_option maxHeartbeats 4000000 in
theorem bX0_register_3 (d : Nat) (a1 : Int32) (a2 : Int32) (a3 : Int32) (a4 : Int32) (x : mj_X) : rX0_register d (3, [some (.ref 0), some (.int a1), some (.int a2), some (.int a3), some (.int a4)], [], x) = 
  if (x.1 0 65) ≤ a4 then some (none, x)
  else mj_g a4 20000 (
   if (x.1 63 a4.toNatClampNeg) = a1 then mj_g a4 20000 (mj_g a4 20000 (mj_rV (kX0 d 91 [.ref 0, .int (x.1 64 a4.toNatClampNeg), .int (x.1 65 a4.toNatClampNeg), .int a2, .int a3] x) fun x1 =>
    rX0_register d (3, [some (.ref 0), some (.int a1), some (.int a2), some (.int a3), some (.int (a4 + (1 : Int32)))], [], x1)))
   else rX0_register d (3, [some (.ref 0), some (.int a1), some (.int a2), some (.int a3), some (.int (a4 + (1 : Int32)))], [], x)) := (mj_run_to (cd := cdX0) (rt := 0) (tab := tX0_register) (cal := kX0 d) zX0_register 31 (3, [some (.ref 0), some (.int a1), some (.int a2), some (.int a3), some (.int a4)], [], x)).trans rfl
noncomputable abbrev rX0_range (d : Nat) : mj_S → mj_R := mj_run cdX0 0 tX0_range (kX0 d)
def zX0_range (p : Nat) : Bool := false
set_option maxRecDepth 100000 in
set_option maxHeartbeats 4000000 in
theorem eX0_range (d : Nat) (a1 : Int32) (a2 : Int32) (a3 : Int32) (a4 : Int32) (x : mj_X) : kX0 (d + 1) 91 [.ref 0, .int a1, .int a2, .int a3, .int a4] x = 
  if (x.1 0 45) = (20000 : Int32) then some (none, (mj_wI x 0 29 (1 : Int32)))
  else mj_g ((4 : Int32) * (x.1 0 45)) 80000 (mj_g (((4 : Int32) * (x.1 0 45)) + (1 : Int32)) 80000 (mj_g (((4 : Int32) * (x.1 0 45)) + (2 : Int32)) 80000 (mj_g (((4 : Int32) * (x.1 0 45)) + (3 : Int32)) 80000 (some (none, (mj_wI (mj_wI (mj_wI (mj_wI (mj_wI x 22 ((4 : Int32) * (x.1 0 45)).toNatClampNeg a1) 22 (((4 : Int32) * (x.1 0 45)) + (1 : Int32)).toNatClampNeg a2) 22 (((4 : Int32) * (x.1 0 45)) + (2 : Int32)).toNatClampNeg a3) 22 (((4 : Int32) * (x.1 0 45)) + (3 : Int32)).toNatClampNeg a4) 0 45 ((x.1 0 45) + (1 : Int32)))))))) := (mj_run_to (cd := cdX0) (rt := 0) (tab := tX0_range) (cal := kX0 d) zX0_range 55 (0, [some (.ref 0), some (.int a1), some (.int a2), some (.int a3), some (.int a4)], [], x)).trans rfl
noncomputable abbrev rX0_forget (d : Nat) : mj_S → mj_R := mj_run cdX0 0 tX0_forget (kX0 d)
def zX0_forget (p : Nat) : Bool := bif Nat.beq p 4 then true else false
set_option maxRecDepth 100000 in
set_option maxHeartbeats 4000000 in
theorem eX0_forget (d : Nat) (a1 : Int32) (x : mj_X) : kX0 (d + 1) 92 [.ref 0, .int a1] x = rX0_forget d (4, [some (.ref 0), some (.int a1), some (.int (0 : Int32)), some (.int (0 : Int32))], [], x) := (mj_run_to (cd := cdX0) (rt := 0) (tab := tX0_forget) (cal := kX0 d) zX0_forget 47 (0, [some (.ref 0), some (.int a1), none, none], [], x)).trans rfl
set_option maxRecDepth 100000 in
set_option maxHeartbeats 4000000 in
theorem bX0_forget_4 (d : Nat) (a1 : Int32) (a2 : Int32) (a3 : Int32) (x : mj_X) : rX0_forget d (4, [some (.ref 0), some (.int a1), some (.int a2), some (.int a3)], [], x) = 
  if (x.1 0 65) ≤ a3 then some (none, (mj_wI x 0 65 a2))
  else mj_g a3 20000 (
   if (x.1 63 a3.toNatClampNeg) = a1 then rX0_forget d (4, [some (.ref 0), some (.int a1), some (.int a2), some (.int (a3 + (1 : Int32)))], [], x)
   else mj_g a3 20000 (mj_g a2 20000 (mj_g a3 20000 (mj_g a2 20000 (mj_g a3 20000 (mj_g a2 20000 (rX0_forget d (4, [some (.ref 0), some (.int a1), some (.int (a2 + (1 : Int32))), some (.int (a3 + (1 : Int32)))], [], (mj_wI (mj_wI (mj_wI x 63 a2.toNatClampNeg (x.1 63 a3.toNatClampNeg)) 64 a2.toNatClampNeg (x.1 64 a3.toNatClampNeg)) 65 a2.toNatClampNeg (x.1 65 a3.toNatClampNeg)))))))))) := (mj_run_to (cd := cdX0) (rt := 0) (tab := tX0_forget) (cal := kX0 d) zX0_forget 47 (4, [some (.ref 0), some (.int a1), some (.int a2), some (.int a3)], [], x)).trans rfl
noncomputable abbrev rX0_guarded (d : Nat) : mj_S → mj_R := mj_run cdX0 0 tX0_guarded (kX0 d)
def zX0_guarded (p : Nat) : Bool := bif Nat.blt p 92 then (bif Nat.blt p 71 then (bif Nat.beq p 16 then true else false) else (bif Nat.beq p 71 then true else false)) else (bif Nat.blt p 126 then (bif Nat.beq p 92 then true else false) else (bif Nat.blt p 261 then (bif Nat.beq p 126 then true else false) else (bif Nat.beq p 261 then true else false)))
set_option maxRecDepth 100000 in
set_option maxHeartbeats 4000000 in
theorem eX0_guarded (d : Nat) (a1 : Int32) (a2 : Int32) (a3 : Int32) (x : mj_X) : kX0 (d + 1) 93 [.ref 0, .int a1, .int a2, .int a3] x = mj_g a1 4000 (
  if (x.1 1 a1.toNatClampNeg) = (80 : Int32) then rX0_guarded d (16, [some (.ref 0), some (.int a1), some (.int a2), some (.int a3), none, none, none, none, none, none, none, none, none, none], [.int (1 : Int32)], x)
  else rX0_guarded d (16, [some (.ref 0), some (.int a1), some (.int a2), some (.int a3), none, none, none, none, none, none, none, none, none, none], [.int (0 : Int32)], x)) := (mj_run_to (cd := cdX0) (rt := 0) (tab := tX0_guarded) (cal := kX0 d) zX0_guarded 81 (0, [some (.ref 0), some (.int a1), some (.int a2), some (.int a3), none, none, none, none, none, none, none, none, none, none], [], x)).trans rfl
set_option maxRecDepth 100000 in
set_option maxHeartbeats 4000000 in
theorem bX0_guarded_16 (d : Nat) (a1 : Int32) (a2 : Int32) (a3 : Int32) (s0 : Int32) (x : mj_X) : rX0_guarded d (16, [some (.ref 0), some (.int a1), some (.int a2), some (.int a3), none, none, none, none, none, none, none, none, none, none], [.int s0], x) = mj_rI (kX0 d 64 [.ref 0] x) fun v2 x1 =>
  
  if s0 = 0 then rX0_guarded d (71, [some (.ref 0), some (.int a1), some (.int a2), some (.int a3), some (.int s0), some (.int v2), some (.int (x1.1 0 32)), some (.int (-1 : Int32)), none, none, none, none, none, none], [], x1)
  else mj_rV (kX0 d 35 [.ref 0, .int a2, .int (1 : Int32)] x1) fun x3 =>
   mj_rV (kX0 d 37 [.ref 0, .int (89 : Int32)] x3) fun x4 =>
   mj_rI (kX0 d 33 [.ref 0, .int (5 : Int32)] x4) fun v6 x5 =>
   mj_rV (kX0 d 39 [.ref 0, .int (5 : Int32), .int v6] x5) fun x7 =>
   mj_rV (kX0 d 37 [.ref 0, .int (194 : Int32)] x7) fun x8 =>
   rX0_guarded d (71, [some (.ref 0), some (.int a1), some (.int a2), some (.int a3), some (.int s0), some (.int v2), some (.int (x1.1 0 32)), some (.int v6), none, none, none, none, none, none], [], x8) := (mj_run_to (cd := cdX0) (rt := 0) (tab := tX0_guarded) (cal := kX0 d) zX0_guarded 81 (16, [some (.ref 0), some (.int a1), some (.int a2), some (.int a3), none, none, none, none, none, none, none, none, none, none], [.int s0], x)).trans rfl
set_option maxRecDepth 100000 in
set_option maxHeartbeats 4000000 in
theorem bX0_guarded_71 (d : Nat) (a1 : Int32) (a2 : Int32) (a3 : Int32) (a4 : Int32) (a5 : Int32) (a6 : Int32) (a7 : Int32) (x : mj_X) : rX0_guarded d (71, [some (.ref 0), some (.int a1), some (.int a2), some (.int a3), some (.int a4), some (.int a5), some (.int a6), some (.int a7), none, none, none, none, none, none], [], x) = 
  if a4 = 0 then 
   if a4 = 0 then rX0_guarded d (92, [some (.ref 0), some (.int a1), some (.int a2), some (.int a3), some (.int a4), some (.int a5), some (.int a6), some (.int a7), none, none, none, none, none, none], [.int a3, .int (3 : Int32), .ref 0], x)
   else rX0_guarded d (92, [some (.ref 0), some (.int a1), some (.int a2), some (.int a3), some (.int a4), some (.int a5), some (.int a6), some (.int a7), none, none, none, none, none, none], [.int (-1 : Int32), .int (3 : Int32), .ref 0], x)
  else 
   if a4 = 0 then rX0_guarded d (92, [some (.ref 0), some (.int a1), some (.int a2), some (.int a3), some (.int a4), some (.int a5), some (.int a6), some (.int a7), none, none, none, none, none, none], [.int a3, .int (4 : Int32), .ref 0], x)
   else rX0_guarded d (92, [some (.ref 0), some (.int a1), some (.int a2), some (.int a3), some (.int a4), some (.int a5), some (.int a6), some (.int a7), none, none, none, none, none, none], [.int (-1 : Int32), .int (4 : Int32), .ref 0], x) := (mj_run_to (cd := cdX0) (rt := 0) (tab := tX0_guarded) (cal := kX0 d) zX0_guarded 81 (71, [some (.ref 0), some (.int a1), some (.int a2), some (.int a3), some (.int a4), some (.int a5), some (.int a6), some (.int a7), none, none, none, none, none, none], [], x)).trans rfl
set_option maxRecDepth 100000 in
set_option maxHeartbeats 4000000 in
theorem bX0_guarded_92 (d : Nat) (a1 : Int32) (a2 : Int32) (a3 : Int32) (a4 : Int32) (a5 : Int32) (a6 : Int32) (a7 : Int32) (s1 : Int32) (s2 : Int32) (x : mj_X) : rX0_guarded d (92, [some (.ref 0), some (.int a1), some (.int a2), some (.int a3), some (.int a4), some (.int a5), some (.int a6), some (.int a7), none, none, none, none, none, none], [.int s2, .int s1, .ref 0], x) = mj_rI (kX0 d 78 [.ref 0, .int s1, .int s2] x) fun v2 x1 =>
  mj_g v2 2000 (mj_g v2 2000 (
  if a4 = 0 then rX0_guarded d (126, [some (.ref 0), some (.int a1), some (.int a2), some (.int a3), some (.int a4), some (.int a5), some (.int a6), some (.int a7), some (.int v2), some (.int (x1.1 52 v2.toNatClampNeg)), none, none, none, none], [.int a2, .ref 0], (mj_wI x1 57 v2.toNatClampNeg a7))
  else rX0_guarded d (126, [some (.ref 0), some (.int a1), some (.int a2), some (.int a3), some (.int a4), some (.int a5), some (.int a6), some (.int a7), some (.int v2), some (.int (x1.1 52 v2.toNatClampNeg)), none, none, none, none], [.int a3, .ref 0], (mj_wI x1 57 v2.toNatClampNeg a7)))) := (mj_run_to (cd := cdX0) (rt := 0) (tab := tX0_guarded) (cal := kX0 d) zX0_guarded 81 (92, [some (.ref 0), some (.int a1), some (.int a2), some (.int a3), some (.int a4), some (.int a5), some (.int a6), some (.int a7), none, none, none, none, none, none], [.int s2, .int s1, .ref 0], x)).trans rfl
set_option maxRecDepth 100000 in
set_option maxHeartbeats 4000000 in
theorem bX0_guarded_126 (d : Nat) (a1 : Int32) (a2 : Int32) (a3 : Int32) (a4 : Int32) (a5 : Int32) (a6 : Int32) (a7 : Int32) (a8 : Int32) (a9 : Int32) (s1 : Int32) (x : mj_X) : rX0_guarded d (126, [some (.ref 0), some (.int a1), some (.int a2), some (.int a3), some (.int a4), some (.int a5), some (.int a6), some (.int a7), some (.int a8), some (.int a9), none, none, none, none], [.int s1, .ref 0], x) = mj_rV (kX0 d 75 [.ref 0, .int s1] x) fun x1 =>
  mj_rV (kX0 d 82 [.ref 0, .int a8] x1) fun x2 =>
  mj_rV (kX0 d 79 [.ref 0, .int a8] x2) fun x3 =>
  mj_rV (kX0 d 83 [.ref 0, .int a8, .int a4, .int a7, .int a3] x3) fun x4 =>
  mj_rV (kX0 d 66 [.ref 0, .int a5] x4) fun x5 =>
  mj_rI (kX0 d 88 [.ref 0, .int a9] x5) fun v7 x6 =>
  
  if v7 = 0 then rX0_guarded d (261, [some (.ref 0), some (.int a1), some (.int a2), some (.int a3), some (.int a4), some (.int a5), some (.int a6), some (.int a7), some (.int a8), some (.int a9), none, none, none, none], [], x6)
  else 
   if (x6.1 0 29) = 0 then mj_rV (kX0 d 90 [.ref 0, .int a9, .int (x6.1 0 28), .int (0 : Int32)] (mj_wI x6 0 30 (1 : Int32))) fun x8 =>
    mj_rI (kX0 d 33 [.ref 0, .int (5 : Int32)] x8) fun v10 x9 =>
    mj_rV (kX0 d 39 [.ref 0, .int (5 : Int32), .int v10] x9) fun x11 =>
    mj_rV (kX0 d 83 [.ref 0, .int a8, .int a4, .int a7, .int a3] x11) fun x12 =>
    
    if a4 = 0 then mj_rV (kX0 d 94 [.ref 0, .int v10] x12) fun x13 =>
     rX0_guarded d (261, [some (.ref 0), some (.int a1), some (.int a2), some (.int a3), some (.int a4), some (.int a5), some (.int a6), some (.int a7), some (.int a8), some (.int a9), some (.int (x6.1 0 28)), some (.int (x8.1 0 32)), some (.int v10), some (.int (x11.1 0 28))], [], (mj_wI x13 0 32 (x8.1 0 32)))
    else mj_rV (kX0 d 91 [.ref 0, .int (x11.1 0 28), .int (x12.1 0 28), .int (x6.1 0 28), .int (0 : Int32)] x12) fun x14 =>
     mj_rV (kX0 d 94 [.ref 0, .int v10] x14) fun x15 =>
     rX0_guarded d (261, [some (.ref 0), some (.int a1), some (.int a2), some (.int a3), some (.int a4), some (.int a5), some (.int a6), some (.int a7), some (.int a8), some (.int a9), some (.int (x6.1 0 28)), some (.int (x8.1 0 32)), some (.int v10), some (.int (x11.1 0 28))], [], (mj_wI x15 0 32 (x8.1 0 32)))
   else rX0_guarded d (261, [some (.ref 0), some (.int a1), some (.int a2), some (.int a3), some (.int a4), some (.int a5), some (.int a6), some (.int a7), some (.int a8), some (.int a9), none, none, none, none], [], x6) := (mj_run_to (cd := cdX0) (rt := 0) (tab := tX0_guarded) (cal := kX0 d) zX0_guarded 81 (126, [some (.ref 0), some (.int a1), some (.int a2), some (.int a3), some (.int a4), some (.int a5), some (.int a6), some (.int a7), some (.int a8), some (.int a9), none, none, none, none], [.int s1, .ref 0], x)).trans rfl
set_option maxRecDepth 100000 in
set_option maxHeartbeats 4000000 in
theorem bX0_guarded_261 (d : Nat) (a1 : Int32) (a2 : Int32) (a3 : Int32) (a4 : Int32) (a5 : Int32) (a6 : Int32) (a7 : Int32) (a8 : Int32) (a9 : Int32) (o10 : Option Value) (o11 : Option Value) (o12 : Option Value) (o13 : Option Value) (x : mj_X) : rX0_guarded d (261, [some (.ref 0), some (.int a1), some (.int a2), some (.int a3), some (.int a4), some (.int a5), some (.int a6), some (.int a7), some (.int a8), some (.int a9), o10, o11, o12, o13], [], x) = mj_rV (kX0 d 92 [.ref 0, .int a9] x) fun x1 =>
  mj_rV (kX0 d 70 [.ref 0, .int a5] (mj_wI x1 0 32 a6)) fun x2 =>
  some (none, x2) := (mj_run_to (cd := cdX0) (rt := 0) (tab := tX0_guarded) (cal := kX0 d) zX0_guarded 81 (261, [some (.ref 0), some (.int a1), some (.int a2), some (.int a3), some (.int a4), some (.int a5), some (.int a6), some (.int a7), some (.int a8), some (.int a9), o10, o11, o12, o13], [], x)).trans rfl
