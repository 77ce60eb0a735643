noncomputable abbrev rX0_node (d : Nat) : mj_S → mj_R := mj_run cdX0 1 tX0_node (kX0 d)
def zX0_node (p : Nat) : Bool := bif Nat.blt p 126 then (bif Nat.blt p 84 then (bif Nat.beq p 57 then true else false) else (bif Nat.beq p 84 then true else false)) else (bif Nat.blt p 145 then (bif Nat.beq p 126 then true else false) else (bif Nat.beq p 145 then true else false))
set_option maxRecDepth 100000 in
set_option maxHeartbeats 4000000 in
theorem eX0_node (d : Nat) (a1 : Int32) (a2 : Int32) (a3 : Int32) (x : mj_X) : kX0 (d + 1) 0 [.ref 0, .int a1, .int a2, .int a3] x = mj_rI (kX0 d 1 [.int a1] x) fun v2 x1 =>
  
  if v2 = 0 then some (some (.int (-1 : Int32)), x1)
  else mj_rI (kX0 d 3 [.ref 0, .int a1, .int a2, .int a3] x1) fun v4 x3 =>
   
   if v4 = (-1 : Int32) then some (some (.int (-2 : Int32)), x3)
   else mj_rI (kX0 d 21 [.int a1] x3) fun v6 x5 =>
    
    if v6 = 0 then rX0_node d (57, [some (.ref 0), some (.int a1), some (.int a2), some (.int a3), some (.int v4), some (.int (1 : Int32)), none], [], x5)
    else 
     if a2 = (-1 : Int32) then rX0_node d (57, [some (.ref 0), some (.int a1), some (.int a2), some (.int a3), some (.int v4), some (.int (1 : Int32)), none], [], x5)
     else mj_g a2 4000 (rX0_node d (57, [some (.ref 0), some (.int a1), some (.int a2), some (.int a3), some (.int v4), some (.int (mj_max (1 : Int32) ((x5.1 5 a2.toNatClampNeg) + (1 : Int32)))), none], [], x5)) := (mj_run_to (cd := cdX0) (rt := 1) (tab := tX0_node) (cal := kX0 d) zX0_node 45 (0, [some (.ref 0), some (.int a1), some (.int a2), some (.int a3), none, none, none], [], x)).trans rfl
set_option maxRecDepth 100000 in
set_option maxHeartbeats 4000000 in
theorem bX0_node_57 (d : Nat) (a1 : Int32) (a2 : Int32) (a3 : Int32) (a4 : Int32) (a5 : Int32) (x : mj_X) : rX0_node d (57, [some (.ref 0), some (.int a1), some (.int a2), some (.int a3), some (.int a4), some (.int a5), none], [], x) = mj_rI (kX0 d 22 [.int a1] x) fun v2 x1 =>
  
  if v2 = 0 then rX0_node d (84, [some (.ref 0), some (.int a1), some (.int a2), some (.int a3), some (.int a4), some (.int a5), none], [], x1)
  else 
   if a3 = (-1 : Int32) then rX0_node d (84, [some (.ref 0), some (.int a1), some (.int a2), some (.int a3), some (.int a4), some (.int a5), none], [], x1)
   else mj_g a3 4000 (rX0_node d (84, [some (.ref 0), some (.int a1), some (.int a2), some (.int a3), some (.int a4), some (.int (mj_max a5 ((x1.1 5 a3.toNatClampNeg) + (1 : Int32)))), none], [], x1)) := (mj_run_to (cd := cdX0) (rt := 1) (tab := tX0_node) (cal := kX0 d) zX0_node 45 (57, [some (.ref 0), some (.int a1), some (.int a2), some (.int a3), some (.int a4), some (.int a5), none], [], x)).trans rfl
set_option maxRecDepth 100000 in
set_option maxHeartbeats 4000000 in
theorem bX0_node_84 (d : Nat) (a1 : Int32) (a2 : Int32) (a3 : Int32) (a4 : Int32) (a5 : Int32) (x : mj_X) : rX0_node d (84, [some (.ref 0), some (.int a1), some (.int a2), some (.int a3), some (.int a4), some (.int a5), none], [], x) = 
  if a5 ≤ (40 : Int32) then 
   if (x.1 0 6) = (4000 : Int32) then some (some (.int (-4 : Int32)), x)
   else mj_rI (kX0 d 21 [.int a1] x) fun v2 x1 =>
    
    if v2 = 0 then rX0_node d (126, [some (.ref 0), some (.int a1), some (.int a2), some (.int a3), some (.int a4), some (.int a5), none], [], x1)
    else 
     if a2 = (-1 : Int32) then rX0_node d (126, [some (.ref 0), some (.int a1), some (.int a2), some (.int a3), some (.int a4), some (.int a5), none], [], x1)
     else mj_g a2 4000 (rX0_node d (126, [some (.ref 0), some (.int a1), some (.int a2), some (.int a3), some (.int a4), some (.int a5), none], [], (mj_wI x1 6 a2.toNatClampNeg (1 : Int32))))
  else some (some (.int (-3 : Int32)), x) := (mj_run_to (cd := cdX0) (rt := 1) (tab := tX0_node) (cal := kX0 d) zX0_node 45 (84, [some (.ref 0), some (.int a1), some (.int a2), some (.int a3), some (.int a4), some (.int a5), none], [], x)).trans rfl
set_option maxRecDepth 100000 in
set_option maxHeartbeats 4000000 in
theorem bX0_node_126 (d : Nat) (a1 : Int32) (a2 : Int32) (a3 : Int32) (a4 : Int32) (a5 : Int32) (x : mj_X) : rX0_node d (126, [some (.ref 0), some (.int a1), some (.int a2), some (.int a3), some (.int a4), some (.int a5), none], [], x) = mj_rI (kX0 d 22 [.int a1] x) fun v2 x1 =>
  
  if v2 = 0 then rX0_node d (145, [some (.ref 0), some (.int a1), some (.int a2), some (.int a3), some (.int a4), some (.int a5), none], [], x1)
  else 
   if a3 = (-1 : Int32) then rX0_node d (145, [some (.ref 0), some (.int a1), some (.int a2), some (.int a3), some (.int a4), some (.int a5), none], [], x1)
   else mj_g a3 4000 (rX0_node d (145, [some (.ref 0), some (.int a1), some (.int a2), some (.int a3), some (.int a4), some (.int a5), none], [], (mj_wI x1 6 a3.toNatClampNeg (1 : Int32)))) := (mj_run_to (cd := cdX0) (rt := 1) (tab := tX0_node) (cal := kX0 d) zX0_node 45 (126, [some (.ref 0), some (.int a1), some (.int a2), some (.int a3), some (.int a4), some (.int a5), none], [], x)).trans rfl
set_option maxRecDepth 100000 in
set_option maxHeartbeats 4000000 in
theorem bX0_node_145 (d : Nat) (a1 : Int32) (a2 : Int32) (a3 : Int32) (a4 : Int32) (a5 : Int32) (x : mj_X) : rX0_node d (145, [some (.ref 0), some (.int a1), some (.int a2), some (.int a3), some (.int a4), some (.int a5), none], [], x) = mj_g (x.1 0 6) 4000 (mj_g (x.1 0 6) 4000 (mj_g (x.1 0 6) 4000 (mj_g (x.1 0 6) 4000 (mj_g (x.1 0 6) 4000 (mj_g (x.1 0 6) 4000 (some (some (.int (x.1 0 6)), (mj_wI (mj_wI (mj_wI (mj_wI (mj_wI (mj_wI (mj_wI x 0 6 ((x.1 0 6) + (1 : Int32))) 1 (x.1 0 6).toNatClampNeg a1.toInt8.toInt32.toInt8.toInt32) 2 (x.1 0 6).toNatClampNeg a2) 3 (x.1 0 6).toNatClampNeg a3) 4 (x.1 0 6).toNatClampNeg a4.toInt8.toInt32.toInt8.toInt32) 5 (x.1 0 6).toNatClampNeg a5.toInt8.toInt32.toInt8.toInt32) 6 (x.1 0 6).toNatClampNeg (0 : Int32))))))))) := (mj_run_to (cd := cdX0) (rt := 1) (tab := tX0_node) (cal := kX0 d) zX0_node 45 (145, [some (.ref 0), some (.int a1), some (.int a2), some (.int a3), some (.int a4), some (.int a5), none], [], x)).trans rfl
noncomputable abbrev rX0_isKind (d : Nat) : mj_S → mj_R := mj_run cdX0 5 tX0_isKind (kX0 d)
def zX0_isKind (p : Nat) : Bool := false
set_option maxRecDepth 100000 in
set_option maxHeartbeats 4000000 in
theorem eX0_isKind (d : Nat) (a0 : Int32) (x : mj_X) : kX0 (d + 1) 1 [.int a0] x = mj_rI (kX0 d 2 [.long a0.toInt64, .long (1 : Int64), .long (49 : Int64)] x) fun v2 x1 =>
  
  if v2 = 0 then 
   if a0 = (51 : Int32) then some (some (.int (1 : Int32)), x1)
   else mj_rI (kX0 d 2 [.long a0.toInt64, .long (60 : Int64), .long (86 : Int64)] x1) fun v4 x3 =>
    
    if v4 = 0 then some (some (.int (0 : Int32)), x3)
    else some (some (.int (1 : Int32)), x3)
  else some (some (.int (1 : Int32)), x1) := (mj_run_to (cd := cdX0) (rt := 5) (tab := tX0_isKind) (cal := kX0 d) zX0_isKind 28 (0, [some (.int a0)], [], x)).trans rfl
noncomputable abbrev rX0_isIn (d : Nat) : mj_S → mj_R := mj_run cdX0 5 tX0_isIn (kX0 d)
def zX0_isIn (p : Nat) : Bool := false
set_option maxRecDepth 100000 in
set_option maxHeartbeats 4000000 in
theorem eX0_isIn (d : Nat) (a0 : Int64) (a2 : Int64) (a4 : Int64) (x : mj_X) : kX0 (d + 1) 2 [.long a0, .long a2, .long a4] x = 
  if (lg_cmp a0 a2) < 0 then some (some (.int (0 : Int32)), x)
  else 
   if 0 < (lg_cmp a0 a4) then some (some (.int (0 : Int32)), x)
   else some (some (.int (1 : Int32)), x) := (mj_run_to (cd := cdX0) (rt := 5) (tab := tX0_isIn) (cal := kX0 d) zX0_isIn 17 (0, [some (.long a0), none, some (.long a2), none, some (.long a4), none], [], x)).trans rfl
noncomputable abbrev rX0_typeOf (d : Nat) : mj_S → mj_R := mj_run cdX0 1 tX0_typeOf (kX0 d)
def zX0_typeOf (p : Nat) : Bool := bif Nat.blt p 603 then (bif Nat.blt p 421 then (bif Nat.blt p 385 then (bif Nat.blt p 372 then (bif Nat.beq p 10 then true else false) else (bif Nat.blt p 383 then (bif Nat.beq p 372 then true else false) else (bif Nat.beq p 383 then true else false))) else (bif Nat.blt p 396 then (bif Nat.beq p 385 then true else false) else (bif Nat.blt p 398 then (bif Nat.beq p 396 then true else false) else (bif Nat.beq p 398 then true else false)))) else (bif Nat.blt p 503 then (bif Nat.blt p 446 then (bif Nat.beq p 421 then true else false) else (bif Nat.blt p 470 then (bif Nat.beq p 446 then true else false) else (bif Nat.beq p 470 then true else false))) else (bif Nat.blt p 539 then (bif Nat.beq p 503 then true else false) else (bif Nat.blt p 579 then (bif Nat.beq p 539 then true else false) else (bif Nat.beq p 579 then true else false))))) else (bif Nat.blt p 768 then (bif Nat.blt p 681 then (bif Nat.blt p 637 then (bif Nat.beq p 603 then true else false) else (bif Nat.blt p 652 then (bif Nat.beq p 637 then true else false) else (bif Nat.beq p 652 then true else false))) else (bif Nat.blt p 701 then (bif Nat.beq p 681 then true else false) else (bif Nat.blt p 731 then (bif Nat.beq p 701 then true else false) else (bif Nat.beq p 731 then true else false)))) else (bif Nat.blt p 847 then (bif Nat.blt p 799 then (bif Nat.beq p 768 then true else false) else (bif Nat.blt p 828 then (bif Nat.beq p 799 then true else false) else (bif Nat.beq p 828 then true else false))) else (bif Nat.blt p 901 then (bif Nat.blt p 867 then (bif Nat.beq p 847 then true else false) else (bif Nat.beq p 867 then true else false)) else (bif Nat.blt p 931 then (bif Nat.beq p 901 then true else false) else (bif Nat.beq p 931 then true else false)))))
set_option maxRecDepth 100000 in
set_option maxHeartbeats 4000000 in
theorem eX0_typeOf (d : Nat) (a1 : Int32) (a2 : Int32) (a3 : Int32) (x : mj_X) : kX0 (d + 1) 3 [.ref 0, .int a1, .int a2, .int a3] x = 
  if a3 = (-1 : Int32) then rX0_typeOf d (10, [some (.ref 0), some (.int a1), some (.int a2), some (.int a3), none, none], [.int (1 : Int32)], x)
  else rX0_typeOf d (10, [some (.ref 0), some (.int a1), some (.int a2), some (.int a3), none, none], [.int (0 : Int32)], x) := (mj_run_to (cd := cdX0) (rt := 1) (tab := tX0_typeOf) (cal := kX0 d) zX0_typeOf 94 (0, [some (.ref 0), some (.int a1), some (.int a2), some (.int a3), none, none], [], x)).trans rfl
set_option maxRecDepth 100000 in
set_option maxHeartbeats 4000000 in
theorem bX0_typeOf_10 (d : Nat) (a1 : Int32) (a2 : Int32) (a3 : Int32) (s0 : Int32) (x : mj_X) : rX0_typeOf d (10, [some (.ref 0), some (.int a1), some (.int a2), some (.int a3), none, none], [.int s0], x) = mj_sw a1 1 (918) [359, 370, 372, 383, 385, 433, 457, 490, 526, 918, 918, 918, 918, 918, 918, 918, 918, 918, 918, 918, 566, 590, 918, 918, 918, 918, 918, 918, 639, 639, 668, 688, 718, 755, 918, 918, 918, 918, 918, 918, 918, 918, 918, 918, 918, 786, 815, 834, 854, 918, 408, 918, 918, 918, 918, 918, 918, 918, 918, 918, 918, 918, 918, 918, 918, 918, 918, 918, 918, 918, 918, 918, 918, 918, 918, 918, 918, 918, 918, 918, 918, 918, 918, 918, 918, 888] fun off => mj_j 13 off fun t => rX0_typeOf d (t, [some (.ref 0), some (.int a1), some (.int a2), some (.int a3), some (.int s0), none], [], x) := (mj_run_to (cd := cdX0) (rt := 1) (tab := tX0_typeOf) (cal := kX0 d) zX0_typeOf 94 (10, [some (.ref 0), some (.int a1), some (.int a2), some (.int a3), none, none], [.int s0], x)).trans rfl
set_option maxRecDepth 100000 in
set_option maxHeartbeats 4000000 in
theorem bX0_typeOf_372 (d : Nat) (a1 : Int32) (a2 : Int32) (a3 : Int32) (a4 : Int32) (x : mj_X) : rX0_typeOf d (372, [some (.ref 0), some (.int a1), some (.int a2), some (.int a3), some (.int a4), none], [], x) = 
  if a4 = 0 then some (some (.int (-1 : Int32)), x)
  else some (some (.int (1 : Int32)), x) := (mj_run_to (cd := cdX0) (rt := 1) (tab := tX0_typeOf) (cal := kX0 d) zX0_typeOf 94 (372, [some (.ref 0), some (.int a1), some (.int a2), some (.int a3), some (.int a4), none], [], x)).trans rfl
set_option maxRecDepth 100000 in
set_option maxHeartbeats 4000000 in
theorem bX0_typeOf_383 (d : Nat) (a1 : Int32) (a2 : Int32) (a3 : Int32) (a4 : Int32) (x : mj_X) : rX0_typeOf d (383, [some (.ref 0), some (.int a1), some (.int a2), some (.int a3), some (.int a4), none], [], x) = some (some (.int (2 : Int32)), x) := (mj_run_to (cd := cdX0) (rt := 1) (tab := tX0_typeOf) (cal := kX0 d) zX0_typeOf 94 (383, [some (.ref 0), some (.int a1), some (.int a2), some (.int a3), some (.int a4), none], [], x)).trans rfl
set_option maxRecDepth 100000 in
set_option maxHeartbeats 4000000 in
theorem bX0_typeOf_385 (d : Nat) (a1 : Int32) (a2 : Int32) (a3 : Int32) (a4 : Int32) (x : mj_X) : rX0_typeOf d (385, [some (.ref 0), some (.int a1), some (.int a2), some (.int a3), some (.int a4), none], [], x) = 
  if a4 = 0 then some (some (.int (-1 : Int32)), x)
  else some (some (.int (3 : Int32)), x) := (mj_run_to (cd := cdX0) (rt := 1) (tab := tX0_typeOf) (cal := kX0 d) zX0_typeOf 94 (385, [some (.ref 0), some (.int a1), some (.int a2), some (.int a3), some (.int a4), none], [], x)).trans rfl
set_option maxRecDepth 100000 in
set_option maxHeartbeats 4000000 in
theorem bX0_typeOf_396 (d : Nat) (a1 : Int32) (a2 : Int32) (a3 : Int32) (a4 : Int32) (x : mj_X) : rX0_typeOf d (396, [some (.ref 0), some (.int a1), some (.int a2), some (.int a3), some (.int a4), none], [], x) = some (some (.int (4 : Int32)), x) := (mj_run_to (cd := cdX0) (rt := 1) (tab := tX0_typeOf) (cal := kX0 d) zX0_typeOf 94 (396, [some (.ref 0), some (.int a1), some (.int a2), some (.int a3), some (.int a4), none], [], x)).trans rfl
set_option maxRecDepth 100000 in
set_option maxHeartbeats 4000000 in
theorem bX0_typeOf_398 (d : Nat) (a1 : Int32) (a2 : Int32) (a3 : Int32) (a4 : Int32) (x : mj_X) : rX0_typeOf d (398, [some (.ref 0), some (.int a1), some (.int a2), some (.int a3), some (.int a4), none], [], x) = 
  if a4 = 0 then some (some (.int (-1 : Int32)), x)
  else mj_rI (kX0 d 2 [.long a2.toInt64, .long (1 : Int64), .long (8 : Int64)] x) fun v2 x1 =>
   
   if v2 = 0 then some (some (.int (-1 : Int32)), x1)
   else some (some (.int a2), x1) := (mj_run_to (cd := cdX0) (rt := 1) (tab := tX0_typeOf) (cal := kX0 d) zX0_typeOf 94 (398, [some (.ref 0), some (.int a1), some (.int a2), some (.int a3), some (.int a4), none], [], x)).trans rfl
set_option maxRecDepth 100000 in
set_option maxHeartbeats 4000000 in
theorem bX0_typeOf_421 (d : Nat) (a1 : Int32) (a2 : Int32) (a3 : Int32) (a4 : Int32) (x : mj_X) : rX0_typeOf d (421, [some (.ref 0), some (.int a1), some (.int a2), some (.int a3), some (.int a4), none], [], x) = 
  if a4 = 0 then some (some (.int (-1 : Int32)), x)
  else mj_rI (kX0 d 2 [.long a2.toInt64, .long (5 : Int64), .long (8 : Int64)] x) fun v2 x1 =>
   
   if v2 = 0 then some (some (.int (-1 : Int32)), x1)
   else some (some (.int a2), x1) := (mj_run_to (cd := cdX0) (rt := 1) (tab := tX0_typeOf) (cal := kX0 d) zX0_typeOf 94 (421, [some (.ref 0), some (.int a1), some (.int a2), some (.int a3), some (.int a4), none], [], x)).trans rfl
set_option maxRecDepth 100000 in
set_option maxHeartbeats 4000000 in
theorem bX0_typeOf_446 (d : Nat) (a1 : Int32) (a2 : Int32) (a3 : Int32) (a4 : Int32) (x : mj_X) : rX0_typeOf d (446, [some (.ref 0), some (.int a1), some (.int a2), some (.int a3), some (.int a4), none], [], x) = 
  if a4 = 0 then some (some (.int (-1 : Int32)), x)
  else mj_rI (kX0 d 4 [.ref 0, .int a2] x) fun v2 x1 =>
   
   if v2 = 0 then some (some (.int (-1 : Int32)), x1)
   else mj_g a2 4000 (some (some (.int (x1.1 4 a2.toNatClampNeg)), x1)) := (mj_run_to (cd := cdX0) (rt := 1) (tab := tX0_typeOf) (cal := kX0 d) zX0_typeOf 94 (446, [some (.ref 0), some (.int a1), some (.int a2), some (.int a3), some (.int a4), none], [], x)).trans rfl
set_option maxRecDepth 100000 in
set_option maxHeartbeats 4000000 in
theorem bX0_typeOf_470 (d : Nat) (a1 : Int32) (a2 : Int32) (a3 : Int32) (a4 : Int32) (x : mj_X) : rX0_typeOf d (470, [some (.ref 0), some (.int a1), some (.int a2), some (.int a3), some (.int a4), none], [], x) = mj_rI (kX0 d 4 [.ref 0, .int a2] x) fun v2 x1 =>
  
  if v2 = 0 then some (some (.int (-1 : Int32)), x1)
  else mj_g a2 4000 (mj_rI (kX0 d 7 [.ref 0, .int a3, .int (x1.1 4 a2.toNatClampNeg)] x1) fun v4 x3 =>
   
   if v4 = 0 then some (some (.int (-1 : Int32)), x3)
   else mj_g a2 4000 (some (some (.int (x3.1 4 a2.toNatClampNeg)), x3))) := (mj_run_to (cd := cdX0) (rt := 1) (tab := tX0_typeOf) (cal := kX0 d) zX0_typeOf 94 (470, [some (.ref 0), some (.int a1), some (.int a2), some (.int a3), some (.int a4), none], [], x)).trans rfl
set_option maxRecDepth 100000 in
set_option maxHeartbeats 4000000 in
theorem bX0_typeOf_503 (d : Nat) (a1 : Int32) (a2 : Int32) (a3 : Int32) (a4 : Int32) (x : mj_X) : rX0_typeOf d (503, [some (.ref 0), some (.int a1), some (.int a2), some (.int a3), some (.int a4), none], [], x) = mj_rI (kX0 d 10 [.ref 0, .int a2] x) fun v2 x1 =>
  
  if v2 = 0 then some (some (.int (-1 : Int32)), x1)
  else 
   if a2 = a3 then some (some (.int (-1 : Int32)), x1)
   else mj_rI (kX0 d 7 [.ref 0, .int a3, .int (1 : Int32)] x1) fun v4 x3 =>
    
    if v4 = 0 then some (some (.int (-1 : Int32)), x3)
    else mj_g a2 4000 (mj_rI (kX0 d 11 [.int (x3.1 4 a2.toNatClampNeg)] x3) fun v6 x5 =>
     some (some (.int v6), x5)) := (mj_run_to (cd := cdX0) (rt := 1) (tab := tX0_typeOf) (cal := kX0 d) zX0_typeOf 94 (503, [some (.ref 0), some (.int a1), some (.int a2), some (.int a3), some (.int a4), none], [], x)).trans rfl
set_option maxRecDepth 100000 in
set_option maxHeartbeats 4000000 in
theorem bX0_typeOf_539 (d : Nat) (a1 : Int32) (a2 : Int32) (a3 : Int32) (a4 : Int32) (x : mj_X) : rX0_typeOf d (539, [some (.ref 0), some (.int a1), some (.int a2), some (.int a3), some (.int a4), none], [], x) = mj_rI (kX0 d 12 [.ref 0, .int a2, .int (8 : Int32)] x) fun v2 x1 =>
  
  if v2 = 0 then some (some (.int (-1 : Int32)), x1)
  else 
   if a2 = a3 then some (some (.int (-1 : Int32)), x1)
   else mj_g a2 4000 (mj_rI (kX0 d 7 [.ref 0, .int a3, .int (x1.1 4 a2.toNatClampNeg)] x1) fun v4 x3 =>
    
    if v4 = 0 then some (some (.int (-1 : Int32)), x3)
    else mj_g a2 4000 (some (some (.int (x3.1 4 a2.toNatClampNeg)), x3))) := (mj_run_to (cd := cdX0) (rt := 1) (tab := tX0_typeOf) (cal := kX0 d) zX0_typeOf 94 (539, [some (.ref 0), some (.int a1), some (.int a2), some (.int a3), some (.int a4), none], [], x)).trans rfl
set_option maxRecDepth 100000 in
set_option maxHeartbeats 4000000 in
theorem bX0_typeOf_579 (d : Nat) (a1 : Int32) (a2 : Int32) (a3 : Int32) (a4 : Int32) (x : mj_X) : rX0_typeOf d (579, [some (.ref 0), some (.int a1), some (.int a2), some (.int a3), some (.int a4), none], [], x) = 
  if a4 = 0 then some (some (.int (-1 : Int32)), x)
  else mj_rI (kX0 d 13 [.ref 0, .int a2] x) fun v2 x1 =>
   
   if v2 = 0 then some (some (.int (-1 : Int32)), x1)
   else mj_g a2 4000 (some (some (.int (x1.1 4 a2.toNatClampNeg)), x1)) := (mj_run_to (cd := cdX0) (rt := 1) (tab := tX0_typeOf) (cal := kX0 d) zX0_typeOf 94 (579, [some (.ref 0), some (.int a1), some (.int a2), some (.int a3), some (.int a4), none], [], x)).trans rfl
set_option maxRecDepth 100000 in
set_option maxHeartbeats 4000000 in
theorem bX0_typeOf_603 (d : Nat) (a1 : Int32) (a2 : Int32) (a3 : Int32) (a4 : Int32) (x : mj_X) : rX0_typeOf d (603, [some (.ref 0), some (.int a1), some (.int a2), some (.int a3), some (.int a4), none], [], x) = mj_rI (kX0 d 13 [.ref 0, .int a3] x) fun v2 x1 =>
  
  if v2 = 0 then some (some (.int (-1 : Int32)), x1)
  else mj_rI (kX0 d 2 [.long a2.toInt64, .long (1 : Int64), .long (4 : Int64)] x1) fun v4 x3 =>
   
   if v4 = 0 then mj_rI (kX0 d 2 [.long a2.toInt64, .long (9 : Int64), .long (11 : Int64)] x3) fun v6 x5 =>
    
    if v6 = 0 then some (some (.int (-1 : Int32)), x5)
    else rX0_typeOf d (637, [some (.ref 0), some (.int a1), some (.int a2), some (.int a3), some (.int a4), none], [], x5)
   else rX0_typeOf d (637, [some (.ref 0), some (.int a1), some (.int a2), some (.int a3), some (.int a4), none], [], x3) := (mj_run_to (cd := cdX0) (rt := 1) (tab := tX0_typeOf) (cal := kX0 d) zX0_typeOf 94 (603, [some (.ref 0), some (.int a1), some (.int a2), some (.int a3), some (.int a4), none], [], x)).trans rfl
set_option maxRecDepth 100000 in
set_option maxHeartbeats 4000000 in
theorem bX0_typeOf_637 (d : Nat) (a1 : Int32) (a2 : Int32) (a3 : Int32) (a4 : Int32) (x : mj_X) : rX0_typeOf d (637, [some (.ref 0), some (.int a1), some (.int a2), some (.int a3), some (.int a4), none], [], x) = 
  if a2 ≤ (4 : Int32) then some (some (.int a2), x)
  else some (some (.int (1 : Int32)), x) := (mj_run_to (cd := cdX0) (rt := 1) (tab := tX0_typeOf) (cal := kX0 d) zX0_typeOf 94 (637, [some (.ref 0), some (.int a1), some (.int a2), some (.int a3), some (.int a4), none], [], x)).trans rfl
set_option maxRecDepth 100000 in
set_option maxHeartbeats 4000000 in
theorem bX0_typeOf_652 (d : Nat) (a1 : Int32) (a2 : Int32) (a3 : Int32) (a4 : Int32) (x : mj_X) : rX0_typeOf d (652, [some (.ref 0), some (.int a1), some (.int a2), some (.int a3), some (.int a4), none], [], x) = 
  if a2 = a3 then some (some (.int (-1 : Int32)), x)
  else mj_rI (kX0 d 7 [.ref 0, .int a2, .int (1 : Int32)] x) fun v2 x1 =>
   
   if v2 = 0 then some (some (.int (-1 : Int32)), x1)
   else mj_rI (kX0 d 7 [.ref 0, .int a3, .int (1 : Int32)] x1) fun v4 x3 =>
    
    if v4 = 0 then some (some (.int (-1 : Int32)), x3)
    else some (some (.int (1 : Int32)), x3) := (mj_run_to (cd := cdX0) (rt := 1) (tab := tX0_typeOf) (cal := kX0 d) zX0_typeOf 94 (652, [some (.ref 0), some (.int a1), some (.int a2), some (.int a3), some (.int a4), none], [], x)).trans rfl
set_option maxRecDepth 100000 in
set_option maxHeartbeats 4000000 in
theorem bX0_typeOf_681 (d : Nat) (a1 : Int32) (a2 : Int32) (a3 : Int32) (a4 : Int32) (x : mj_X) : rX0_typeOf d (681, [some (.ref 0), some (.int a1), some (.int a2), some (.int a3), some (.int a4), none], [], x) = 
  if a4 = 0 then some (some (.int (-1 : Int32)), x)
  else mj_rI (kX0 d 7 [.ref 0, .int a2, .int (1 : Int32)] x) fun v2 x1 =>
   
   if v2 = 0 then some (some (.int (-1 : Int32)), x1)
   else some (some (.int (1 : Int32)), x1) := (mj_run_to (cd := cdX0) (rt := 1) (tab := tX0_typeOf) (cal := kX0 d) zX0_typeOf 94 (681, [some (.ref 0), some (.int a1), some (.int a2), some (.int a3), some (.int a4), none], [], x)).trans rfl
set_option maxRecDepth 100000 in
set_option maxHeartbeats 4000000 in
theorem bX0_typeOf_701 (d : Nat) (a1 : Int32) (a2 : Int32) (a3 : Int32) (a4 : Int32) (x : mj_X) : rX0_typeOf d (701, [some (.ref 0), some (.int a1), some (.int a2), some (.int a3), some (.int a4), none], [], x) = mj_rI (kX0 d 7 [.ref 0, .int a2, .int (1 : Int32)] x) fun v2 x1 =>
  
  if v2 = 0 then some (some (.int (-1 : Int32)), x1)
  else mj_rI (kX0 d 12 [.ref 0, .int a3, .int (33 : Int32)] x1) fun v4 x3 =>
   
   if v4 = 0 then some (some (.int (-1 : Int32)), x3)
   else mj_g a3 4000 (some (some (.int (x3.1 4 a3.toNatClampNeg)), x3)) := (mj_run_to (cd := cdX0) (rt := 1) (tab := tX0_typeOf) (cal := kX0 d) zX0_typeOf 94 (701, [some (.ref 0), some (.int a1), some (.int a2), some (.int a3), some (.int a4), none], [], x)).trans rfl
set_option maxRecDepth 100000 in
set_option maxHeartbeats 4000000 in
theorem bX0_typeOf_731 (d : Nat) (a1 : Int32) (a2 : Int32) (a3 : Int32) (a4 : Int32) (x : mj_X) : rX0_typeOf d (731, [some (.ref 0), some (.int a1), some (.int a2), some (.int a3), some (.int a4), none], [], x) = 
  if a2 = a3 then some (some (.int (-1 : Int32)), x)
  else mj_rI (kX0 d 8 [.ref 0, .int a2] x) fun v2 x1 =>
   
   if v2 = 0 then some (some (.int (-1 : Int32)), x1)
   else mj_rI (kX0 d 8 [.ref 0, .int a2] x1) fun v4 x3 =>
    mj_rI (kX0 d 7 [.ref 0, .int a3, .int v4] x3) fun v6 x5 =>
    
    if v6 = 0 then some (some (.int (-1 : Int32)), x5)
    else mj_g a2 4000 (some (some (.int (x5.1 4 a2.toNatClampNeg)), x5)) := (mj_run_to (cd := cdX0) (rt := 1) (tab := tX0_typeOf) (cal := kX0 d) zX0_typeOf 94 (731, [some (.ref 0), some (.int a1), some (.int a2), some (.int a3), some (.int a4), none], [], x)).trans rfl
set_option maxRecDepth 100000 in
set_option maxHeartbeats 4000000 in
theorem bX0_typeOf_768 (d : Nat) (a1 : Int32) (a2 : Int32) (a3 : Int32) (a4 : Int32) (x : mj_X) : rX0_typeOf d (768, [some (.ref 0), some (.int a1), some (.int a2), some (.int a3), some (.int a4), none], [], x) = mj_rI (kX0 d 2 [.long a3.toInt64, .long (0 : Int64), .long (3 : Int64)] x) fun v2 x1 =>
  
  if v2 = 0 then some (some (.int (-1 : Int32)), x1)
  else mj_rI (kX0 d 14 [.ref 0, .int a2] x1) fun v4 x3 =>
   
   if v4 = 0 then some (some (.int (-1 : Int32)), x3)
   else mj_g a2 4000 (some (some (.int (x3.1 4 a2.toNatClampNeg)), x3)) := (mj_run_to (cd := cdX0) (rt := 1) (tab := tX0_typeOf) (cal := kX0 d) zX0_typeOf 94 (768, [some (.ref 0), some (.int a1), some (.int a2), some (.int a3), some (.int a4), none], [], x)).trans rfl
set_option maxRecDepth 100000 in
set_option maxHeartbeats 4000000 in
theorem bX0_typeOf_799 (d : Nat) (a1 : Int32) (a2 : Int32) (a3 : Int32) (a4 : Int32) (x : mj_X) : rX0_typeOf d (799, [some (.ref 0), some (.int a1), some (.int a2), some (.int a3), some (.int a4), none], [], x) = mj_rI (kX0 d 2 [.long a2.toInt64, .long (5 : Int64), .long (8 : Int64)] x) fun v2 x1 =>
  
  if v2 = 0 then some (some (.int (-1 : Int32)), x1)
  else mj_rI (kX0 d 7 [.ref 0, .int a3, .int (1 : Int32)] x1) fun v4 x3 =>
   
   if v4 = 0 then some (some (.int (-1 : Int32)), x3)
   else some (some (.int a2), x3) := (mj_run_to (cd := cdX0) (rt := 1) (tab := tX0_typeOf) (cal := kX0 d) zX0_typeOf 94 (799, [some (.ref 0), some (.int a1), some (.int a2), some (.int a3), some (.int a4), none], [], x)).trans rfl
set_option maxRecDepth 100000 in
set_option maxHeartbeats 4000000 in
theorem bX0_typeOf_828 (d : Nat) (a1 : Int32) (a2 : Int32) (a3 : Int32) (a4 : Int32) (x : mj_X) : rX0_typeOf d (828, [some (.ref 0), some (.int a1), some (.int a2), some (.int a3), some (.int a4), none], [], x) = 
  if a4 = 0 then some (some (.int (-1 : Int32)), x)
  else mj_rI (kX0 d 10 [.ref 0, .int a2] x) fun v2 x1 =>
   
   if v2 = 0 then some (some (.int (-1 : Int32)), x1)
   else some (some (.int (1 : Int32)), x1) := (mj_run_to (cd := cdX0) (rt := 1) (tab := tX0_typeOf) (cal := kX0 d) zX0_typeOf 94 (828, [some (.ref 0), some (.int a1), some (.int a2), some (.int a3), some (.int a4), none], [], x)).trans rfl
set_option maxRecDepth 100000 in
set_option maxHeartbeats 4000000 in
theorem bX0_typeOf_847 (d : Nat) (a1 : Int32) (a2 : Int32) (a3 : Int32) (a4 : Int32) (x : mj_X) : rX0_typeOf d (847, [some (.ref 0), some (.int a1), some (.int a2), some (.int a3), some (.int a4), none], [], x) = mj_rI (kX0 d 15 [.ref 0, .int a2, .int a3] x) fun v2 x1 =>
  
  if v2 = 0 then some (some (.int (-1 : Int32)), x1)
  else mj_g a2 40 (some (some (.int (x1.1 9 a2.toNatClampNeg)), x1)) := (mj_run_to (cd := cdX0) (rt := 1) (tab := tX0_typeOf) (cal := kX0 d) zX0_typeOf 94 (847, [some (.ref 0), some (.int a1), some (.int a2), some (.int a3), some (.int a4), none], [], x)).trans rfl
set_option maxRecDepth 100000 in
set_option maxHeartbeats 4000000 in
theorem bX0_typeOf_867 (d : Nat) (a1 : Int32) (a2 : Int32) (a3 : Int32) (a4 : Int32) (x : mj_X) : rX0_typeOf d (867, [some (.ref 0), some (.int a1), some (.int a2), some (.int a3), some (.int a4), none], [], x) = 
  if a2 = a3 then some (some (.int (-1 : Int32)), x)
  else mj_rI (kX0 d 8 [.ref 0, .int a2] x) fun v2 x1 =>
   
   if v2 = 0 then some (some (.int (-1 : Int32)), x1)
   else 
    if a4 = 0 then mj_rI (kX0 d 12 [.ref 0, .int a3, .int (49 : Int32)] x1) fun v4 x3 =>
     
     if v4 = 0 then some (some (.int (-1 : Int32)), x3)
     else some (some (.int (0 : Int32)), x3)
    else some (some (.int (0 : Int32)), x1) := (mj_run_to (cd := cdX0) (rt := 1) (tab := tX0_typeOf) (cal := kX0 d) zX0_typeOf 94 (867, [some (.ref 0), some (.int a1), some (.int a2), some (.int a3), some (.int a4), none], [], x)).trans rfl
set_option maxRecDepth 100000 in
set_option maxHeartbeats 4000000 in
theorem bX0_typeOf_901 (d : Nat) (a1 : Int32) (a2 : Int32) (a3 : Int32) (a4 : Int32) (x : mj_X) : rX0_typeOf d (901, [some (.ref 0), some (.int a1), some (.int a2), some (.int a3), some (.int a4), none], [], x) = mj_rI (kX0 d 12 [.ref 0, .int a2, .int (5 : Int32)] x) fun v2 x1 =>
  
  if v2 = 0 then some (some (.int (-1 : Int32)), x1)
  else 
   if a4 = 0 then mj_rI (kX0 d 12 [.ref 0, .int a3, .int (86 : Int32)] x1) fun v4 x3 =>
    
    if v4 = 0 then some (some (.int (-1 : Int32)), x3)
    else some (some (.int (0 : Int32)), x3)
   else some (some (.int (0 : Int32)), x1) := (mj_run_to (cd := cdX0) (rt := 1) (tab := tX0_typeOf) (cal := kX0 d) zX0_typeOf 94 (901, [some (.ref 0), some (.int a1), some (.int a2), some (.int a3), some (.int a4), none], [], x)).trans rfl
set_option maxRecDepth 100000 in
set_option maxHeartbeats 4000000 in
theorem bX0_typeOf_931 (d : Nat) (a1 : Int32) (a2 : Int32) (a3 : Int32) (a4 : Int32) (x : mj_X) : rX0_typeOf d (931, [some (.ref 0), some (.int a1), some (.int a2), some (.int a3), some (.int a4), none], [], x) = mj_rI (kX0 d 2 [.long a1.toInt64, .long (10 : Int64), .long (20 : Int64)] x) fun v2 x1 =>
  
  if v2 = 0 then mj_rI (kX0 d 2 [.long a1.toInt64, .long (23 : Int64), .long (28 : Int64)] x1) fun v4 x3 =>
   
   if v4 = 0 then mj_rI (kX0 d 2 [.long a1.toInt64, .long (35 : Int64), .long (45 : Int64)] x3) fun v6 x5 =>
    
    if v6 = 0 then mj_rI (kX0 d 17 [.ref 0, .int a1, .int a2, .int a3] x5) fun v8 x7 =>
     
     if v8 = 0 then some (some (.int (-1 : Int32)), x7)
     else some (some (.int (0 : Int32)), x7)
    else mj_rI (kX0 d 14 [.ref 0, .int a2] x5) fun v10 x9 =>
     
     if v10 = 0 then some (some (.int (-1 : Int32)), x9)
     else 
      if a2 = a3 then some (some (.int (-1 : Int32)), x9)
      else mj_rI (kX0 d 8 [.ref 0, .int a3] x9) fun v12 x11 =>
       mj_rI (kX0 d 16 [.int ((a1 - (35 : Int32)) + (10 : Int32)), .int v10, .int v12] x11) fun v14 x13 =>
       some (some (.int v14), x13)
   else 
    if a2 = a3 then some (some (.int (-1 : Int32)), x3)
    else mj_rI (kX0 d 13 [.ref 0, .int a2] x3) fun v16 x15 =>
     
     if v16 = 0 then some (some (.int (-1 : Int32)), x15)
     else mj_rI (kX0 d 8 [.ref 0, .int a2] x15) fun v18 x17 =>
      mj_rI (kX0 d 7 [.ref 0, .int a3, .int v18] x17) fun v20 x19 =>
      
      if v20 = 0 then some (some (.int (-1 : Int32)), x19)
      else some (some (.int (1 : Int32)), x19)
  else 
   if a2 = a3 then some (some (.int (-1 : Int32)), x1)
   else mj_rI (kX0 d 8 [.ref 0, .int a2] x1) fun v22 x21 =>
    mj_rI (kX0 d 8 [.ref 0, .int a3] x21) fun v24 x23 =>
    mj_rI (kX0 d 16 [.int a1, .int v22, .int v24] x23) fun v26 x25 =>
    some (some (.int v26), x25) := (mj_run_to (cd := cdX0) (rt := 1) (tab := tX0_typeOf) (cal := kX0 d) zX0_typeOf 94 (931, [some (.ref 0), some (.int a1), some (.int a2), some (.int a3), some (.int a4), none], [], x)).trans rfl
noncomputable abbrev rX0_isVariable (d : Nat) : mj_S → mj_R := mj_run cdX0 5 tX0_isVariable (kX0 d)
def zX0_isVariable (p : Nat) : Bool := false
set_option maxRecDepth 100000 in
set_option maxHeartbeats 4000000 in
theorem eX0_isVariable (d : Nat) (a1 : Int32) (x : mj_X) : kX0 (d + 1) 4 [.ref 0, .int a1] x = mj_rI (kX0 d 5 [.ref 0, .int a1] x) fun v2 x1 =>
  
  if v2 = (5 : Int32) then some (some (.int (1 : Int32)), x1)
  else some (some (.int (0 : Int32)), x1) := (mj_run_to (cd := cdX0) (rt := 5) (tab := tX0_isVariable) (cal := kX0 d) zX0_isVariable 12 (0, [some (.ref 0), some (.int a1)], [], x)).trans rfl
noncomputable abbrev rX0_kindOf (d : Nat) : mj_S → mj_R := mj_run cdX0 1 tX0_kindOf (kX0 d)
def zX0_kindOf (p : Nat) : Bool := false
set_option maxRecDepth 100000 in
set_option maxHeartbeats 4000000 in
theorem eX0_kindOf (d : Nat) (a1 : Int32) (x : mj_X) : kX0 (d + 1) 5 [.ref 0, .int a1] x = mj_rI (kX0 d 6 [.ref 0, .int a1] x) fun v2 x1 =>
  
  if v2 = 0 then some (some (.int (-1 : Int32)), x1)
  else mj_g a1 4000 (some (some (.int (x1.1 1 a1.toNatClampNeg)), x1)) := (mj_run_to (cd := cdX0) (rt := 1) (tab := tX0_kindOf) (cal := kX0 d) zX0_kindOf 14 (0, [some (.ref 0), some (.int a1)], [], x)).trans rfl
noncomputable abbrev rX0_isNode (d : Nat) : mj_S → mj_R := mj_run cdX0 5 tX0_isNode (kX0 d)
def zX0_isNode (p : Nat) : Bool := false
set_option maxRecDepth 100000 in
set_option maxHeartbeats 4000000 in
theorem eX0_isNode (d : Nat) (a1 : Int32) (x : mj_X) : kX0 (d + 1) 6 [.ref 0, .int a1] x = mj_rI (kX0 d 2 [.long a1.toInt64, .long (0 : Int64), .long ((x.1 0 6) - (1 : Int32)).toInt64] x) fun v2 x1 =>
  mj_gb v2 (some (some (.int v2), x1)) := (mj_run_to (cd := cdX0) (rt := 5) (tab := tX0_isNode) (cal := kX0 d) zX0_isNode 12 (0, [some (.ref 0), some (.int a1)], [], x)).trans rfl
noncomputable abbrev rX0_isValue (d : Nat) : mj_S → mj_R := mj_run cdX0 5 tX0_isValue (kX0 d)
def zX0_isValue (p : Nat) : Bool := false
set_option maxRecDepth 100000 in
set_option maxHeartbeats 4000000 in
theorem eX0_isValue (d : Nat) (a1 : Int32) (a2 : Int32) (x : mj_X) : kX0 (d + 1) 7 [.ref 0, .int a1, .int a2] x = 
  if a2 = 0 then some (some (.int (0 : Int32)), x)
  else mj_rI (kX0 d 8 [.ref 0, .int a1] x) fun v2 x1 =>
   
   if v2 = a2 then some (some (.int (1 : Int32)), x1)
   else some (some (.int (0 : Int32)), x1) := (mj_run_to (cd := cdX0) (rt := 5) (tab := tX0_isValue) (cal := kX0 d) zX0_isValue 16 (0, [some (.ref 0), some (.int a1), some (.int a2)], [], x)).trans rfl
noncomputable abbrev rX0_value (d : Nat) : mj_S → mj_R := mj_run cdX0 1 tX0_value (kX0 d)
def zX0_value (p : Nat) : Bool := false
set_option maxRecDepth 100000 in
set_option maxHeartbeats 4000000 in
theorem eX0_value (d : Nat) (a1 : Int32) (x : mj_X) : kX0 (d + 1) 8 [.ref 0, .int a1] x = mj_rI (kX0 d 6 [.ref 0, .int a1] x) fun v2 x1 =>
  
  if v2 = 0 then some (some (.int (0 : Int32)), x1)
  else mj_g a1 4000 (mj_rI (kX0 d 9 [.int (x1.1 1 a1.toNatClampNeg)] x1) fun v4 x3 =>
   
   if v4 = 0 then some (some (.int (0 : Int32)), x3)
   else mj_g a1 4000 (
    if (x3.1 6 a1.toNatClampNeg) = 0 then mj_g a1 4000 (some (some (.int (x3.1 4 a1.toNatClampNeg)), x3))
    else some (some (.int (0 : Int32)), x3))) := (mj_run_to (cd := cdX0) (rt := 1) (tab := tX0_value) (cal := kX0 d) zX0_value 29 (0, [some (.ref 0), some (.int a1)], [], x)).trans rfl
noncomputable abbrev rX0_isExpression (d : Nat) : mj_S → mj_R := mj_run cdX0 5 tX0_isExpression (kX0 d)
def zX0_isExpression (p : Nat) : Bool := bif Nat.beq p 46 then true else false
set_option maxRecDepth 100000 in
set_option maxHeartbeats 4000000 in
theorem eX0_isExpression (d : Nat) (a0 : Int32) (x : mj_X) : kX0 (d + 1) 9 [.int a0] x = mj_rI (kX0 d 2 [.long a0.toInt64, .long (1 : Int64), .long (4 : Int64)] x) fun v2 x1 =>
  
  if v2 = 0 then mj_rI (kX0 d 2 [.long a0.toInt64, .long (6 : Int64), .long (32 : Int64)] x1) fun v4 x3 =>
   
   if v4 = 0 then mj_rI (kX0 d 2 [.long a0.toInt64, .long (34 : Int64), .long (48 : Int64)] x3) fun v6 x5 =>
    
    if v6 = 0 then 
     if a0 = (51 : Int32) then rX0_isExpression d (46, [some (.int a0)], [], x5)
     else some (some (.int (0 : Int32)), x5)
    else rX0_isExpression d (46, [some (.int a0)], [], x5)
   else rX0_isExpression d (46, [some (.int a0)], [], x3)
  else rX0_isExpression d (46, [some (.int a0)], [], x1) := (mj_run_to (cd := cdX0) (rt := 5) (tab := tX0_isExpression) (cal := kX0 d) zX0_isExpression 29 (0, [some (.int a0)], [], x)).trans rfl
set_option maxRecDepth 100000 in
set_option maxHeartbeats 4000000 in
theorem bX0_isExpression_46 (d : Nat) (a0 : Int32) (x : mj_X) : rX0_isExpression d (46, [some (.int a0)], [], x) = some (some (.int (1 : Int32)), x) := (mj_run_to (cd := cdX0) (rt := 5) (tab := tX0_isExpression) (cal := kX0 d) zX0_isExpression 29 (46, [some (.int a0)], [], x)).trans rfl
noncomputable abbrev rX0_isArray (d : Nat) : mj_S → mj_R := mj_run cdX0 5 tX0_isArray (kX0 d)
def zX0_isArray (p : Nat) : Bool := false
set_option maxRecDepth 100000 in
set_option maxHeartbeats 4000000 in
theorem eX0_isArray (d : Nat) (a1 : Int32) (x : mj_X) : kX0 (d + 1) 10 [.ref 0, .int a1] x = mj_rI (kX0 d 8 [.ref 0, .int a1] x) fun v2 x1 =>
  
  if v2 < (5 : Int32) then some (some (.int (0 : Int32)), x1)
  else some (some (.int (1 : Int32)), x1) := (mj_run_to (cd := cdX0) (rt := 5) (tab := tX0_isArray) (cal := kX0 d) zX0_isArray 12 (0, [some (.ref 0), some (.int a1)], [], x)).trans rfl
noncomputable abbrev rX0_elementOf (d : Nat) : mj_S → mj_R := mj_run cdX0 1 tX0_elementOf (kX0 d)
def zX0_elementOf (p : Nat) : Bool := false
set_option maxRecDepth 100000 in
set_option maxHeartbeats 4000000 in
theorem eX0_elementOf (d : Nat) (a0 : Int32) (x : mj_X) : kX0 (d + 1) 11 [.int a0] x = 
  if a0 = (5 : Int32) then some (some (.int (1 : Int32)), x)
  else 
   if a0 = (6 : Int32) then some (some (.int (1 : Int32)), x)
   else 
    if a0 = (7 : Int32) then some (some (.int (2 : Int32)), x)
    else some (some (.int (4 : Int32)), x) := (mj_run_to (cd := cdX0) (rt := 1) (tab := tX0_elementOf) (cal := kX0 d) zX0_elementOf 22 (0, [some (.int a0)], [], x)).trans rfl
noncomputable abbrev rX0_isFree (d : Nat) : mj_S → mj_R := mj_run cdX0 5 tX0_isFree (kX0 d)
def zX0_isFree (p : Nat) : Bool := false
set_option maxRecDepth 100000 in
set_option maxHeartbeats 4000000 in
theorem eX0_isFree (d : Nat) (a1 : Int32) (a2 : Int32) (x : mj_X) : kX0 (d + 1) 12 [.ref 0, .int a1, .int a2] x = mj_rI (kX0 d 6 [.ref 0, .int a1] x) fun v2 x1 =>
  
  if v2 = 0 then some (some (.int (0 : Int32)), x1)
  else mj_g a1 4000 (
   if (x1.1 1 a1.toNatClampNeg) = a2 then mj_g a1 4000 (
    if (x1.1 6 a1.toNatClampNeg) = 0 then some (some (.int (1 : Int32)), x1)
    else some (some (.int (0 : Int32)), x1))
   else some (some (.int (0 : Int32)), x1)) := (mj_run_to (cd := cdX0) (rt := 5) (tab := tX0_isFree) (cal := kX0 d) zX0_isFree 26 (0, [some (.ref 0), some (.int a1), some (.int a2)], [], x)).trans rfl
noncomputable abbrev rX0_isNumber (d : Nat) : mj_S → mj_R := mj_run cdX0 5 tX0_isNumber (kX0 d)
def zX0_isNumber (p : Nat) : Bool := false
set_option maxRecDepth 100000 in
set_option maxHeartbeats 4000000 in
theorem eX0_isNumber (d : Nat) (a1 : Int32) (x : mj_X) : kX0 (d + 1) 13 [.ref 0, .int a1] x = mj_rI (kX0 d 8 [.ref 0, .int a1] x) fun v2 x1 =>
  mj_rI (kX0 d 2 [.long v2.toInt64, .long (1 : Int64), .long (4 : Int64)] x1) fun v4 x3 =>
  mj_gb v4 (some (some (.int v4), x3)) := (mj_run_to (cd := cdX0) (rt := 5) (tab := tX0_isNumber) (cal := kX0 d) zX0_isNumber 10 (0, [some (.ref 0), some (.int a1)], [], x)).trans rfl
noncomputable abbrev rX0_targetOf (d : Nat) : mj_S → mj_R := mj_run cdX0 1 tX0_targetOf (kX0 d)
def zX0_targetOf (p : Nat) : Bool := bif Nat.blt p 54 then (bif Nat.beq p 38 then true else false) else (bif Nat.beq p 54 then true else false)
set_option maxRecDepth 100000 in
set_option maxHeartbeats 4000000 in
theorem eX0_targetOf (d : Nat) (a1 : Int32) (x : mj_X) : kX0 (d + 1) 14 [.ref 0, .int a1] x = mj_rI (kX0 d 6 [.ref 0, .int a1] x) fun v2 x1 =>
  
  if v2 = 0 then rX0_targetOf d (54, [some (.ref 0), some (.int a1), none], [.int (0 : Int32)], x1)
  else mj_g a1 4000 (
   if (x1.1 6 a1.toNatClampNeg) = 0 then mj_g a1 4000 (
    if (x1.1 1 a1.toNatClampNeg) = (6 : Int32) then mj_g a1 4000 (
     if (x1.1 4 a1.toNatClampNeg) ≤ (4 : Int32) then rX0_targetOf d (54, [some (.ref 0), some (.int a1), none], [.int (1 : Int32)], x1)
     else rX0_targetOf d (38, [some (.ref 0), some (.int a1), none], [], x1))
    else rX0_targetOf d (38, [some (.ref 0), some (.int a1), none], [], x1))
   else rX0_targetOf d (54, [some (.ref 0), some (.int a1), none], [.int (0 : Int32)], x1)) := (mj_run_to (cd := cdX0) (rt := 1) (tab := tX0_targetOf) (cal := kX0 d) zX0_targetOf 32 (0, [some (.ref 0), some (.int a1), none], [], x)).trans rfl
set_option maxRecDepth 100000 in
set_option maxHeartbeats 4000000 in
theorem bX0_targetOf_38 (d : Nat) (a1 : Int32) (x : mj_X) : rX0_targetOf d (38, [some (.ref 0), some (.int a1), none], [], x) = mj_g a1 4000 (
  if (x.1 1 a1.toNatClampNeg) = (8 : Int32) then rX0_targetOf d (54, [some (.ref 0), some (.int a1), none], [.int (1 : Int32)], x)
  else rX0_targetOf d (54, [some (.ref 0), some (.int a1), none], [.int (0 : Int32)], x)) := (mj_run_to (cd := cdX0) (rt := 1) (tab := tX0_targetOf) (cal := kX0 d) zX0_targetOf 32 (38, [some (.ref 0), some (.int a1), none], [], x)).trans rfl
set_option maxRecDepth 100000 in
set_option maxHeartbeats 4000000 in
theorem bX0_targetOf_54 (d : Nat) (a1 : Int32) (s0 : Int32) (x : mj_X) : rX0_targetOf d (54, [some (.ref 0), some (.int a1), none], [.int s0], x) = 
  if s0 = 0 then some (some (.int (0 : Int32)), x)
  else mj_g a1 4000 (some (some (.int (x.1 4 a1.toNatClampNeg)), x)) := (mj_run_to (cd := cdX0) (rt := 1) (tab := tX0_targetOf) (cal := kX0 d) zX0_targetOf 32 (54, [some (.ref 0), some (.int a1), none], [.int s0], x)).trans rfl
noncomputable abbrev rX0_isCall (d : Nat) : mj_S → mj_R := mj_run cdX0 5 tX0_isCall (kX0 d)
def zX0_isCall (p : Nat) : Bool := bif Nat.blt p 58 then (bif Nat.beq p 28 then true else false) else (bif Nat.beq p 58 then true else false)
set_option maxRecDepth 100000 in
set_option maxHeartbeats 4000000 in
theorem eX0_isCall (d : Nat) (a1 : Int32) (a2 : Int32) (x : mj_X) : kX0 (d + 1) 15 [.ref 0, .int a1, .int a2] x = mj_rI (kX0 d 2 [.long a1.toInt64, .long (0 : Int64), .long ((x.1 0 7) - (1 : Int32)).toInt64] x) fun v2 x1 =>
  
  if v2 = 0 then some (some (.int (0 : Int32)), x1)
  else mj_g a1 40 (rX0_isCall d (28, [some (.ref 0), some (.int a1), some (.int a2), some (.int a2), some (.int (x1.1 10 a1.toNatClampNeg))], [], x1)) := (mj_run_to (cd := cdX0) (rt := 5) (tab := tX0_isCall) (cal := kX0 d) zX0_isCall 32 (0, [some (.ref 0), some (.int a1), some (.int a2), none, none], [], x)).trans rfl
set_option maxRecDepth 100000 in
set_option maxHeartbeats 4000000 in
theorem bX0_isCall_28 (d : Nat) (a1 : Int32) (a2 : Int32) (a3 : Int32) (a4 : Int32) (x : mj_X) : rX0_isCall d (28, [some (.ref 0), some (.int a1), some (.int a2), some (.int a3), some (.int a4)], [], x) = 
  if a4 = (-1 : Int32) then 
   if a3 = (-1 : Int32) then some (some (.int (1 : Int32)), x)
   else some (some (.int (0 : Int32)), x)
  else mj_rI (kX0 d 5 [.ref 0, .int a3] x) fun v2 x1 =>
   
   if v2 = (49 : Int32) then 
    if a3 = a2 then mj_g a3 4000 (
     if (x1.1 6 a3.toNatClampNeg) = 0 then rX0_isCall d (58, [some (.ref 0), some (.int a1), some (.int a2), some (.int a3), some (.int a4)], [], x1)
     else some (some (.int (0 : Int32)), x1))
    else rX0_isCall d (58, [some (.ref 0), some (.int a1), some (.int a2), some (.int a3), some (.int a4)], [], x1)
   else some (some (.int (0 : Int32)), x1) := (mj_run_to (cd := cdX0) (rt := 5) (tab := tX0_isCall) (cal := kX0 d) zX0_isCall 32 (28, [some (.ref 0), some (.int a1), some (.int a2), some (.int a3), some (.int a4)], [], x)).trans rfl
set_option maxRecDepth 100000 in
set_option maxHeartbeats 4000000 in
theorem bX0_isCall_58 (d : Nat) (a1 : Int32) (a2 : Int32) (a3 : Int32) (a4 : Int32) (x : mj_X) : rX0_isCall d (58, [some (.ref 0), some (.int a1), some (.int a2), some (.int a3), some (.int a4)], [], x) = mj_g a3 4000 (mj_g (x.1 2 a3.toNatClampNeg) 4000 (mj_g a4 4000 (mj_g (x.1 2 a4.toNatClampNeg) 4000 (
  if (x.1 4 (x.1 2 a3.toNatClampNeg).toNatClampNeg) = (x.1 4 (x.1 2 a4.toNatClampNeg).toNatClampNeg) then mj_g a3 4000 (mj_g a4 4000 (rX0_isCall d (28, [some (.ref 0), some (.int a1), some (.int a2), some (.int (x.1 3 a3.toNatClampNeg)), some (.int (x.1 3 a4.toNatClampNeg))], [], x)))
  else some (some (.int (0 : Int32)), x))))) := (mj_run_to (cd := cdX0) (rt := 5) (tab := tX0_isCall) (cal := kX0 d) zX0_isCall 32 (58, [some (.ref 0), some (.int a1), some (.int a2), some (.int a3), some (.int a4)], [], x)).trans rfl
noncomputable abbrev rX0_binary (d : Nat) : mj_S → mj_R := mj_run cdX0 1 tX0_binary (kX0 d)
def zX0_binary (p : Nat) : Bool := bif Nat.beq p 84 then true else false
set_option maxRecDepth 100000 in
set_option maxHeartbeats 4000000 in
theorem eX0_binary (d : Nat) (a0 : Int32) (a1 : Int32) (a2 : Int32) (x : mj_X) : kX0 (d + 1) 16 [.int a0, .int a1, .int a2] x = 
  if a0 < (18 : Int32) then 
   if a0 < (15 : Int32) then mj_rI (kX0 d 2 [.long a1.toInt64, .long (1 : Int64), .long (4 : Int64)] x) fun v2 x1 =>
    
    if v2 = 0 then rX0_binary d (84, [some (.int a0), some (.int a1), some (.int a2), none], [.int (0 : Int32)], x1)
    else 
     if a1 = a2 then rX0_binary d (84, [some (.int a0), some (.int a1), some (.int a2), none], [.int (1 : Int32)], x1)
     else rX0_binary d (84, [some (.int a0), some (.int a1), some (.int a2), none], [.int (0 : Int32)], x1)
   else mj_rI (kX0 d 2 [.long a1.toInt64, .long (1 : Int64), .long (2 : Int64)] x) fun v4 x3 =>
    
    if v4 = 0 then rX0_binary d (84, [some (.int a0), some (.int a1), some (.int a2), none], [.int (0 : Int32)], x3)
    else 
     if a1 = a2 then rX0_binary d (84, [some (.int a0), some (.int a1), some (.int a2), none], [.int (1 : Int32)], x3)
     else rX0_binary d (84, [some (.int a0), some (.int a1), some (.int a2), none], [.int (0 : Int32)], x3)
  else mj_rI (kX0 d 2 [.long a1.toInt64, .long (1 : Int64), .long (2 : Int64)] x) fun v6 x5 =>
   
   if v6 = 0 then rX0_binary d (84, [some (.int a0), some (.int a1), some (.int a2), none], [.int (0 : Int32)], x5)
   else 
    if a2 = (1 : Int32) then rX0_binary d (84, [some (.int a0), some (.int a1), some (.int a2), none], [.int (1 : Int32)], x5)
    else rX0_binary d (84, [some (.int a0), some (.int a1), some (.int a2), none], [.int (0 : Int32)], x5) := (mj_run_to (cd := cdX0) (rt := 1) (tab := tX0_binary) (cal := kX0 d) zX0_binary 60 (0, [some (.int a0), some (.int a1), some (.int a2), none], [], x)).trans rfl
set_option maxRecDepth 100000 in
set_option maxHeartbeats 4000000 in
theorem bX0_binary_84 (d : Nat) (a0 : Int32) (a1 : Int32) (a2 : Int32) (s0 : Int32) (x : mj_X) : rX0_binary d (84, [some (.int a0), some (.int a1), some (.int a2), none], [.int s0], x) = 
  if s0 = 0 then some (some (.int (-1 : Int32)), x)
  else some (some (.int a1), x) := (mj_run_to (cd := cdX0) (rt := 1) (tab := tX0_binary) (cal := kX0 d) zX0_binary 60 (84, [some (.int a0), some (.int a1), some (.int a2), none], [.int s0], x)).trans rfl
noncomputable abbrev rX0_isActOf (d : Nat) : mj_S → mj_R := mj_run cdX0 5 tX0_isActOf (kX0 d)
def zX0_isActOf (p : Nat) : Bool := bif Nat.blt p 390 then (bif Nat.blt p 259 then (bif Nat.blt p 190 then (bif Nat.blt p 132 then (bif Nat.beq p 10 then true else false) else (bif Nat.blt p 161 then (bif Nat.beq p 132 then true else false) else (bif Nat.beq p 161 then true else false))) else (bif Nat.blt p 217 then (bif Nat.beq p 190 then true else false) else (bif Nat.blt p 236 then (bif Nat.beq p 217 then true else false) else (bif Nat.beq p 236 then true else false)))) else (bif Nat.blt p 331 then (bif Nat.blt p 284 then (bif Nat.beq p 259 then true else false) else (bif Nat.blt p 307 then (bif Nat.beq p 284 then true else false) else (bif Nat.beq p 307 then true else false))) else (bif Nat.blt p 346 then (bif Nat.beq p 331 then true else false) else (bif Nat.blt p 370 then (bif Nat.beq p 346 then true else false) else (bif Nat.beq p 370 then true else false))))) else (bif Nat.blt p 538 then (bif Nat.blt p 455 then (bif Nat.blt p 414 then (bif Nat.beq p 390 then true else false) else (bif Nat.blt p 434 then (bif Nat.beq p 414 then true else false) else (bif Nat.beq p 434 then true else false))) else (bif Nat.blt p 481 then (bif Nat.beq p 455 then true else false) else (bif Nat.blt p 516 then (bif Nat.beq p 481 then true else false) else (bif Nat.beq p 516 then true else false)))) else (bif Nat.blt p 613 then (bif Nat.blt p 563 then (bif Nat.beq p 538 then true else false) else (bif Nat.blt p 583 then (bif Nat.beq p 563 then true else false) else (bif Nat.beq p 583 then true else false))) else (bif Nat.blt p 638 then (bif Nat.blt p 619 then (bif Nat.beq p 613 then true else false) else (bif Nat.beq p 619 then true else false)) else (bif Nat.blt p 664 then (bif Nat.beq p 638 then true else false) else (bif Nat.beq p 664 then true else false)))))
set_option maxRecDepth 100000 in
set_option maxHeartbeats 4000000 in
theorem eX0_isActOf (d : Nat) (a1 : Int32) (a2 : Int32) (a3 : Int32) (x : mj_X) : kX0 (d + 1) 17 [.ref 0, .int a1, .int a2, .int a3] x = 
  if a3 = (-1 : Int32) then rX0_isActOf d (10, [some (.ref 0), some (.int a1), some (.int a2), some (.int a3), none], [.int (1 : Int32)], x)
  else rX0_isActOf d (10, [some (.ref 0), some (.int a1), some (.int a2), some (.int a3), none], [.int (0 : Int32)], x) := (mj_run_to (cd := cdX0) (rt := 5) (tab := tX0_isActOf) (cal := kX0 d) zX0_isActOf 27 (0, [some (.ref 0), some (.int a1), some (.int a2), some (.int a3), none], [], x)).trans rfl
set_option maxRecDepth 100000 in
set_option maxHeartbeats 4000000 in
theorem bX0_isActOf_10 (d : Nat) (a1 : Int32) (a2 : Int32) (a3 : Int32) (s0 : Int32) (x : mj_X) : rX0_isActOf d (10, [some (.ref 0), some (.int a1), some (.int a2), some (.int a3), none], [.int s0], x) = mj_sw a1 60 (651) [119, 148, 177, 204, 223, 246, 177, 223, 271, 294, 223, 318, 318, 333, 357, 377, 401, 442, 468, 177, 503, 525, 550, 600, 606, 625] fun off => mj_j 13 off fun t => rX0_isActOf d (t, [some (.ref 0), some (.int a1), some (.int a2), some (.int a3), some (.int s0)], [], x) := (mj_run_to (cd := cdX0) (rt := 5) (tab := tX0_isActOf) (cal := kX0 d) zX0_isActOf 27 (10, [some (.ref 0), some (.int a1), some (.int a2), some (.int a3), none], [.int s0], x)).trans rfl
set_option maxRecDepth 100000 in
set_option maxHeartbeats 4000000 in
theorem bX0_isActOf_132 (d : Nat) (a1 : Int32) (a2 : Int32) (a3 : Int32) (a4 : Int32) (x : mj_X) : rX0_isActOf d (132, [some (.ref 0), some (.int a1), some (.int a2), some (.int a3), some (.int a4)], [], x) = 
  if a4 = 0 then some (some (.int (0 : Int32)), x)
  else mj_rI (kX0 d 8 [.ref 0, .int a2] x) fun v2 x1 =>
   
   if v2 = 0 then mj_rI (kX0 d 12 [.ref 0, .int a2, .int (48 : Int32)] x1) fun v4 x3 =>
    
    if v4 = 0 then some (some (.int (0 : Int32)), x3)
    else some (some (.int (1 : Int32)), x3)
   else some (some (.int (1 : Int32)), x1) := (mj_run_to (cd := cdX0) (rt := 5) (tab := tX0_isActOf) (cal := kX0 d) zX0_isActOf 27 (132, [some (.ref 0), some (.int a1), some (.int a2), some (.int a3), some (.int a4)], [], x)).trans rfl
set_option maxRecDepth 100000 in
set_option maxHeartbeats 4000000 in
theorem bX0_isActOf_161 (d : Nat) (a1 : Int32) (a2 : Int32) (a3 : Int32) (a4 : Int32) (x : mj_X) : rX0_isActOf d (161, [some (.ref 0), some (.int a1), some (.int a2), some (.int a3), some (.int a4)], [], x) = mj_rI (kX0 d 12 [.ref 0, .int a2, .int (5 : Int32)] x) fun v2 x1 =>
  
  if v2 = 0 then some (some (.int (0 : Int32)), x1)
  else mj_g a2 4000 (mj_rI (kX0 d 7 [.ref 0, .int a3, .int (x1.1 4 a2.toNatClampNeg)] x1) fun v4 x3 =>
   
   if v4 = 0 then some (some (.int (0 : Int32)), x3)
   else some (some (.int (1 : Int32)), x3)) := (mj_run_to (cd := cdX0) (rt := 5) (tab := tX0_isActOf) (cal := kX0 d) zX0_isActOf 27 (161, [some (.ref 0), some (.int a1), some (.int a2), some (.int a3), some (.int a4)], [], x)).trans rfl
set_option maxRecDepth 100000 in
set_option maxHeartbeats 4000000 in
theorem bX0_isActOf_190 (d : Nat) (a1 : Int32) (a2 : Int32) (a3 : Int32) (a4 : Int32) (x : mj_X) : rX0_isActOf d (190, [some (.ref 0), some (.int a1), some (.int a2), some (.int a3), some (.int a4)], [], x) = 
  if a2 = a3 then some (some (.int (0 : Int32)), x)
  else mj_rI (kX0 d 18 [.ref 0, .int a2] x) fun v2 x1 =>
   
   if v2 = 0 then some (some (.int (0 : Int32)), x1)
   else mj_rI (kX0 d 18 [.ref 0, .int a3] x1) fun v4 x3 =>
    
    if v4 = 0 then some (some (.int (0 : Int32)), x3)
    else some (some (.int (1 : Int32)), x3) := (mj_run_to (cd := cdX0) (rt := 5) (tab := tX0_isActOf) (cal := kX0 d) zX0_isActOf 27 (190, [some (.ref 0), some (.int a1), some (.int a2), some (.int a3), some (.int a4)], [], x)).trans rfl
set_option maxRecDepth 100000 in
set_option maxHeartbeats 4000000 in
theorem bX0_isActOf_217 (d : Nat) (a1 : Int32) (a2 : Int32) (a3 : Int32) (a4 : Int32) (x : mj_X) : rX0_isActOf d (217, [some (.ref 0), some (.int a1), some (.int a2), some (.int a3), some (.int a4)], [], x) = 
  if a4 = 0 then some (some (.int (0 : Int32)), x)
  else mj_rI (kX0 d 18 [.ref 0, .int a2] x) fun v2 x1 =>
   
   if v2 = 0 then some (some (.int (0 : Int32)), x1)
   else some (some (.int (1 : Int32)), x1) := (mj_run_to (cd := cdX0) (rt := 5) (tab := tX0_isActOf) (cal := kX0 d) zX0_isActOf 27 (217, [some (.ref 0), some (.int a1), some (.int a2), some (.int a3), some (.int a4)], [], x)).trans rfl
set_option maxRecDepth 100000 in
set_option maxHeartbeats 4000000 in
theorem bX0_isActOf_236 (d : Nat) (a1 : Int32) (a2 : Int32) (a3 : Int32) (a4 : Int32) (x : mj_X) : rX0_isActOf d (236, [some (.ref 0), some (.int a1), some (.int a2), some (.int a3), some (.int a4)], [], x) = mj_rI (kX0 d 7 [.ref 0, .int a2, .int (1 : Int32)] x) fun v2 x1 =>
  
  if v2 = 0 then some (some (.int (0 : Int32)), x1)
  else mj_rI (kX0 d 18 [.ref 0, .int a3] x1) fun v4 x3 =>
   
   if v4 = 0 then some (some (.int (0 : Int32)), x3)
   else some (some (.int (1 : Int32)), x3) := (mj_run_to (cd := cdX0) (rt := 5) (tab := tX0_isActOf) (cal := kX0 d) zX0_isActOf 27 (236, [some (.ref 0), some (.int a1), some (.int a2), some (.int a3), some (.int a4)], [], x)).trans rfl
set_option maxRecDepth 100000 in
set_option maxHeartbeats 4000000 in
theorem bX0_isActOf_259 (d : Nat) (a1 : Int32) (a2 : Int32) (a3 : Int32) (a4 : Int32) (x : mj_X) : rX0_isActOf d (259, [some (.ref 0), some (.int a1), some (.int a2), some (.int a3), some (.int a4)], [], x) = mj_rI (kX0 d 7 [.ref 0, .int a2, .int (1 : Int32)] x) fun v2 x1 =>
  
  if v2 = 0 then some (some (.int (0 : Int32)), x1)
  else mj_rI (kX0 d 12 [.ref 0, .int a3, .int (66 : Int32)] x1) fun v4 x3 =>
   
   if v4 = 0 then some (some (.int (0 : Int32)), x3)
   else some (some (.int (1 : Int32)), x3) := (mj_run_to (cd := cdX0) (rt := 5) (tab := tX0_isActOf) (cal := kX0 d) zX0_isActOf 27 (259, [some (.ref 0), some (.int a1), some (.int a2), some (.int a3), some (.int a4)], [], x)).trans rfl
set_option maxRecDepth 100000 in
set_option maxHeartbeats 4000000 in
theorem bX0_isActOf_284 (d : Nat) (a1 : Int32) (a2 : Int32) (a3 : Int32) (a4 : Int32) (x : mj_X) : rX0_isActOf d (284, [some (.ref 0), some (.int a1), some (.int a2), some (.int a3), some (.int a4)], [], x) = mj_rI (kX0 d 18 [.ref 0, .int a2] x) fun v2 x1 =>
  
  if v2 = 0 then some (some (.int (0 : Int32)), x1)
  else mj_rI (kX0 d 7 [.ref 0, .int a3, .int (1 : Int32)] x1) fun v4 x3 =>
   
   if v4 = 0 then some (some (.int (0 : Int32)), x3)
   else some (some (.int (1 : Int32)), x3) := (mj_run_to (cd := cdX0) (rt := 5) (tab := tX0_isActOf) (cal := kX0 d) zX0_isActOf 27 (284, [some (.ref 0), some (.int a1), some (.int a2), some (.int a3), some (.int a4)], [], x)).trans rfl
set_option maxRecDepth 100000 in
set_option maxHeartbeats 4000000 in
theorem bX0_isActOf_307 (d : Nat) (a1 : Int32) (a2 : Int32) (a3 : Int32) (a4 : Int32) (x : mj_X) : rX0_isActOf d (307, [some (.ref 0), some (.int a1), some (.int a2), some (.int a3), some (.int a4)], [], x) = mj_rI (kX0 d 12 [.ref 0, .int a2, .int (70 : Int32)] x) fun v2 x1 =>
  
  if v2 = 0 then some (some (.int (0 : Int32)), x1)
  else mj_rI (kX0 d 18 [.ref 0, .int a3] x1) fun v4 x3 =>
   
   if v4 = 0 then some (some (.int (0 : Int32)), x3)
   else some (some (.int (1 : Int32)), x3) := (mj_run_to (cd := cdX0) (rt := 5) (tab := tX0_isActOf) (cal := kX0 d) zX0_isActOf 27 (307, [some (.ref 0), some (.int a1), some (.int a2), some (.int a3), some (.int a4)], [], x)).trans rfl
set_option maxRecDepth 100000 in
set_option maxHeartbeats 4000000 in
theorem bX0_isActOf_331 (d : Nat) (a1 : Int32) (a2 : Int32) (a3 : Int32) (a4 : Int32) (x : mj_X) : rX0_isActOf d (331, [some (.ref 0), some (.int a1), some (.int a2), some (.int a3), some (.int a4)], [], x) = 
  if a4 = 0 then some (some (.int (0 : Int32)), x)
  else 
   if a2 < 0 then some (some (.int (0 : Int32)), x)
   else some (some (.int (1 : Int32)), x) := (mj_run_to (cd := cdX0) (rt := 5) (tab := tX0_isActOf) (cal := kX0 d) zX0_isActOf 27 (331, [some (.ref 0), some (.int a1), some (.int a2), some (.int a3), some (.int a4)], [], x)).trans rfl
set_option maxRecDepth 100000 in
set_option maxHeartbeats 4000000 in
theorem bX0_isActOf_346 (d : Nat) (a1 : Int32) (a2 : Int32) (a3 : Int32) (a4 : Int32) (x : mj_X) : rX0_isActOf d (346, [some (.ref 0), some (.int a1), some (.int a2), some (.int a3), some (.int a4)], [], x) = 
  if a4 = 0 then some (some (.int (0 : Int32)), x)
  else 
   if a2 = (-1 : Int32) then some (some (.int (1 : Int32)), x)
   else mj_rI (kX0 d 8 [.ref 0, .int a2] x) fun v2 x1 =>
    
    if v2 = 0 then some (some (.int (0 : Int32)), x1)
    else some (some (.int (1 : Int32)), x1) := (mj_run_to (cd := cdX0) (rt := 5) (tab := tX0_isActOf) (cal := kX0 d) zX0_isActOf 27 (346, [some (.ref 0), some (.int a1), some (.int a2), some (.int a3), some (.int a4)], [], x)).trans rfl
set_option maxRecDepth 100000 in
set_option maxHeartbeats 4000000 in
theorem bX0_isActOf_370 (d : Nat) (a1 : Int32) (a2 : Int32) (a3 : Int32) (a4 : Int32) (x : mj_X) : rX0_isActOf d (370, [some (.ref 0), some (.int a1), some (.int a2), some (.int a3), some (.int a4)], [], x) = 
  if a4 = 0 then some (some (.int (0 : Int32)), x)
  else mj_rI (kX0 d 7 [.ref 0, .int a2, .int (1 : Int32)] x) fun v2 x1 =>
   
   if v2 = 0 then some (some (.int (0 : Int32)), x1)
   else some (some (.int (1 : Int32)), x1) := (mj_run_to (cd := cdX0) (rt := 5) (tab := tX0_isActOf) (cal := kX0 d) zX0_isActOf 27 (370, [some (.ref 0), some (.int a1), some (.int a2), some (.int a3), some (.int a4)], [], x)).trans rfl
set_option maxRecDepth 100000 in
set_option maxHeartbeats 4000000 in
theorem bX0_isActOf_390 (d : Nat) (a1 : Int32) (a2 : Int32) (a3 : Int32) (a4 : Int32) (x : mj_X) : rX0_isActOf d (390, [some (.ref 0), some (.int a1), some (.int a2), some (.int a3), some (.int a4)], [], x) = mj_rI (kX0 d 18 [.ref 0, .int a2] x) fun v2 x1 =>
  
  if v2 = 0 then some (some (.int (0 : Int32)), x1)
  else mj_rI (kX0 d 12 [.ref 0, .int a3, .int (76 : Int32)] x1) fun v4 x3 =>
   
   if v4 = 0 then some (some (.int (0 : Int32)), x3)
   else some (some (.int (1 : Int32)), x3) := (mj_run_to (cd := cdX0) (rt := 5) (tab := tX0_isActOf) (cal := kX0 d) zX0_isActOf 27 (390, [some (.ref 0), some (.int a1), some (.int a2), some (.int a3), some (.int a4)], [], x)).trans rfl
set_option maxRecDepth 100000 in
set_option maxHeartbeats 4000000 in
theorem bX0_isActOf_414 (d : Nat) (a1 : Int32) (a2 : Int32) (a3 : Int32) (a4 : Int32) (x : mj_X) : rX0_isActOf d (414, [some (.ref 0), some (.int a1), some (.int a2), some (.int a3), some (.int a4)], [], x) = mj_rI (kX0 d 12 [.ref 0, .int a2, .int (77 : Int32)] x) fun v2 x1 =>
  
  if v2 = 0 then mj_rI (kX0 d 12 [.ref 0, .int a2, .int (78 : Int32)] x1) fun v4 x3 =>
   
   if v4 = 0 then some (some (.int (0 : Int32)), x3)
   else rX0_isActOf d (434, [some (.ref 0), some (.int a1), some (.int a2), some (.int a3), some (.int a4)], [], x3)
  else rX0_isActOf d (434, [some (.ref 0), some (.int a1), some (.int a2), some (.int a3), some (.int a4)], [], x1) := (mj_run_to (cd := cdX0) (rt := 5) (tab := tX0_isActOf) (cal := kX0 d) zX0_isActOf 27 (414, [some (.ref 0), some (.int a1), some (.int a2), some (.int a3), some (.int a4)], [], x)).trans rfl
set_option maxRecDepth 100000 in
set_option maxHeartbeats 4000000 in
theorem bX0_isActOf_434 (d : Nat) (a1 : Int32) (a2 : Int32) (a3 : Int32) (a4 : Int32) (x : mj_X) : rX0_isActOf d (434, [some (.ref 0), some (.int a1), some (.int a2), some (.int a3), some (.int a4)], [], x) = 
  if a4 = 0 then mj_rI (kX0 d 12 [.ref 0, .int a3, .int (76 : Int32)] x) fun v2 x1 =>
   
   if v2 = 0 then some (some (.int (0 : Int32)), x1)
   else some (some (.int (1 : Int32)), x1)
  else some (some (.int (1 : Int32)), x) := (mj_run_to (cd := cdX0) (rt := 5) (tab := tX0_isActOf) (cal := kX0 d) zX0_isActOf 27 (434, [some (.ref 0), some (.int a1), some (.int a2), some (.int a3), some (.int a4)], [], x)).trans rfl
set_option maxRecDepth 100000 in
set_option maxHeartbeats 4000000 in
theorem bX0_isActOf_455 (d : Nat) (a1 : Int32) (a2 : Int32) (a3 : Int32) (a4 : Int32) (x : mj_X) : rX0_isActOf d (455, [some (.ref 0), some (.int a1), some (.int a2), some (.int a3), some (.int a4)], [], x) = mj_rI (kX0 d 2 [.long a2.toInt64, .long (0 : Int64), .long (7 : Int64)] x) fun v2 x1 =>
  
  if v2 = 0 then some (some (.int (0 : Int32)), x1)
  else mj_rI (kX0 d 18 [.ref 0, .int a3] x1) fun v4 x3 =>
   
   if v4 = 0 then some (some (.int (0 : Int32)), x3)
   else some (some (.int (1 : Int32)), x3) := (mj_run_to (cd := cdX0) (rt := 5) (tab := tX0_isActOf) (cal := kX0 d) zX0_isActOf 27 (455, [some (.ref 0), some (.int a1), some (.int a2), some (.int a3), some (.int a4)], [], x)).trans rfl
set_option maxRecDepth 100000 in
set_option maxHeartbeats 4000000 in
theorem bX0_isActOf_481 (d : Nat) (a1 : Int32) (a2 : Int32) (a3 : Int32) (a4 : Int32) (x : mj_X) : rX0_isActOf d (481, [some (.ref 0), some (.int a1), some (.int a2), some (.int a3), some (.int a4)], [], x) = mj_rI (kX0 d 12 [.ref 0, .int a2, .int (5 : Int32)] x) fun v2 x1 =>
  
  if v2 = 0 then some (some (.int (0 : Int32)), x1)
  else mj_g a2 4000 (
   if (x1.1 4 a2.toNatClampNeg) = (1 : Int32) then mj_rI (kX0 d 12 [.ref 0, .int a3, .int (77 : Int32)] x1) fun v4 x3 =>
    
    if v4 = 0 then some (some (.int (0 : Int32)), x3)
    else some (some (.int (1 : Int32)), x3)
   else some (some (.int (0 : Int32)), x1)) := (mj_run_to (cd := cdX0) (rt := 5) (tab := tX0_isActOf) (cal := kX0 d) zX0_isActOf 27 (481, [some (.ref 0), some (.int a1), some (.int a2), some (.int a3), some (.int a4)], [], x)).trans rfl
set_option maxRecDepth 100000 in
set_option maxHeartbeats 4000000 in
theorem bX0_isActOf_516 (d : Nat) (a1 : Int32) (a2 : Int32) (a3 : Int32) (a4 : Int32) (x : mj_X) : rX0_isActOf d (516, [some (.ref 0), some (.int a1), some (.int a2), some (.int a3), some (.int a4)], [], x) = mj_rI (kX0 d 10 [.ref 0, .int a2] x) fun v2 x1 =>
  
  if v2 = 0 then some (some (.int (0 : Int32)), x1)
  else mj_rI (kX0 d 18 [.ref 0, .int a3] x1) fun v4 x3 =>
   
   if v4 = 0 then some (some (.int (0 : Int32)), x3)
   else some (some (.int (1 : Int32)), x3) := (mj_run_to (cd := cdX0) (rt := 5) (tab := tX0_isActOf) (cal := kX0 d) zX0_isActOf 27 (516, [some (.ref 0), some (.int a1), some (.int a2), some (.int a3), some (.int a4)], [], x)).trans rfl
set_option maxRecDepth 100000 in
set_option maxHeartbeats 4000000 in
theorem bX0_isActOf_538 (d : Nat) (a1 : Int32) (a2 : Int32) (a3 : Int32) (a4 : Int32) (x : mj_X) : rX0_isActOf d (538, [some (.ref 0), some (.int a1), some (.int a2), some (.int a3), some (.int a4)], [], x) = mj_rI (kX0 d 7 [.ref 0, .int a2, .int (1 : Int32)] x) fun v2 x1 =>
  
  if v2 = 0 then some (some (.int (0 : Int32)), x1)
  else mj_rI (kX0 d 12 [.ref 0, .int a3, .int (82 : Int32)] x1) fun v4 x3 =>
   
   if v4 = 0 then some (some (.int (0 : Int32)), x3)
   else some (some (.int (1 : Int32)), x3) := (mj_run_to (cd := cdX0) (rt := 5) (tab := tX0_isActOf) (cal := kX0 d) zX0_isActOf 27 (538, [some (.ref 0), some (.int a1), some (.int a2), some (.int a3), some (.int a4)], [], x)).trans rfl
set_option maxRecDepth 100000 in
set_option maxHeartbeats 4000000 in
theorem bX0_isActOf_563 (d : Nat) (a1 : Int32) (a2 : Int32) (a3 : Int32) (a4 : Int32) (x : mj_X) : rX0_isActOf d (563, [some (.ref 0), some (.int a1), some (.int a2), some (.int a3), some (.int a4)], [], x) = mj_rI (kX0 d 12 [.ref 0, .int a2, .int (83 : Int32)] x) fun v2 x1 =>
  
  if v2 = 0 then mj_rI (kX0 d 12 [.ref 0, .int a2, .int (84 : Int32)] x1) fun v4 x3 =>
   
   if v4 = 0 then some (some (.int (0 : Int32)), x3)
   else rX0_isActOf d (583, [some (.ref 0), some (.int a1), some (.int a2), some (.int a3), some (.int a4)], [], x3)
  else rX0_isActOf d (583, [some (.ref 0), some (.int a1), some (.int a2), some (.int a3), some (.int a4)], [], x1) := (mj_run_to (cd := cdX0) (rt := 5) (tab := tX0_isActOf) (cal := kX0 d) zX0_isActOf 27 (563, [some (.ref 0), some (.int a1), some (.int a2), some (.int a3), some (.int a4)], [], x)).trans rfl
set_option maxRecDepth 100000 in
set_option maxHeartbeats 4000000 in
theorem bX0_isActOf_583 (d : Nat) (a1 : Int32) (a2 : Int32) (a3 : Int32) (a4 : Int32) (x : mj_X) : rX0_isActOf d (583, [some (.ref 0), some (.int a1), some (.int a2), some (.int a3), some (.int a4)], [], x) = 
  if a4 = 0 then mj_rI (kX0 d 12 [.ref 0, .int a3, .int (82 : Int32)] x) fun v2 x1 =>
   
   if v2 = 0 then some (some (.int (0 : Int32)), x1)
   else mj_rI (kX0 d 20 [.ref 0, .int a2, .int a3] x1) fun v4 x3 =>
    
    if v4 = 0 then some (some (.int (0 : Int32)), x3)
    else some (some (.int (1 : Int32)), x3)
  else some (some (.int (1 : Int32)), x) := (mj_run_to (cd := cdX0) (rt := 5) (tab := tX0_isActOf) (cal := kX0 d) zX0_isActOf 27 (583, [some (.ref 0), some (.int a1), some (.int a2), some (.int a3), some (.int a4)], [], x)).trans rfl
set_option maxRecDepth 100000 in
set_option maxHeartbeats 4000000 in
theorem bX0_isActOf_613 (d : Nat) (a1 : Int32) (a2 : Int32) (a3 : Int32) (a4 : Int32) (x : mj_X) : rX0_isActOf d (613, [some (.ref 0), some (.int a1), some (.int a2), some (.int a3), some (.int a4)], [], x) = mj_rI (kX0 d 18 [.ref 0, .int a3] x) fun v2 x1 =>
  mj_gb v2 (some (some (.int v2), x1)) := (mj_run_to (cd := cdX0) (rt := 5) (tab := tX0_isActOf) (cal := kX0 d) zX0_isActOf 27 (613, [some (.ref 0), some (.int a1), some (.int a2), some (.int a3), some (.int a4)], [], x)).trans rfl
set_option maxRecDepth 100000 in
set_option maxHeartbeats 4000000 in
theorem bX0_isActOf_619 (d : Nat) (a1 : Int32) (a2 : Int32) (a3 : Int32) (a4 : Int32) (x : mj_X) : rX0_isActOf d (619, [some (.ref 0), some (.int a1), some (.int a2), some (.int a3), some (.int a4)], [], x) = 
  if a2 = (-1 : Int32) then mj_rI (kX0 d 18 [.ref 0, .int a3] x) fun v2 x1 =>
   
   if v2 = 0 then some (some (.int (0 : Int32)), x1)
   else some (some (.int (1 : Int32)), x1)
  else some (some (.int (0 : Int32)), x) := (mj_run_to (cd := cdX0) (rt := 5) (tab := tX0_isActOf) (cal := kX0 d) zX0_isActOf 27 (619, [some (.ref 0), some (.int a1), some (.int a2), some (.int a3), some (.int a4)], [], x)).trans rfl
set_option maxRecDepth 100000 in
set_option maxHeartbeats 4000000 in
theorem bX0_isActOf_638 (d : Nat) (a1 : Int32) (a2 : Int32) (a3 : Int32) (a4 : Int32) (x : mj_X) : rX0_isActOf d (638, [some (.ref 0), some (.int a1), some (.int a2), some (.int a3), some (.int a4)], [], x) = mj_rI (kX0 d 2 [.long a2.toInt64, .long (0 : Int64), .long (65535 : Int64)] x) fun v2 x1 =>
  
  if v2 = 0 then some (some (.int (0 : Int32)), x1)
  else mj_rI (kX0 d 18 [.ref 0, .int a3] x1) fun v4 x3 =>
   
   if v4 = 0 then some (some (.int (0 : Int32)), x3)
   else some (some (.int (1 : Int32)), x3) := (mj_run_to (cd := cdX0) (rt := 5) (tab := tX0_isActOf) (cal := kX0 d) zX0_isActOf 27 (638, [some (.ref 0), some (.int a1), some (.int a2), some (.int a3), some (.int a4)], [], x)).trans rfl
set_option maxRecDepth 100000 in
set_option maxHeartbeats 4000000 in
theorem bX0_isActOf_664 (d : Nat) (a1 : Int32) (a2 : Int32) (a3 : Int32) (a4 : Int32) (x : mj_X) : rX0_isActOf d (664, [some (.ref 0), some (.int a1), some (.int a2), some (.int a3), some (.int a4)], [], x) = some (some (.int (0 : Int32)), x) := (mj_run_to (cd := cdX0) (rt := 5) (tab := tX0_isActOf) (cal := kX0 d) zX0_isActOf 27 (664, [some (.ref 0), some (.int a1), some (.int a2), some (.int a3), some (.int a4)], [], x)).trans rfl
noncomputable abbrev rX0_isAct (d : Nat) : mj_S → mj_R := mj_run cdX0 5 tX0_isAct (kX0 d)
def zX0_isAct (p : Nat) : Bool := false
set_option maxRecDepth 100000 in
set_option maxHeartbeats 4000000 in
theorem eX0_isAct (d : Nat) (a1 : Int32) (x : mj_X) : kX0 (d + 1) 18 [.ref 0, .int a1] x = mj_rI (kX0 d 6 [.ref 0, .int a1] x) fun v2 x1 =>
  
  if v2 = 0 then some (some (.int (0 : Int32)), x1)
  else mj_g a1 4000 (mj_rI (kX0 d 19 [.int (x1.1 1 a1.toNatClampNeg)] x1) fun v4 x3 =>
   
   if v4 = 0 then some (some (.int (0 : Int32)), x3)
   else mj_g a1 4000 (
    if (x3.1 6 a1.toNatClampNeg) = 0 then some (some (.int (1 : Int32)), x3)
    else some (some (.int (0 : Int32)), x3))) := (mj_run_to (cd := cdX0) (rt := 5) (tab := tX0_isAct) (cal := kX0 d) zX0_isAct 26 (0, [some (.ref 0), some (.int a1)], [], x)).trans rfl
noncomputable abbrev rX0_isStatement (d : Nat) : mj_S → mj_R := mj_run cdX0 5 tX0_isStatement (kX0 d)
def zX0_isStatement (p : Nat) : Bool := bif Nat.beq p 62 then true else false
set_option maxRecDepth 100000 in
set_option maxHeartbeats 4000000 in
theorem eX0_isStatement (d : Nat) (a0 : Int32) (x : mj_X) : kX0 (d + 1) 19 [.int a0] x = mj_rI (kX0 d 2 [.long a0.toInt64, .long (60 : Int64), .long (65 : Int64)] x) fun v2 x1 =>
  
  if v2 = 0 then mj_rI (kX0 d 2 [.long a0.toInt64, .long (67 : Int64), .long (69 : Int64)] x1) fun v4 x3 =>
   
   if v4 = 0 then mj_rI (kX0 d 2 [.long a0.toInt64, .long (71 : Int64), .long (75 : Int64)] x3) fun v6 x5 =>
    
    if v6 = 0 then mj_rI (kX0 d 2 [.long a0.toInt64, .long (79 : Int64), .long (81 : Int64)] x5) fun v8 x7 =>
     
     if v8 = 0 then 
      if a0 = (85 : Int32) then rX0_isStatement d (62, [some (.int a0)], [], x7)
      else some (some (.int (0 : Int32)), x7)
     else rX0_isStatement d (62, [some (.int a0)], [], x7)
    else rX0_isStatement d (62, [some (.int a0)], [], x5)
   else rX0_isStatement d (62, [some (.int a0)], [], x3)
  else rX0_isStatement d (62, [some (.int a0)], [], x1) := (mj_run_to (cd := cdX0) (rt := 5) (tab := tX0_isStatement) (cal := kX0 d) zX0_isStatement 36 (0, [some (.int a0)], [], x)).trans rfl
set_option maxRecDepth 100000 in
set_option maxHeartbeats 4000000 in
theorem bX0_isStatement_62 (d : Nat) (a0 : Int32) (x : mj_X) : rX0_isStatement d (62, [some (.int a0)], [], x) = some (some (.int (1 : Int32)), x) := (mj_run_to (cd := cdX0) (rt := 5) (tab := tX0_isStatement) (cal := kX0 d) zX0_isStatement 36 (62, [some (.int a0)], [], x)).trans rfl
noncomputable abbrev rX0_isNew (d : Nat) : mj_S → mj_R := mj_run cdX0 5 tX0_isNew (kX0 d)
def zX0_isNew (p : Nat) : Bool := bif Nat.beq p 2 then true else false
set_option maxRecDepth 100000 in
set_option maxHeartbeats 4000000 in
theorem eX0_isNew (d : Nat) (a1 : Int32) (a2 : Int32) (x : mj_X) : kX0 (d + 1) 20 [.ref 0, .int a1, .int a2] x = rX0_isNew d (2, [some (.ref 0), some (.int a1), some (.int a2), some (.int a2)], [], x) := (mj_run_to (cd := cdX0) (rt := 5) (tab := tX0_isNew) (cal := kX0 d) zX0_isNew 55 (0, [some (.ref 0), some (.int a1), some (.int a2), none], [], x)).trans rfl
set_option maxRecDepth 100000 in
set_option maxHeartbeats 4000000 in
theorem bX0_isNew_2 (d : Nat) (a1 : Int32) (a2 : Int32) (a3 : Int32) (x : mj_X) : rX0_isNew d (2, [some (.ref 0), some (.int a1), some (.int a2), some (.int a3)], [], x) = 
  if a3 = (-1 : Int32) then some (some (.int (1 : Int32)), x)
  else mj_g a1 4000 (mj_g a3 4000 (mj_g (x.1 2 a3.toNatClampNeg) 4000 (
   if (x.1 1 a1.toNatClampNeg) = (x.1 1 (x.1 2 a3.toNatClampNeg).toNatClampNeg) then mj_g a1 4000 (
    if (x.1 1 a1.toNatClampNeg) = (84 : Int32) then some (some (.int (0 : Int32)), x)
    else mj_g a1 4000 (mj_g a3 4000 (mj_g (x.1 2 a3.toNatClampNeg) 4000 (
     if (x.1 2 a1.toNatClampNeg) = (x.1 2 (x.1 2 a3.toNatClampNeg).toNatClampNeg) then some (some (.int (0 : Int32)), x)
     else mj_g a3 4000 (rX0_isNew d (2, [some (.ref 0), some (.int a1), some (.int a2), some (.int (x.1 3 a3.toNatClampNeg))], [], x))))))
   else mj_g a3 4000 (rX0_isNew d (2, [some (.ref 0), some (.int a1), some (.int a2), some (.int (x.1 3 a3.toNatClampNeg))], [], x))))) := (mj_run_to (cd := cdX0) (rt := 5) (tab := tX0_isNew) (cal := kX0 d) zX0_isNew 55 (2, [some (.ref 0), some (.int a1), some (.int a2), some (.int a3)], [], x)).trans rfl
noncomputable abbrev rX0_hasA (d : Nat) : mj_S → mj_R := mj_run cdX0 5 tX0_hasA (kX0 d)
def zX0_hasA (p : Nat) : Bool := false
set_option maxRecDepth 100000 in
set_option maxHeartbeats 4000000 in
theorem eX0_hasA (d : Nat) (a0 : Int32) (x : mj_X) : kX0 (d + 1) 21 [.int a0] x = mj_rI (kX0 d 2 [.long a0.toInt64, .long (1 : Int64), .long (7 : Int64)] x) fun v2 x1 =>
  
  if v2 = 0 then 
   if a0 = (22 : Int32) then some (some (.int (0 : Int32)), x1)
   else 
    if a0 = (46 : Int32) then some (some (.int (0 : Int32)), x1)
    else 
     if a0 = (48 : Int32) then some (some (.int (0 : Int32)), x1)
     else 
      if a0 = (51 : Int32) then some (some (.int (0 : Int32)), x1)
      else 
       if a0 = (71 : Int32) then some (some (.int (0 : Int32)), x1)
       else 
        if a0 = (72 : Int32) then some (some (.int (0 : Int32)), x1)
        else 
         if a0 = (77 : Int32) then some (some (.int (0 : Int32)), x1)
         else 
          if a0 = (83 : Int32) then some (some (.int (0 : Int32)), x1)
          else 
           if a0 = (84 : Int32) then some (some (.int (0 : Int32)), x1)
           else 
            if a0 = (85 : Int32) then some (some (.int (0 : Int32)), x1)
            else some (some (.int (1 : Int32)), x1)
  else some (some (.int (0 : Int32)), x1) := (mj_run_to (cd := cdX0) (rt := 5) (tab := tX0_hasA) (cal := kX0 d) zX0_hasA 63 (0, [some (.int a0)], [], x)).trans rfl
noncomputable abbrev rX0_hasB (d : Nat) : mj_S → mj_R := mj_run cdX0 5 tX0_hasB (kX0 d)
def zX0_hasB (p : Nat) : Bool := false
set_option maxRecDepth 100000 in
set_option maxHeartbeats 4000000 in
theorem eX0_hasB (d : Nat) (a0 : Int32) (x : mj_X) : kX0 (d + 1) 22 [.int a0] x = mj_rI (kX0 d 2 [.long a0.toInt64, .long (1 : Int64), .long (6 : Int64)] x) fun v2 x1 =>
  
  if v2 = 0 then 
   if a0 = (34 : Int32) then some (some (.int (0 : Int32)), x1)
   else some (some (.int (1 : Int32)), x1)
  else some (some (.int (0 : Int32)), x1) := (mj_run_to (cd := cdX0) (rt := 5) (tab := tX0_hasB) (cal := kX0 d) zX0_hasB 18 (0, [some (.int a0)], [], x)).trans rfl
noncomputable abbrev rX0_of (d : Nat) : mj_S → mj_R := mj_run cdX0 1 tX0_of (kX0 d)
def zX0_of (p : Nat) : Bool := bif Nat.blt p 65 then (bif Nat.blt p 51 then (bif Nat.beq p 44 then true else false) else (bif Nat.blt p 58 then (bif Nat.beq p 51 then true else false) else (bif Nat.beq p 58 then true else false))) else (bif Nat.blt p 72 then (bif Nat.beq p 65 then true else false) else (bif Nat.blt p 79 then (bif Nat.beq p 72 then true else false) else (bif Nat.beq p 79 then true else false)))
set_option maxRecDepth 100000 in
set_option maxHeartbeats 4000000 in
theorem eX0_of (d : Nat) (a1 : Int32) (a2 : Int32) (x : mj_X) : kX0 (d + 1) 23 [.ref 0, .int a1, .int a2] x = mj_rI (kX0 d 6 [.ref 0, .int a1] x) fun v2 x1 =>
  
  if v2 = 0 then some (some (.int (-1 : Int32)), x1)
  else mj_sw a2 0 (68) [33, 40, 47, 54, 61] fun off => mj_j 11 off fun t => rX0_of d (t, [some (.ref 0), some (.int a1), some (.int a2)], [], x1) := (mj_run_to (cd := cdX0) (rt := 1) (tab := tX0_of) (cal := kX0 d) zX0_of 16 (0, [some (.ref 0), some (.int a1), some (.int a2)], [], x)).trans rfl
set_option maxRecDepth 100000 in
set_option maxHeartbeats 4000000 in
theorem bX0_of_44 (d : Nat) (a1 : Int32) (a2 : Int32) (x : mj_X) : rX0_of d (44, [some (.ref 0), some (.int a1), some (.int a2)], [], x) = mj_g a1 4000 (some (some (.int (x.1 1 a1.toNatClampNeg)), x)) := (mj_run_to (cd := cdX0) (rt := 1) (tab := tX0_of) (cal := kX0 d) zX0_of 16 (44, [some (.ref 0), some (.int a1), some (.int a2)], [], x)).trans rfl
set_option maxRecDepth 100000 in
set_option maxHeartbeats 4000000 in
theorem bX0_of_51 (d : Nat) (a1 : Int32) (a2 : Int32) (x : mj_X) : rX0_of d (51, [some (.ref 0), some (.int a1), some (.int a2)], [], x) = mj_g a1 4000 (some (some (.int (x.1 2 a1.toNatClampNeg)), x)) := (mj_run_to (cd := cdX0) (rt := 1) (tab := tX0_of) (cal := kX0 d) zX0_of 16 (51, [some (.ref 0), some (.int a1), some (.int a2)], [], x)).trans rfl
set_option maxRecDepth 100000 in
set_option maxHeartbeats 4000000 in
theorem bX0_of_58 (d : Nat) (a1 : Int32) (a2 : Int32) (x : mj_X) : rX0_of d (58, [some (.ref 0), some (.int a1), some (.int a2)], [], x) = mj_g a1 4000 (some (some (.int (x.1 3 a1.toNatClampNeg)), x)) := (mj_run_to (cd := cdX0) (rt := 1) (tab := tX0_of) (cal := kX0 d) zX0_of 16 (58, [some (.ref 0), some (.int a1), some (.int a2)], [], x)).trans rfl
set_option maxRecDepth 100000 in
set_option maxHeartbeats 4000000 in
theorem bX0_of_65 (d : Nat) (a1 : Int32) (a2 : Int32) (x : mj_X) : rX0_of d (65, [some (.ref 0), some (.int a1), some (.int a2)], [], x) = mj_g a1 4000 (some (some (.int (x.1 4 a1.toNatClampNeg)), x)) := (mj_run_to (cd := cdX0) (rt := 1) (tab := tX0_of) (cal := kX0 d) zX0_of 16 (65, [some (.ref 0), some (.int a1), some (.int a2)], [], x)).trans rfl
set_option maxRecDepth 100000 in
set_option maxHeartbeats 4000000 in
theorem bX0_of_72 (d : Nat) (a1 : Int32) (a2 : Int32) (x : mj_X) : rX0_of d (72, [some (.ref 0), some (.int a1), some (.int a2)], [], x) = mj_g a1 4000 (some (some (.int (x.1 5 a1.toNatClampNeg)), x)) := (mj_run_to (cd := cdX0) (rt := 1) (tab := tX0_of) (cal := kX0 d) zX0_of 16 (72, [some (.ref 0), some (.int a1), some (.int a2)], [], x)).trans rfl
set_option maxRecDepth 100000 in
set_option maxHeartbeats 4000000 in
theorem bX0_of_79 (d : Nat) (a1 : Int32) (a2 : Int32) (x : mj_X) : rX0_of d (79, [some (.ref 0), some (.int a1), some (.int a2)], [], x) = some (some (.int (-1 : Int32)), x) := (mj_run_to (cd := cdX0) (rt := 1) (tab := tX0_of) (cal := kX0 d) zX0_of 16 (79, [some (.ref 0), some (.int a1), some (.int a2)], [], x)).trans rfl
