noncomputable abbrev rX1_octetOf (d : Nat) : mj_S → mj_R := mj_run cdX1 0 tX1_octetOf (kX1 d)
def zX1_octetOf (p : Nat) : Bool := false
set_option maxRecDepth 100000 in
set_option maxHeartbeats 4000000 in
theorem eX1_octetOf (d : Nat) (a1 : Int32) (x : mj_X) : kX1 (d + 1) 44 [.ref 0, .int a1] x = 
  if (x.1 0 32) = (65535 : Int32) then some (none, (mj_wI x 0 34 (1 : Int32)))
  else mj_g ((x.1 0 31) + (x.1 0 32)) 160000 (some (none, (mj_wI (mj_wI x 19 ((x.1 0 31) + (x.1 0 32)).toNatClampNeg a1.toInt8.toInt32.toInt8.toInt32) 0 32 ((x.1 0 32) + (1 : Int32))))) := (mj_run_to (cd := cdX1) (rt := 0) (tab := tX1_octetOf) (cal := kX1 d) zX1_octetOf 27 (0, [some (.ref 0), some (.int a1)], [], x)).trans rfl
noncomputable abbrev rX1_label (d : Nat) : mj_S → mj_R := mj_run cdX1 1 tX1_label (kX1 d)
def zX1_label (p : Nat) : Bool := bif Nat.beq p 61 then true else false
set_option maxRecDepth 100000 in
set_option maxHeartbeats 4000000 in
theorem eX1_label (d : Nat)  (x : mj_X) : kX1 (d + 1) 45 [.ref 0] x = 
  if (x.1 0 57) ≤ 0 then 
   if (x.1 0 50) = (300000 : Int32) then some (some (.int (0 : Int32)), (mj_wI x 0 34 (1 : Int32)))
   else rX1_label d (61, [some (.ref 0), some (.int (x.1 0 50))], [], (mj_wI x 0 50 ((x.1 0 50) + (1 : Int32))))
  else mj_g ((x.1 0 57) - (1 : Int32)) 4000 (rX1_label d (61, [some (.ref 0), some (.int (x.1 57 ((x.1 0 57) - (1 : Int32)).toNatClampNeg))], [], (mj_wI x 0 57 ((x.1 0 57) - (1 : Int32))))) := (mj_run_to (cd := cdX1) (rt := 1) (tab := tX1_label) (cal := kX1 d) zX1_label 38 (0, [some (.ref 0), none], [], x)).trans rfl
set_option maxRecDepth 100000 in
set_option maxHeartbeats 4000000 in
theorem bX1_label_61 (d : Nat) (a1 : Int32) (x : mj_X) : rX1_label d (61, [some (.ref 0), some (.int a1)], [], x) = mj_g a1 300000 (mj_g a1 300000 (some (some (.int a1), (mj_wI (mj_wI x 49 a1.toNatClampNeg (-1 : Int32)) 50 a1.toNatClampNeg (-1 : Int32))))) := (mj_run_to (cd := cdX1) (rt := 1) (tab := tX1_label) (cal := kX1 d) zX1_label 38 (61, [some (.ref 0), some (.int a1)], [], x)).trans rfl
noncomputable abbrev rX1_condition (d : Nat) : mj_S → mj_R := mj_run cdX1 0 tX1_condition (kX1 d)
def zX1_condition (p : Nat) : Bool := bif Nat.blt p 141 then (bif Nat.beq p 119 then true else false) else (bif Nat.blt p 242 then (bif Nat.beq p 141 then true else false) else (bif Nat.beq p 242 then true else false))
set_option maxRecDepth 100000 in
set_option maxHeartbeats 4000000 in
theorem eX1_condition (d : Nat) (a1 : Int32) (a2 : Int32) (a3 : Int32) (x : mj_X) : kX1 (d + 1) 46 [.ref 0, .int a1, .int a2, .int a3] x = 
  if (x.1 0 35) = 0 then some (none, x)
  else 
   if (x.1 0 34) = 0 then mj_g a1 4000 (mj_g a1 4000 (mj_g a1 4000 (
    if (x.1 2 a1.toNatClampNeg) = (1 : Int32) then 
     if (x.1 3 a1.toNatClampNeg) = 0 then 
      if (0 : Int32) = a2 then mj_rV (kX1 d 47 [.ref 0, .int a3] x) fun x1 =>
       some (none, x1)
      else some (none, x)
     else 
      if (1 : Int32) = a2 then mj_rV (kX1 d 47 [.ref 0, .int a3] x) fun x2 =>
       some (none, x2)
      else some (none, x)
    else 
     if (x.1 2 a1.toNatClampNeg) = (31 : Int32) then 
      if a2 = 0 then mj_rV (kX1 d 46 [.ref 0, .int (x.1 3 a1.toNatClampNeg), .int (1 : Int32), .int a3] x) fun x3 =>
       some (none, x3)
      else mj_rV (kX1 d 46 [.ref 0, .int (x.1 3 a1.toNatClampNeg), .int (0 : Int32), .int a3] x) fun x4 =>
       some (none, x4)
     else 
      if (x.1 2 a1.toNatClampNeg) = (29 : Int32) then 
       if (x.1 2 a1.toNatClampNeg) = (29 : Int32) then rX1_condition d (119, [some (.ref 0), some (.int a1), some (.int a2), some (.int a3), some (.int (x.1 3 a1.toNatClampNeg)), some (.int (x.1 4 a1.toNatClampNeg)), some (.int (x.1 2 a1.toNatClampNeg)), none], [.int (1 : Int32)], x)
       else rX1_condition d (119, [some (.ref 0), some (.int a1), some (.int a2), some (.int a3), some (.int (x.1 3 a1.toNatClampNeg)), some (.int (x.1 4 a1.toNatClampNeg)), some (.int (x.1 2 a1.toNatClampNeg)), none], [.int (0 : Int32)], x)
      else 
       if (x.1 2 a1.toNatClampNeg) = (30 : Int32) then 
        if (x.1 2 a1.toNatClampNeg) = (29 : Int32) then rX1_condition d (119, [some (.ref 0), some (.int a1), some (.int a2), some (.int a3), some (.int (x.1 3 a1.toNatClampNeg)), some (.int (x.1 4 a1.toNatClampNeg)), some (.int (x.1 2 a1.toNatClampNeg)), none], [.int (1 : Int32)], x)
        else rX1_condition d (119, [some (.ref 0), some (.int a1), some (.int a2), some (.int a3), some (.int (x.1 3 a1.toNatClampNeg)), some (.int (x.1 4 a1.toNatClampNeg)), some (.int (x.1 2 a1.toNatClampNeg)), none], [.int (0 : Int32)], x)
       else 
        if (x.1 2 a1.toNatClampNeg) < (23 : Int32) then rX1_condition d (242, [some (.ref 0), some (.int a1), some (.int a2), some (.int a3), some (.int (x.1 3 a1.toNatClampNeg)), some (.int (x.1 4 a1.toNatClampNeg)), some (.int (x.1 2 a1.toNatClampNeg)), none], [], x)
        else 
         if (28 : Int32) < (x.1 2 a1.toNatClampNeg) then rX1_condition d (242, [some (.ref 0), some (.int a1), some (.int a2), some (.int a3), some (.int (x.1 3 a1.toNatClampNeg)), some (.int (x.1 4 a1.toNatClampNeg)), some (.int (x.1 2 a1.toNatClampNeg)), none], [], x)
         else mj_rV (kX1 d 52 [.ref 0, .int (x.1 2 a1.toNatClampNeg), .int (x.1 3 a1.toNatClampNeg), .int (x.1 4 a1.toNatClampNeg), .int a2, .int a3] x) fun x5 =>
          some (none, x5))))
   else some (none, x) := (mj_run_to (cd := cdX1) (rt := 0) (tab := tX1_condition) (cal := kX1 d) zX1_condition 106 (0, [some (.ref 0), some (.int a1), some (.int a2), some (.int a3), none, none, none, none], [], x)).trans rfl
set_option maxRecDepth 100000 in
set_option maxHeartbeats 4000000 in
theorem bX1_condition_119 (d : Nat) (a1 : Int32) (a2 : Int32) (a3 : Int32) (a4 : Int32) (a5 : Int32) (a6 : Int32) (s0 : Int32) (x : mj_X) : rX1_condition d (119, [some (.ref 0), some (.int a1), some (.int a2), some (.int a3), some (.int a4), some (.int a5), some (.int a6), none], [.int s0], x) = 
  if s0 = a2 then mj_rI (kX1 d 45 [.ref 0] x) fun v2 x1 =>
   
   if a2 = 0 then rX1_condition d (141, [some (.ref 0), some (.int a1), some (.int a2), some (.int a3), some (.int a4), some (.int a5), some (.int a6), some (.int v2)], [.int (1 : Int32), .int a4, .ref 0], x1)
   else rX1_condition d (141, [some (.ref 0), some (.int a1), some (.int a2), some (.int a3), some (.int a4), some (.int a5), some (.int a6), some (.int v2)], [.int (0 : Int32), .int a4, .ref 0], x1)
  else mj_rV (kX1 d 46 [.ref 0, .int a4, .int a2, .int a3] x) fun x3 =>
   mj_rV (kX1 d 46 [.ref 0, .int a5, .int a2, .int a3] x3) fun x4 =>
   some (none, x4) := (mj_run_to (cd := cdX1) (rt := 0) (tab := tX1_condition) (cal := kX1 d) zX1_condition 106 (119, [some (.ref 0), some (.int a1), some (.int a2), some (.int a3), some (.int a4), some (.int a5), some (.int a6), none], [.int s0], x)).trans rfl
set_option maxRecDepth 100000 in
set_option maxHeartbeats 4000000 in
theorem bX1_condition_141 (d : Nat) (a1 : Int32) (a2 : Int32) (a3 : Int32) (a4 : Int32) (a5 : Int32) (a6 : Int32) (a7 : Int32) (s1 : Int32) (s2 : Int32) (x : mj_X) : rX1_condition d (141, [some (.ref 0), some (.int a1), some (.int a2), some (.int a3), some (.int a4), some (.int a5), some (.int a6), some (.int a7)], [.int s2, .int s1, .ref 0], x) = mj_rV (kX1 d 46 [.ref 0, .int s1, .int s2, .int a7] x) fun x1 =>
  mj_rV (kX1 d 46 [.ref 0, .int a5, .int a2, .int a3] x1) fun x2 =>
  mj_rV (kX1 d 51 [.ref 0, .int a7] x2) fun x3 =>
  mj_g a7 300000 (
  if 0 ≤ (x3.1 50 a7.toNatClampNeg) then some (none, x3)
  else mj_g (x3.1 0 57) 4000 (some (none, (mj_wI (mj_wI x3 57 (x3.1 0 57).toNatClampNeg a7) 0 57 ((x3.1 0 57) + (1 : Int32)))))) := (mj_run_to (cd := cdX1) (rt := 0) (tab := tX1_condition) (cal := kX1 d) zX1_condition 106 (141, [some (.ref 0), some (.int a1), some (.int a2), some (.int a3), some (.int a4), some (.int a5), some (.int a6), some (.int a7)], [.int s2, .int s1, .ref 0], x)).trans rfl
set_option maxRecDepth 100000 in
set_option maxHeartbeats 4000000 in
theorem bX1_condition_242 (d : Nat) (a1 : Int32) (a2 : Int32) (a3 : Int32) (a4 : Int32) (a5 : Int32) (a6 : Int32) (x : mj_X) : rX1_condition d (242, [some (.ref 0), some (.int a1), some (.int a2), some (.int a3), some (.int a4), some (.int a5), some (.int a6), none], [], x) = mj_rV (kX1 d 40 [.ref 0, .int a1] x) fun x1 =>
  
  if a2 = 0 then mj_rV (kX1 d 54 [.ref 0, .int (153 : Int32), .int (1 : Int32), .int a3] x1) fun x2 =>
   some (none, x2)
  else mj_rV (kX1 d 54 [.ref 0, .int (154 : Int32), .int (1 : Int32), .int a3] x1) fun x3 =>
   some (none, x3) := (mj_run_to (cd := cdX1) (rt := 0) (tab := tX1_condition) (cal := kX1 d) zX1_condition 106 (242, [some (.ref 0), some (.int a1), some (.int a2), some (.int a3), some (.int a4), some (.int a5), some (.int a6), none], [], x)).trans rfl
noncomputable abbrev rX1_jump (d : Nat) : mj_S → mj_R := mj_run cdX1 0 tX1_jump (kX1 d)
def zX1_jump (p : Nat) : Bool := bif Nat.beq p 37 then true else false
set_option maxRecDepth 100000 in
set_option maxHeartbeats 4000000 in
theorem eX1_jump (d : Nat) (a1 : Int32) (x : mj_X) : kX1 (d + 1) 47 [.ref 0, .int a1] x = 
  if (x.1 0 35) = 0 then some (none, x)
  else 
   if (x.1 0 34) = 0 then 
    if (x.1 0 33) = 0 then rX1_jump d (37, [some (.ref 0), some (.int a1), some (.int (x.1 0 32))], [.int (167 : Int32), .ref 0], x)
    else rX1_jump d (37, [some (.ref 0), some (.int a1), some (.int (x.1 0 32))], [.int (200 : Int32), .ref 0], x)
   else some (none, x) := (mj_run_to (cd := cdX1) (rt := 0) (tab := tX1_jump) (cal := kX1 d) zX1_jump 22 (0, [some (.ref 0), some (.int a1), none], [], x)).trans rfl
set_option maxRecDepth 100000 in
set_option maxHeartbeats 4000000 in
theorem bX1_jump_37 (d : Nat) (a1 : Int32) (a2 : Int32) (s1 : Int32) (x : mj_X) : rX1_jump d (37, [some (.ref 0), some (.int a1), some (.int a2)], [.int s1, .ref 0], x) = mj_rV (kX1 d 42 [.ref 0, .int s1, .int (0 : Int32), .int (0 : Int32)] x) fun x1 =>
  mj_rV (kX1 d 48 [.ref 0, .int a2, .int a1, .int (x1.1 0 33)] x1) fun x2 =>
  mj_rV (kX1 d 50 [.ref 0, .int a1] x2) fun x3 =>
  some (none, (mj_wI x3 0 35 (0 : Int32))) := (mj_run_to (cd := cdX1) (rt := 0) (tab := tX1_jump) (cal := kX1 d) zX1_jump 22 (37, [some (.ref 0), some (.int a1), some (.int a2)], [.int s1, .ref 0], x)).trans rfl
noncomputable abbrev rX1_fix (d : Nat) : mj_S → mj_R := mj_run cdX1 0 tX1_fix (kX1 d)
def zX1_fix (p : Nat) : Bool := false
set_option maxRecDepth 100000 in
set_option maxHeartbeats 4000000 in
theorem eX1_fix (d : Nat) (a1 : Int32) (a2 : Int32) (a3 : Int32) (x : mj_X) : kX1 (d + 1) 48 [.ref 0, .int a1, .int a2, .int a3] x = 
  if (x.1 0 55) = (30000 : Int32) then some (none, (mj_wI x 0 34 (1 : Int32)))
  else mj_g (x.1 0 55) 30000 (mj_g (x.1 0 55) 30000 (mj_g (x.1 0 55) 30000 (mj_gb a3 (mj_g (x.1 0 55) 30000 (
   if a3 = 0 then mj_rV (kX1 d 49 [.ref 0, .int (0 : Int32), .int (2 : Int32)] (mj_wI (mj_wI (mj_wI (mj_wI (mj_wI x 52 (x.1 0 55).toNatClampNeg (x.1 0 32)) 53 (x.1 0 55).toNatClampNeg a1) 54 (x.1 0 55).toNatClampNeg a2) 55 (x.1 0 55).toNatClampNeg a3) 0 55 ((x.1 0 55) + (1 : Int32)))) fun x1 =>
    some (none, x1)
   else mj_rV (kX1 d 49 [.ref 0, .int (0 : Int32), .int (4 : Int32)] (mj_wI (mj_wI (mj_wI (mj_wI (mj_wI x 52 (x.1 0 55).toNatClampNeg (x.1 0 32)) 53 (x.1 0 55).toNatClampNeg a1) 54 (x.1 0 55).toNatClampNeg a2) 55 (x.1 0 55).toNatClampNeg a3) 0 55 ((x.1 0 55) + (1 : Int32)))) fun x2 =>
    some (none, x2)))))) := (mj_run_to (cd := cdX1) (rt := 0) (tab := tX1_fix) (cal := kX1 d) zX1_fix 54 (0, [some (.ref 0), some (.int a1), some (.int a2), some (.int a3)], [], x)).trans rfl
noncomputable abbrev rX1_operand (d : Nat) : mj_S → mj_R := mj_run cdX1 0 tX1_operand (kX1 d)
def zX1_operand (p : Nat) : Bool := bif Nat.beq p 19 then true else false
set_option maxRecDepth 100000 in
set_option maxHeartbeats 4000000 in
theorem eX1_operand (d : Nat) (a1 : Int32) (a2 : Int32) (x : mj_X) : kX1 (d + 1) 49 [.ref 0, .int a1, .int a2] x = 
  if (x.1 0 35) = 0 then some (none, x)
  else 
   if (x.1 0 34) = 0 then rX1_operand d (19, [some (.ref 0), some (.int a1), some (.int a2), some (.int (a2 - (1 : Int32)))], [], x)
   else some (none, x) := (mj_run_to (cd := cdX1) (rt := 0) (tab := tX1_operand) (cal := kX1 d) zX1_operand 15 (0, [some (.ref 0), some (.int a1), some (.int a2), none], [], x)).trans rfl
set_option maxRecDepth 100000 in
set_option maxHeartbeats 4000000 in
theorem bX1_operand_19 (d : Nat) (a1 : Int32) (a2 : Int32) (a3 : Int32) (x : mj_X) : rX1_operand d (19, [some (.ref 0), some (.int a1), some (.int a2), some (.int a3)], [], x) = 
  if a3 < 0 then some (none, x)
  else mj_rV (kX1 d 44 [.ref 0, .int (a1 >>> (((8 : Int32) * a3) &&& 31))] x) fun x1 =>
   rX1_operand d (19, [some (.ref 0), some (.int a1), some (.int a2), some (.int (a3 + (-1 : Int32)))], [], x1) := (mj_run_to (cd := cdX1) (rt := 0) (tab := tX1_operand) (cal := kX1 d) zX1_operand 15 (19, [some (.ref 0), some (.int a1), some (.int a2), some (.int a3)], [], x)).trans rfl
noncomputable abbrev rX1_come (d : Nat) : mj_S → mj_R := mj_run cdX1 0 tX1_come (kX1 d)
def zX1_come (p : Nat) : Bool := false
set_option maxRecDepth 100000 in
set_option maxHeartbeats 4000000 in
theorem eX1_come (d : Nat) (a1 : Int32) (x : mj_X) : kX1 (d + 1) 50 [.ref 0, .int a1] x = mj_g a1 300000 (some (none, (mj_wI x 50 a1.toNatClampNeg (x.1 0 36)))) := (mj_run_to (cd := cdX1) (rt := 0) (tab := tX1_come) (cal := kX1 d) zX1_come 9 (0, [some (.ref 0), some (.int a1)], [], x)).trans rfl
noncomputable abbrev rX1_put (d : Nat) : mj_S → mj_R := mj_run cdX1 0 tX1_put (kX1 d)
def zX1_put (p : Nat) : Bool := false
set_option maxRecDepth 100000 in
set_option maxHeartbeats 4000000 in
theorem eX1_put (d : Nat) (a1 : Int32) (x : mj_X) : kX1 (d + 1) 51 [.ref 0, .int a1] x = mj_g a1 300000 (
  if (x.1 0 35) = 0 then mj_g a1 300000 (
   if (x.1 50 a1.toNatClampNeg) < 0 then some (none, (mj_wI x 49 a1.toNatClampNeg (x.1 0 32)))
   else mj_g a1 300000 (some (none, (mj_wI (mj_wI (mj_wI x 49 a1.toNatClampNeg (x.1 0 32)) 0 35 (1 : Int32)) 0 36 (x.1 50 a1.toNatClampNeg)))))
  else some (none, (mj_wI x 49 a1.toNatClampNeg (x.1 0 32)))) := (mj_run_to (cd := cdX1) (rt := 0) (tab := tX1_put) (cal := kX1 d) zX1_put 28 (0, [some (.ref 0), some (.int a1)], [], x)).trans rfl
noncomputable abbrev rX1_compare (d : Nat) : mj_S → mj_R := mj_run cdX1 0 tX1_compare (kX1 d)
def zX1_compare (p : Nat) : Bool := bif Nat.blt p 116 then (bif Nat.blt p 75 then (bif Nat.beq p 33 then true else false) else (bif Nat.beq p 75 then true else false)) else (bif Nat.blt p 168 then (bif Nat.beq p 116 then true else false) else (bif Nat.beq p 168 then true else false))
set_option maxRecDepth 100000 in
set_option maxHeartbeats 4000000 in
theorem eX1_compare (d : Nat) (a1 : Int32) (a2 : Int32) (a3 : Int32) (a4 : Int32) (a5 : Int32) (x : mj_X) : kX1 (d + 1) 52 [.ref 0, .int a1, .int a2, .int a3, .int a4, .int a5] x = mj_g a2 4000 (
  if a4 = 0 then mj_rI (kX1 d 53 [.int (((153 : Int32) + a1) - (23 : Int32))] x) fun v2 x1 =>
   rX1_compare d (33, [some (.ref 0), some (.int a1), some (.int a2), some (.int a3), some (.int a4), some (.int a5), some (.int (x.1 5 a2.toNatClampNeg)), some (.int (((153 : Int32) + a1) - (23 : Int32))), none], [.int v2], x1)
  else rX1_compare d (33, [some (.ref 0), some (.int a1), some (.int a2), some (.int a3), some (.int a4), some (.int a5), some (.int (x.1 5 a2.toNatClampNeg)), some (.int (((153 : Int32) + a1) - (23 : Int32))), none], [.int (((153 : Int32) + a1) - (23 : Int32))], x)) := (mj_run_to (cd := cdX1) (rt := 0) (tab := tX1_compare) (cal := kX1 d) zX1_compare 30 (0, [some (.ref 0), some (.int a1), some (.int a2), some (.int a3), some (.int a4), some (.int a5), none, none, none], [], x)).trans rfl
set_option maxRecDepth 100000 in
set_option maxHeartbeats 4000000 in
theorem bX1_compare_33 (d : Nat) (a1 : Int32) (a2 : Int32) (a3 : Int32) (a4 : Int32) (a5 : Int32) (a6 : Int32) (a7 : Int32) (s0 : Int32) (x : mj_X) : rX1_compare d (33, [some (.ref 0), some (.int a1), some (.int a2), some (.int a3), some (.int a4), some (.int a5), some (.int a6), some (.int a7), none], [.int s0], x) = mj_rV (kX1 d 40 [.ref 0, .int a2] x) fun x1 =>
  
  if a6 = (1 : Int32) then mj_g a3 4000 (
   if (x1.1 2 a3.toNatClampNeg) = (1 : Int32) then mj_g a3 4000 (
    if (x1.1 3 a3.toNatClampNeg) = 0 then mj_rV (kX1 d 54 [.ref 0, .int s0, .int (1 : Int32), .int a5] x1) fun x2 =>
     some (none, x2)
    else rX1_compare d (75, [some (.ref 0), some (.int a1), some (.int a2), some (.int a3), some (.int a4), some (.int a5), some (.int a6), some (.int s0), none], [], x1))
   else rX1_compare d (75, [some (.ref 0), some (.int a1), some (.int a2), some (.int a3), some (.int a4), some (.int a5), some (.int a6), some (.int s0), none], [], x1))
  else rX1_compare d (75, [some (.ref 0), some (.int a1), some (.int a2), some (.int a3), some (.int a4), some (.int a5), some (.int a6), some (.int s0), none], [], x1) := (mj_run_to (cd := cdX1) (rt := 0) (tab := tX1_compare) (cal := kX1 d) zX1_compare 30 (33, [some (.ref 0), some (.int a1), some (.int a2), some (.int a3), some (.int a4), some (.int a5), some (.int a6), some (.int a7), none], [.int s0], x)).trans rfl
set_option maxRecDepth 100000 in
set_option maxHeartbeats 4000000 in
theorem bX1_compare_75 (d : Nat) (a1 : Int32) (a2 : Int32) (a3 : Int32) (a4 : Int32) (a5 : Int32) (a6 : Int32) (a7 : Int32) (x : mj_X) : rX1_compare d (75, [some (.ref 0), some (.int a1), some (.int a2), some (.int a3), some (.int a4), some (.int a5), some (.int a6), some (.int a7), none], [], x) = mj_rV (kX1 d 40 [.ref 0, .int a3] x) fun x1 =>
  
  if a6 = (1 : Int32) then mj_rV (kX1 d 54 [.ref 0, .int (a7 + (6 : Int32)), .int (2 : Int32), .int a5] x1) fun x2 =>
   some (none, x2)
  else 
   if a1 = (25 : Int32) then rX1_compare d (116, [some (.ref 0), some (.int a1), some (.int a2), some (.int a3), some (.int a4), some (.int a5), some (.int a6), some (.int a7), none], [.int (1 : Int32)], x1)
   else 
    if a1 = (28 : Int32) then rX1_compare d (116, [some (.ref 0), some (.int a1), some (.int a2), some (.int a3), some (.int a4), some (.int a5), some (.int a6), some (.int a7), none], [.int (1 : Int32)], x1)
    else rX1_compare d (116, [some (.ref 0), some (.int a1), some (.int a2), some (.int a3), some (.int a4), some (.int a5), some (.int a6), some (.int a7), none], [.int (0 : Int32)], x1) := (mj_run_to (cd := cdX1) (rt := 0) (tab := tX1_compare) (cal := kX1 d) zX1_compare 30 (75, [some (.ref 0), some (.int a1), some (.int a2), some (.int a3), some (.int a4), some (.int a5), some (.int a6), some (.int a7), none], [], x)).trans rfl
set_option maxRecDepth 100000 in
set_option maxHeartbeats 4000000 in
theorem bX1_compare_116 (d : Nat) (a1 : Int32) (a2 : Int32) (a3 : Int32) (a4 : Int32) (a5 : Int32) (a6 : Int32) (a7 : Int32) (s0 : Int32) (x : mj_X) : rX1_compare d (116, [some (.ref 0), some (.int a1), some (.int a2), some (.int a3), some (.int a4), some (.int a5), some (.int a6), some (.int a7), none], [.int s0], x) = 
  if a6 = (2 : Int32) then rX1_compare d (168, [some (.ref 0), some (.int a1), some (.int a2), some (.int a3), some (.int a4), some (.int a5), some (.int a6), some (.int a7), some (.int s0)], [.int (148 : Int32), .ref 0], x)
  else 
   if a6 = (3 : Int32) then 
    if s0 = 0 then rX1_compare d (168, [some (.ref 0), some (.int a1), some (.int a2), some (.int a3), some (.int a4), some (.int a5), some (.int a6), some (.int a7), some (.int s0)], [.int (149 : Int32), .ref 0], x)
    else rX1_compare d (168, [some (.ref 0), some (.int a1), some (.int a2), some (.int a3), some (.int a4), some (.int a5), some (.int a6), some (.int a7), some (.int s0)], [.int (150 : Int32), .ref 0], x)
   else 
    if s0 = 0 then rX1_compare d (168, [some (.ref 0), some (.int a1), some (.int a2), some (.int a3), some (.int a4), some (.int a5), some (.int a6), some (.int a7), some (.int s0)], [.int (151 : Int32), .ref 0], x)
    else rX1_compare d (168, [some (.ref 0), some (.int a1), some (.int a2), some (.int a3), some (.int a4), some (.int a5), some (.int a6), some (.int a7), some (.int s0)], [.int (152 : Int32), .ref 0], x) := (mj_run_to (cd := cdX1) (rt := 0) (tab := tX1_compare) (cal := kX1 d) zX1_compare 30 (116, [some (.ref 0), some (.int a1), some (.int a2), some (.int a3), some (.int a4), some (.int a5), some (.int a6), some (.int a7), none], [.int s0], x)).trans rfl
set_option maxRecDepth 100000 in
set_option maxHeartbeats 4000000 in
theorem bX1_compare_168 (d : Nat) (a1 : Int32) (a2 : Int32) (a3 : Int32) (a4 : Int32) (a5 : Int32) (a6 : Int32) (a7 : Int32) (a8 : Int32) (s1 : Int32) (x : mj_X) : rX1_compare d (168, [some (.ref 0), some (.int a1), some (.int a2), some (.int a3), some (.int a4), some (.int a5), some (.int a6), some (.int a7), some (.int a8)], [.int s1, .ref 0], x) = mj_rI (kX1 d 25 [.int a6] x) fun v2 x1 =>
  mj_rV (kX1 d 42 [.ref 0, .int s1, .int ((2 : Int32) * v2), .int (1 : Int32)] x1) fun x3 =>
  mj_rV (kX1 d 54 [.ref 0, .int a7, .int (1 : Int32), .int a5] x3) fun x4 =>
  some (none, x4) := (mj_run_to (cd := cdX1) (rt := 0) (tab := tX1_compare) (cal := kX1 d) zX1_compare 30 (168, [some (.ref 0), some (.int a1), some (.int a2), some (.int a3), some (.int a4), some (.int a5), some (.int a6), some (.int a7), some (.int a8)], [.int s1, .ref 0], x)).trans rfl
noncomputable abbrev rX1_contrary (d : Nat) : mj_S → mj_R := mj_run cdX1 1 tX1_contrary (kX1 d)
def zX1_contrary (p : Nat) : Bool := false
set_option maxRecDepth 100000 in
set_option maxHeartbeats 4000000 in
theorem eX1_contrary (d : Nat) (a0 : Int32) (x : mj_X) : kX1 (d + 1) 53 [.int a0] x = some (some (.int (((a0 + (1 : Int32)) ^^^ (1 : Int32)) - (1 : Int32))), x) := (mj_run_to (cd := cdX1) (rt := 1) (tab := tX1_contrary) (cal := kX1 d) zX1_contrary 10 (0, [some (.int a0)], [], x)).trans rfl
noncomputable abbrev rX1_branch (d : Nat) : mj_S → mj_R := mj_run cdX1 0 tX1_branch (kX1 d)
def zX1_branch (p : Nat) : Bool := false
set_option maxRecDepth 100000 in
set_option maxHeartbeats 4000000 in
theorem eX1_branch (d : Nat) (a1 : Int32) (a2 : Int32) (a3 : Int32) (x : mj_X) : kX1 (d + 1) 54 [.ref 0, .int a1, .int a2, .int a3] x = 
  if (x.1 0 35) = 0 then some (none, x)
  else 
   if (x.1 0 34) = 0 then 
    if (x.1 0 33) = 0 then mj_rV (kX1 d 42 [.ref 0, .int a1, .int a2, .int (0 : Int32)] x) fun x1 =>
     mj_rV (kX1 d 48 [.ref 0, .int (x.1 0 32), .int a3, .int (0 : Int32)] x1) fun x2 =>
     mj_rV (kX1 d 50 [.ref 0, .int a3] x2) fun x3 =>
     some (none, x3)
    else mj_rI (kX1 d 53 [.int a1] x) fun v5 x4 =>
     mj_rV (kX1 d 42 [.ref 0, .int v5, .int a2, .int (0 : Int32)] x4) fun x6 =>
     mj_rV (kX1 d 49 [.ref 0, .int (8 : Int32), .int (2 : Int32)] x6) fun x7 =>
     mj_rV (kX1 d 44 [.ref 0, .int (200 : Int32)] x7) fun x8 =>
     mj_rV (kX1 d 48 [.ref 0, .int (x7.1 0 32), .int a3, .int (1 : Int32)] x8) fun x9 =>
     mj_rV (kX1 d 50 [.ref 0, .int a3] x9) fun x10 =>
     some (none, x10)
   else some (none, x) := (mj_run_to (cd := cdX1) (rt := 0) (tab := tX1_branch) (cal := kX1 d) zX1_branch 56 (0, [some (.ref 0), some (.int a1), some (.int a2), some (.int a3), none, none], [], x)).trans rfl
noncomputable abbrev rX1_changed (d : Nat) : mj_S → mj_R := mj_run cdX1 0 tX1_changed (kX1 d)
def zX1_changed (p : Nat) : Bool := bif Nat.blt p 136 then (bif Nat.blt p 84 then (bif Nat.beq p 60 then true else false) else (bif Nat.beq p 84 then true else false)) else (bif Nat.blt p 265 then (bif Nat.beq p 136 then true else false) else (bif Nat.beq p 265 then true else false))
set_option maxRecDepth 100000 in
set_option maxHeartbeats 4000000 in
theorem eX1_changed (d : Nat) (a1 : Int32) (a2 : Int32) (a3 : Int32) (a4 : Int32) (x : mj_X) : kX1 (d + 1) 55 [.ref 0, .int a1, .int a2, .int a3, .int a4] x = mj_g a1 4000 (mj_g a1 4000 (
  if (x.1 2 a1.toNatClampNeg) = (6 : Int32) then mj_g a1 4000 (
   if (x.1 5 a1.toNatClampNeg) = (1 : Int32) then 
    if a3 = (-1 : Int32) then rX1_changed d (136, [some (.ref 0), some (.int a1), some (.int a2), some (.int a3), some (.int a4), some (.int (x.1 5 a1.toNatClampNeg)), some (.int (x.1 3 a1.toNatClampNeg)), none, none], [], x)
    else mj_g a3 4000 (
     if (x.1 2 a3.toNatClampNeg) = (1 : Int32) then 
      if a2 = (10 : Int32) then rX1_changed d (60, [some (.ref 0), some (.int a1), some (.int a2), some (.int a3), some (.int a4), some (.int (x.1 5 a1.toNatClampNeg)), some (.int (x.1 3 a1.toNatClampNeg)), none, none], [], x)
      else 
       if a2 = (11 : Int32) then rX1_changed d (60, [some (.ref 0), some (.int a1), some (.int a2), some (.int a3), some (.int a4), some (.int (x.1 5 a1.toNatClampNeg)), some (.int (x.1 3 a1.toNatClampNeg)), none, none], [], x)
       else rX1_changed d (136, [some (.ref 0), some (.int a1), some (.int a2), some (.int a3), some (.int a4), some (.int (x.1 5 a1.toNatClampNeg)), some (.int (x.1 3 a1.toNatClampNeg)), none, none], [], x)
     else rX1_changed d (136, [some (.ref 0), some (.int a1), some (.int a2), some (.int a3), some (.int a4), some (.int (x.1 5 a1.toNatClampNeg)), some (.int (x.1 3 a1.toNatClampNeg)), none, none], [], x))
   else rX1_changed d (136, [some (.ref 0), some (.int a1), some (.int a2), some (.int a3), some (.int a4), some (.int (x.1 5 a1.toNatClampNeg)), some (.int (x.1 3 a1.toNatClampNeg)), none, none], [], x))
  else mj_g a1 4000 (mj_g (x.1 3 a1.toNatClampNeg) 4000 (mj_g a1 4000 (mj_rV (kX1 d 40 [.ref 0, .int (x.1 3 a1.toNatClampNeg)] x) fun x1 =>
   mj_g a1 4000 (mj_rV (kX1 d 40 [.ref 0, .int (x1.1 4 a1.toNatClampNeg)] x1) fun x2 =>
   mj_rV (kX1 d 42 [.ref 0, .int (92 : Int32), .int (2 : Int32), .int (4 : Int32)] x2) fun x3 =>
   mj_rV (kX1 d 72 [.ref 0, .int (x.1 5 (x.1 3 a1.toNatClampNeg).toNatClampNeg), .int (0 : Int32)] x3) fun x4 =>
   mj_rV (kX1 d 60 [.ref 0, .int a3, .int (x.1 5 a1.toNatClampNeg)] x4) fun x5 =>
   mj_rV (kX1 d 41 [.ref 0, .int a2, .int (x.1 5 a1.toNatClampNeg)] x5) fun x6 =>
   
   if (x.1 5 (x.1 3 a1.toNatClampNeg).toNatClampNeg) = (5 : Int32) then mj_rV (kX1 d 42 [.ref 0, .int (145 : Int32), .int (1 : Int32), .int (1 : Int32)] x6) fun x7 =>
    rX1_changed d (265, [some (.ref 0), some (.int a1), some (.int a2), some (.int a3), some (.int a4), some (.int (x.1 5 a1.toNatClampNeg)), some (.int (x.1 5 (x.1 3 a1.toNatClampNeg).toNatClampNeg)), none, none], [], x7)
   else rX1_changed d (265, [some (.ref 0), some (.int a1), some (.int a2), some (.int a3), some (.int a4), some (.int (x.1 5 a1.toNatClampNeg)), some (.int (x.1 5 (x.1 3 a1.toNatClampNeg).toNatClampNeg)), none, none], [], x6))))))) := (mj_run_to (cd := cdX1) (rt := 0) (tab := tX1_changed) (cal := kX1 d) zX1_changed 89 (0, [some (.ref 0), some (.int a1), some (.int a2), some (.int a3), some (.int a4), none, none, none, none], [], x)).trans rfl
set_option maxRecDepth 100000 in
set_option maxHeartbeats 4000000 in
theorem bX1_changed_60 (d : Nat) (a1 : Int32) (a2 : Int32) (a3 : Int32) (a4 : Int32) (a5 : Int32) (a6 : Int32) (x : mj_X) : rX1_changed d (60, [some (.ref 0), some (.int a1), some (.int a2), some (.int a3), some (.int a4), some (.int a5), some (.int a6), none, none], [], x) = 
  if a2 = (10 : Int32) then mj_g a3 4000 (rX1_changed d (84, [some (.ref 0), some (.int a1), some (.int a2), some (.int a3), some (.int a4), some (.int a5), some (.int a6), none, none], [.long (x.1 3 a3.toNatClampNeg).toInt64], x))
  else mj_g a3 4000 (rX1_changed d (84, [some (.ref 0), some (.int a1), some (.int a2), some (.int a3), some (.int a4), some (.int a5), some (.int a6), none, none], [.long (-(x.1 3 a3.toNatClampNeg).toInt64)], x)) := (mj_run_to (cd := cdX1) (rt := 0) (tab := tX1_changed) (cal := kX1 d) zX1_changed 89 (60, [some (.ref 0), some (.int a1), some (.int a2), some (.int a3), some (.int a4), some (.int a5), some (.int a6), none, none], [], x)).trans rfl
set_option maxRecDepth 100000 in
set_option maxHeartbeats 4000000 in
theorem bX1_changed_84 (d : Nat) (a1 : Int32) (a2 : Int32) (a3 : Int32) (a4 : Int32) (a5 : Int32) (a6 : Int32) (s0 : Int64) (x : mj_X) : rX1_changed d (84, [some (.ref 0), some (.int a1), some (.int a2), some (.int a3), some (.int a4), some (.int a5), some (.int a6), none, none], [.long s0], x) = 
  if (lg_cmp s0 (-32768 : Int64)) < 0 then rX1_changed d (136, [some (.ref 0), some (.int a1), some (.int a2), some (.int a3), some (.int a4), some (.int a5), some (.int a6), some (.long s0), none], [], x)
  else 
   if 0 < (lg_cmp s0 (32767 : Int64)) then rX1_changed d (136, [some (.ref 0), some (.int a1), some (.int a2), some (.int a3), some (.int a4), some (.int a5), some (.int a6), some (.long s0), none], [], x)
   else mj_g a6 4000 (mj_rV (kX1 d 56 [.ref 0, .int (x.1 48 a6.toNatClampNeg), .int s0.toInt32] x) fun x1 =>
    
    if a4 = 0 then some (none, x1)
    else mj_g a6 4000 (mj_rV (kX1 d 57 [.ref 0, .int (x1.1 48 a6.toNatClampNeg), .int (1 : Int32)] x1) fun x2 =>
     some (none, x2))) := (mj_run_to (cd := cdX1) (rt := 0) (tab := tX1_changed) (cal := kX1 d) zX1_changed 89 (84, [some (.ref 0), some (.int a1), some (.int a2), some (.int a3), some (.int a4), some (.int a5), some (.int a6), none, none], [.long s0], x)).trans rfl
set_option maxRecDepth 100000 in
set_option maxHeartbeats 4000000 in
theorem bX1_changed_136 (d : Nat) (a1 : Int32) (a2 : Int32) (a3 : Int32) (a4 : Int32) (a5 : Int32) (a6 : Int32) (o7 : Option Value) (x : mj_X) : rX1_changed d (136, [some (.ref 0), some (.int a1), some (.int a2), some (.int a3), some (.int a4), some (.int a5), some (.int a6), o7, none], [], x) = mj_g a6 4000 (mj_rV (kX1 d 57 [.ref 0, .int (x.1 48 a6.toNatClampNeg), .int a5] x) fun x1 =>
  mj_rV (kX1 d 60 [.ref 0, .int a3, .int a5] x1) fun x2 =>
  mj_rV (kX1 d 41 [.ref 0, .int a2, .int a5] x2) fun x3 =>
  
  if a4 = 0 then mj_g a6 4000 (mj_rV (kX1 d 71 [.ref 0, .int (x3.1 48 a6.toNatClampNeg), .int a5] x3) fun x4 =>
   some (none, x4))
  else mj_rV (kX1 d 70 [.ref 0, .int a5] x3) fun x5 =>
   mj_g a6 4000 (mj_rV (kX1 d 71 [.ref 0, .int (x5.1 48 a6.toNatClampNeg), .int a5] x5) fun x6 =>
   some (none, x6))) := (mj_run_to (cd := cdX1) (rt := 0) (tab := tX1_changed) (cal := kX1 d) zX1_changed 89 (136, [some (.ref 0), some (.int a1), some (.int a2), some (.int a3), some (.int a4), some (.int a5), some (.int a6), o7, none], [], x)).trans rfl
set_option maxRecDepth 100000 in
set_option maxHeartbeats 4000000 in
theorem bX1_changed_265 (d : Nat) (a1 : Int32) (a2 : Int32) (a3 : Int32) (a4 : Int32) (a5 : Int32) (a6 : Int32) (x : mj_X) : rX1_changed d (265, [some (.ref 0), some (.int a1), some (.int a2), some (.int a3), some (.int a4), some (.int a5), some (.int a6), none, none], [], x) = 
  if a4 = 0 then mj_rV (kX1 d 72 [.ref 0, .int a6, .int (1 : Int32)] x) fun x1 =>
   some (none, x1)
  else mj_rV (kX1 d 73 [.ref 0, .int a5] x) fun x2 =>
   mj_rV (kX1 d 72 [.ref 0, .int a6, .int (1 : Int32)] x2) fun x3 =>
   some (none, x3) := (mj_run_to (cd := cdX1) (rt := 0) (tab := tX1_changed) (cal := kX1 d) zX1_changed 89 (265, [some (.ref 0), some (.int a1), some (.int a2), some (.int a3), some (.int a4), some (.int a5), some (.int a6), none, none], [], x)).trans rfl
noncomputable abbrev rX1_increase (d : Nat) : mj_S → mj_R := mj_run cdX1 0 tX1_increase (kX1 d)
def zX1_increase (p : Nat) : Bool := bif Nat.beq p 43 then true else false
set_option maxRecDepth 100000 in
set_option maxHeartbeats 4000000 in
theorem eX1_increase (d : Nat) (a1 : Int32) (a2 : Int32) (x : mj_X) : kX1 (d + 1) 56 [.ref 0, .int a1, .int a2] x = 
  if (256 : Int32) ≤ a1 then rX1_increase d (43, [some (.ref 0), some (.int a1), some (.int a2)], [], x)
  else 
   if a2 < (-128 : Int32) then rX1_increase d (43, [some (.ref 0), some (.int a1), some (.int a2)], [], x)
   else 
    if (127 : Int32) < a2 then rX1_increase d (43, [some (.ref 0), some (.int a1), some (.int a2)], [], x)
    else mj_rV (kX1 d 42 [.ref 0, .int (132 : Int32), .int (0 : Int32), .int (0 : Int32)] x) fun x1 =>
     mj_rV (kX1 d 49 [.ref 0, .int a1, .int (1 : Int32)] x1) fun x2 =>
     mj_rV (kX1 d 49 [.ref 0, .int a2, .int (1 : Int32)] x2) fun x3 =>
     some (none, x3) := (mj_run_to (cd := cdX1) (rt := 0) (tab := tX1_increase) (cal := kX1 d) zX1_increase 29 (0, [some (.ref 0), some (.int a1), some (.int a2)], [], x)).trans rfl
set_option maxRecDepth 100000 in
set_option maxHeartbeats 4000000 in
theorem bX1_increase_43 (d : Nat) (a1 : Int32) (a2 : Int32) (x : mj_X) : rX1_increase d (43, [some (.ref 0), some (.int a1), some (.int a2)], [], x) = mj_rV (kX1 d 42 [.ref 0, .int (196 : Int32), .int (0 : Int32), .int (0 : Int32)] x) fun x1 =>
  mj_rV (kX1 d 49 [.ref 0, .int (132 : Int32), .int (1 : Int32)] x1) fun x2 =>
  mj_rV (kX1 d 49 [.ref 0, .int a1, .int (2 : Int32)] x2) fun x3 =>
  mj_rV (kX1 d 49 [.ref 0, .int a2, .int (2 : Int32)] x3) fun x4 =>
  some (none, x4) := (mj_run_to (cd := cdX1) (rt := 0) (tab := tX1_increase) (cal := kX1 d) zX1_increase 29 (43, [some (.ref 0), some (.int a1), some (.int a2)], [], x)).trans rfl
noncomputable abbrev rX1_load (d : Nat) : mj_S → mj_R := mj_run cdX1 0 tX1_load (kX1 d)
def zX1_load (p : Nat) : Bool := false
set_option maxRecDepth 100000 in
set_option maxHeartbeats 4000000 in
theorem eX1_load (d : Nat) (a1 : Int32) (a2 : Int32) (x : mj_X) : kX1 (d + 1) 57 [.ref 0, .int a1, .int a2] x = mj_rI (kX1 d 25 [.int a2] x) fun v2 x1 =>
  mj_rV (kX1 d 58 [.ref 0, .int a1, .int (21 : Int32), .int (26 : Int32), .int a2, .int (0 : Int32), .int v2] x1) fun x3 =>
  some (none, x3) := (mj_run_to (cd := cdX1) (rt := 0) (tab := tX1_load) (cal := kX1 d) zX1_load 12 (0, [some (.ref 0), some (.int a1), some (.int a2)], [], x)).trans rfl
noncomputable abbrev rX1_local (d : Nat) : mj_S → mj_R := mj_run cdX1 0 tX1_local (kX1 d)
def zX1_local (p : Nat) : Bool := bif Nat.blt p 106 then (bif Nat.beq p 85 then true else false) else (bif Nat.beq p 106 then true else false)
set_option maxRecDepth 100000 in
set_option maxHeartbeats 4000000 in
theorem eX1_local (d : Nat) (a1 : Int32) (a2 : Int32) (a3 : Int32) (a4 : Int32) (a5 : Int32) (a6 : Int32) (x : mj_X) : kX1 (d + 1) 58 [.ref 0, .int a1, .int a2, .int a3, .int a4, .int a5, .int a6] x = 
  if (3 : Int32) < a1 then 
   if (256 : Int32) ≤ a1 then mj_rV (kX1 d 42 [.ref 0, .int (196 : Int32), .int (0 : Int32), .int (0 : Int32)] x) fun x1 =>
    
    if (x1.1 0 35) = 0 then rX1_local d (85, [some (.ref 0), some (.int a1), some (.int a2), some (.int a3), some (.int a4), some (.int a5), some (.int a6)], [], x1)
    else mj_rI (kX1 d 59 [.int a4] x1) fun v3 x2 =>
     mj_rV (kX1 d 44 [.ref 0, .int (a2 + v3)] x2) fun x4 =>
     rX1_local d (85, [some (.ref 0), some (.int a1), some (.int a2), some (.int a3), some (.int a4), some (.int a5), some (.int a6)], [], x4)
   else mj_rI (kX1 d 59 [.int a4] x) fun v6 x5 =>
    mj_rV (kX1 d 42 [.ref 0, .int (a2 + v6), .int a5, .int a6] x5) fun x7 =>
    mj_rV (kX1 d 49 [.ref 0, .int a1, .int (1 : Int32)] x7) fun x8 =>
    some (none, x8)
  else mj_rI (kX1 d 59 [.int a4] x) fun v10 x9 =>
   mj_rV (kX1 d 42 [.ref 0, .int ((a3 + ((4 : Int32) * v10)) + a1), .int a5, .int a6] x9) fun x11 =>
   some (none, x11) := (mj_run_to (cd := cdX1) (rt := 0) (tab := tX1_local) (cal := kX1 d) zX1_local 52 (0, [some (.ref 0), some (.int a1), some (.int a2), some (.int a3), some (.int a4), some (.int a5), some (.int a6)], [], x)).trans rfl
set_option maxRecDepth 100000 in
set_option maxHeartbeats 4000000 in
theorem bX1_local_85 (d : Nat) (a1 : Int32) (a2 : Int32) (a3 : Int32) (a4 : Int32) (a5 : Int32) (a6 : Int32) (x : mj_X) : rX1_local d (85, [some (.ref 0), some (.int a1), some (.int a2), some (.int a3), some (.int a4), some (.int a5), some (.int a6)], [], x) = 
  if (x.1 0 35) = 0 then rX1_local d (106, [some (.ref 0), some (.int a1), some (.int a2), some (.int a3), some (.int a4), some (.int a5), some (.int a6)], [.int (0 : Int32), .int (x.1 0 36), .ref 0], x)
  else rX1_local d (106, [some (.ref 0), some (.int a1), some (.int a2), some (.int a3), some (.int a4), some (.int a5), some (.int a6)], [.int (a6 - a5), .int (x.1 0 36), .ref 0], x) := (mj_run_to (cd := cdX1) (rt := 0) (tab := tX1_local) (cal := kX1 d) zX1_local 52 (85, [some (.ref 0), some (.int a1), some (.int a2), some (.int a3), some (.int a4), some (.int a5), some (.int a6)], [], x)).trans rfl
set_option maxRecDepth 100000 in
set_option maxHeartbeats 4000000 in
theorem bX1_local_106 (d : Nat) (a1 : Int32) (a2 : Int32) (a3 : Int32) (a4 : Int32) (a5 : Int32) (a6 : Int32) (s1 : Int32) (s2 : Int32) (x : mj_X) : rX1_local d (106, [some (.ref 0), some (.int a1), some (.int a2), some (.int a3), some (.int a4), some (.int a5), some (.int a6)], [.int s2, .int s1, .ref 0], x) = mj_rI (kX1 d 19 [.int (x.1 0 37), .int (s1 + s2)] (mj_wI x 0 36 (s1 + s2))) fun v2 x1 =>
  mj_rV (kX1 d 49 [.ref 0, .int a1, .int (2 : Int32)] (mj_wI x1 0 37 v2)) fun x3 =>
  some (none, x3) := (mj_run_to (cd := cdX1) (rt := 0) (tab := tX1_local) (cal := kX1 d) zX1_local 52 (106, [some (.ref 0), some (.int a1), some (.int a2), some (.int a3), some (.int a4), some (.int a5), some (.int a6)], [.int s2, .int s1, .ref 0], x)).trans rfl
noncomputable abbrev rX1_letterOf (d : Nat) : mj_S → mj_R := mj_run cdX1 1 tX1_letterOf (kX1 d)
def zX1_letterOf (p : Nat) : Bool := false
set_option maxRecDepth 100000 in
set_option maxHeartbeats 4000000 in
theorem eX1_letterOf (d : Nat) (a0 : Int32) (x : mj_X) : kX1 (d + 1) 59 [.int a0] x = 
  if a0 < (5 : Int32) then some (some (.int (a0 - (1 : Int32))), x)
  else some (some (.int (4 : Int32)), x) := (mj_run_to (cd := cdX1) (rt := 1) (tab := tX1_letterOf) (cal := kX1 d) zX1_letterOf 12 (0, [some (.int a0)], [], x)).trans rfl
noncomputable abbrev rX1_operandOf (d : Nat) : mj_S → mj_R := mj_run cdX1 0 tX1_operandOf (kX1 d)
def zX1_operandOf (p : Nat) : Bool := false
set_option maxRecDepth 100000 in
set_option maxHeartbeats 4000000 in
theorem eX1_operandOf (d : Nat) (a1 : Int32) (a2 : Int32) (x : mj_X) : kX1 (d + 1) 60 [.ref 0, .int a1, .int a2] x = 
  if a1 = (-1 : Int32) then mj_rV (kX1 d 61 [.ref 0, .int a2] x) fun x1 =>
   some (none, x1)
  else mj_rV (kX1 d 40 [.ref 0, .int a1] x) fun x2 =>
   some (none, x2) := (mj_run_to (cd := cdX1) (rt := 0) (tab := tX1_operandOf) (cal := kX1 d) zX1_operandOf 14 (0, [some (.ref 0), some (.int a1), some (.int a2)], [], x)).trans rfl
noncomputable abbrev rX1_oneOf (d : Nat) : mj_S → mj_R := mj_run cdX1 0 tX1_oneOf (kX1 d)
def zX1_oneOf (p : Nat) : Bool := false
set_option maxRecDepth 100000 in
set_option maxHeartbeats 4000000 in
theorem eX1_oneOf (d : Nat) (a1 : Int32) (x : mj_X) : kX1 (d + 1) 61 [.ref 0, .int a1] x = 
  if a1 = (1 : Int32) then mj_rV (kX1 d 62 [.ref 0, .int (1 : Int32)] x) fun x1 =>
   some (none, x1)
  else 
   if a1 = (2 : Int32) then mj_rV (kX1 d 65 [.ref 0, .int (0 : Int32), .int (1 : Int32)] x) fun x2 =>
    some (none, x2)
   else 
    if a1 = (3 : Int32) then mj_rV (kX1 d 66 [.ref 0, .int (1065353216 : Int32)] x) fun x3 =>
     some (none, x3)
    else mj_rV (kX1 d 68 [.ref 0, .int (1072693248 : Int32), .int (0 : Int32)] x) fun x4 =>
     some (none, x4) := (mj_run_to (cd := cdX1) (rt := 0) (tab := tX1_oneOf) (cal := kX1 d) zX1_oneOf 32 (0, [some (.ref 0), some (.int a1)], [], x)).trans rfl
noncomputable abbrev rX1_intConstant (d : Nat) : mj_S → mj_R := mj_run cdX1 0 tX1_intConstant (kX1 d)
def zX1_intConstant (p : Nat) : Bool := bif Nat.blt p 51 then (bif Nat.beq p 22 then true else false) else (bif Nat.beq p 51 then true else false)
set_option maxRecDepth 100000 in
set_option maxHeartbeats 4000000 in
theorem eX1_intConstant (d : Nat) (a1 : Int32) (x : mj_X) : kX1 (d + 1) 62 [.ref 0, .int a1] x = 
  if a1 < (-1 : Int32) then rX1_intConstant d (22, [some (.ref 0), some (.int a1)], [], x)
  else 
   if (5 : Int32) < a1 then rX1_intConstant d (22, [some (.ref 0), some (.int a1)], [], x)
   else mj_rV (kX1 d 42 [.ref 0, .int ((3 : Int32) + a1), .int (0 : Int32), .int (1 : Int32)] x) fun x1 =>
    some (none, x1) := (mj_run_to (cd := cdX1) (rt := 0) (tab := tX1_intConstant) (cal := kX1 d) zX1_intConstant 31 (0, [some (.ref 0), some (.int a1)], [], x)).trans rfl
set_option maxRecDepth 100000 in
set_option maxHeartbeats 4000000 in
theorem bX1_intConstant_22 (d : Nat) (a1 : Int32) (x : mj_X) : rX1_intConstant d (22, [some (.ref 0), some (.int a1)], [], x) = 
  if a1 < (-128 : Int32) then rX1_intConstant d (51, [some (.ref 0), some (.int a1)], [], x)
  else 
   if (127 : Int32) < a1 then rX1_intConstant d (51, [some (.ref 0), some (.int a1)], [], x)
   else mj_rV (kX1 d 42 [.ref 0, .int (16 : Int32), .int (0 : Int32), .int (1 : Int32)] x) fun x1 =>
    mj_rV (kX1 d 49 [.ref 0, .int a1, .int (1 : Int32)] x1) fun x2 =>
    some (none, x2) := (mj_run_to (cd := cdX1) (rt := 0) (tab := tX1_intConstant) (cal := kX1 d) zX1_intConstant 31 (22, [some (.ref 0), some (.int a1)], [], x)).trans rfl
set_option maxRecDepth 100000 in
set_option maxHeartbeats 4000000 in
theorem bX1_intConstant_51 (d : Nat) (a1 : Int32) (x : mj_X) : rX1_intConstant d (51, [some (.ref 0), some (.int a1)], [], x) = 
  if a1 < (-32768 : Int32) then mj_rV (kX1 d 63 [.ref 0, .int (1 : Int32), .int a1, .int (0 : Int32)] x) fun x1 =>
   some (none, x1)
  else 
   if (32767 : Int32) < a1 then mj_rV (kX1 d 63 [.ref 0, .int (1 : Int32), .int a1, .int (0 : Int32)] x) fun x2 =>
    some (none, x2)
   else mj_rV (kX1 d 42 [.ref 0, .int (17 : Int32), .int (0 : Int32), .int (1 : Int32)] x) fun x3 =>
    mj_rV (kX1 d 49 [.ref 0, .int a1, .int (2 : Int32)] x3) fun x4 =>
    some (none, x4) := (mj_run_to (cd := cdX1) (rt := 0) (tab := tX1_intConstant) (cal := kX1 d) zX1_intConstant 31 (51, [some (.ref 0), some (.int a1)], [], x)).trans rfl
noncomputable abbrev rX1_pooled (d : Nat) : mj_S → mj_R := mj_run cdX1 0 tX1_pooled (kX1 d)
def zX1_pooled (p : Nat) : Bool := bif Nat.beq p 34 then true else false
set_option maxRecDepth 100000 in
set_option maxHeartbeats 4000000 in
theorem eX1_pooled (d : Nat) (a1 : Int32) (a2 : Int32) (a3 : Int32) (x : mj_X) : kX1 (d + 1) 63 [.ref 0, .int a1, .int a2, .int a3] x = 
  if (x.1 0 35) = 0 then some (none, x)
  else 
   if (x.1 0 34) = 0 then mj_rI (kX1 d 64 [.ref 0, .int a1, .int a2, .int a3] x) fun v2 x1 =>
    
    if a1 = (2 : Int32) then rX1_pooled d (34, [some (.ref 0), some (.int a1), some (.int a2), some (.int a3), some (.int v2)], [], x1)
    else 
     if a1 = (4 : Int32) then rX1_pooled d (34, [some (.ref 0), some (.int a1), some (.int a2), some (.int a3), some (.int v2)], [], x1)
     else 
      if (256 : Int32) ≤ v2 then mj_rV (kX1 d 42 [.ref 0, .int (19 : Int32), .int (0 : Int32), .int (1 : Int32)] x1) fun x3 =>
       mj_rV (kX1 d 49 [.ref 0, .int v2, .int (2 : Int32)] x3) fun x4 =>
       some (none, x4)
      else mj_rV (kX1 d 42 [.ref 0, .int (18 : Int32), .int (0 : Int32), .int (1 : Int32)] x1) fun x5 =>
       mj_rV (kX1 d 49 [.ref 0, .int v2, .int (1 : Int32)] x5) fun x6 =>
       some (none, x6)
   else some (none, x) := (mj_run_to (cd := cdX1) (rt := 0) (tab := tX1_pooled) (cal := kX1 d) zX1_pooled 48 (0, [some (.ref 0), some (.int a1), some (.int a2), some (.int a3), none], [], x)).trans rfl
set_option maxRecDepth 100000 in
set_option maxHeartbeats 4000000 in
theorem bX1_pooled_34 (d : Nat) (a1 : Int32) (a2 : Int32) (a3 : Int32) (a4 : Int32) (x : mj_X) : rX1_pooled d (34, [some (.ref 0), some (.int a1), some (.int a2), some (.int a3), some (.int a4)], [], x) = mj_rV (kX1 d 42 [.ref 0, .int (20 : Int32), .int (0 : Int32), .int (2 : Int32)] x) fun x1 =>
  mj_rV (kX1 d 49 [.ref 0, .int a4, .int (2 : Int32)] x1) fun x2 =>
  some (none, x2) := (mj_run_to (cd := cdX1) (rt := 0) (tab := tX1_pooled) (cal := kX1 d) zX1_pooled 48 (34, [some (.ref 0), some (.int a1), some (.int a2), some (.int a3), some (.int a4)], [], x)).trans rfl
noncomputable abbrev rX1_poolOf (d : Nat) : mj_S → mj_R := mj_run cdX1 1 tX1_poolOf (kX1 d)
def zX1_poolOf (p : Nat) : Bool := bif Nat.blt p 157 then (bif Nat.beq p 15 then true else false) else (bif Nat.beq p 157 then true else false)
set_option maxRecDepth 100000 in
set_option maxHeartbeats 4000000 in
theorem eX1_poolOf (d : Nat) (a1 : Int32) (a2 : Int32) (a3 : Int32) (x : mj_X) : kX1 (d + 1) 64 [.ref 0, .int a1, .int a2, .int a3] x = mj_g (x.1 0 7) 41 (rX1_poolOf d (15, [some (.ref 0), some (.int a1), some (.int a2), some (.int a3), some (.int (x.1 16 (x.1 0 7).toNatClampNeg)), some (.int (x.1 16 (x.1 0 7).toNatClampNeg))], [], x)) := (mj_run_to (cd := cdX1) (rt := 1) (tab := tX1_poolOf) (cal := kX1 d) zX1_poolOf 99 (0, [some (.ref 0), some (.int a1), some (.int a2), some (.int a3), none, none], [], x)).trans rfl
set_option maxRecDepth 100000 in
set_option maxHeartbeats 4000000 in
theorem bX1_poolOf_15 (d : Nat) (a1 : Int32) (a2 : Int32) (a3 : Int32) (a4 : Int32) (a5 : Int32) (x : mj_X) : rX1_poolOf d (15, [some (.ref 0), some (.int a1), some (.int a2), some (.int a3), some (.int a4), some (.int a5)], [], x) = 
  if (a4 + (x.1 0 42)) ≤ a5 then 
   if (a4 + (x.1 0 42)) < (60000 : Int32) then mj_g (a4 + (x.1 0 42)) 60000 (mj_g (a4 + (x.1 0 42)) 60000 (mj_g (a4 + (x.1 0 42)) 60000 (mj_g (a4 + (x.1 0 42)) 60000 (
    if a1 = (2 : Int32) then rX1_poolOf d (157, [some (.ref 0), some (.int a1), some (.int a2), some (.int a3), some (.int a4), some (.int (a4 + (x.1 0 42)))], [.int (x.1 0 43), .ref 0], (mj_wI (mj_wI (mj_wI (mj_wI (mj_wI x 21 (a4 + (x.1 0 42)).toNatClampNeg a1) 22 (a4 + (x.1 0 42)).toNatClampNeg a2) 23 (a4 + (x.1 0 42)).toNatClampNeg a3) 20 (a4 + (x.1 0 42)).toNatClampNeg (x.1 0 43)) 0 42 ((x.1 0 42) + (1 : Int32))))
    else 
     if a1 = (4 : Int32) then rX1_poolOf d (157, [some (.ref 0), some (.int a1), some (.int a2), some (.int a3), some (.int a4), some (.int (a4 + (x.1 0 42)))], [.int (x.1 0 43), .ref 0], (mj_wI (mj_wI (mj_wI (mj_wI (mj_wI x 21 (a4 + (x.1 0 42)).toNatClampNeg a1) 22 (a4 + (x.1 0 42)).toNatClampNeg a2) 23 (a4 + (x.1 0 42)).toNatClampNeg a3) 20 (a4 + (x.1 0 42)).toNatClampNeg (x.1 0 43)) 0 42 ((x.1 0 42) + (1 : Int32))))
     else mj_g (a4 + (x.1 0 42)) 60000 (some (some (.int ((mj_wI x 20 (a4 + (x.1 0 42)).toNatClampNeg (x.1 0 43)).1 20 (a4 + (x.1 0 42)).toNatClampNeg)), (mj_wI (mj_wI (mj_wI (mj_wI (mj_wI (mj_wI x 21 (a4 + (x.1 0 42)).toNatClampNeg a1) 22 (a4 + (x.1 0 42)).toNatClampNeg a2) 23 (a4 + (x.1 0 42)).toNatClampNeg a3) 20 (a4 + (x.1 0 42)).toNatClampNeg (x.1 0 43)) 0 42 ((x.1 0 42) + (1 : Int32))) 0 43 ((x.1 0 43) + (1 : Int32)))))))))
   else some (some (.int (1 : Int32)), (mj_wI x 0 34 (1 : Int32)))
  else mj_g a5 60000 (
   if (x.1 21 a5.toNatClampNeg) = a1 then mj_g a5 60000 (
    if (x.1 22 a5.toNatClampNeg) = a2 then mj_g a5 60000 (
     if (x.1 23 a5.toNatClampNeg) = a3 then mj_g a5 60000 (some (some (.int (x.1 20 a5.toNatClampNeg)), x))
     else rX1_poolOf d (15, [some (.ref 0), some (.int a1), some (.int a2), some (.int a3), some (.int a4), some (.int (a5 + (1 : Int32)))], [], x))
    else rX1_poolOf d (15, [some (.ref 0), some (.int a1), some (.int a2), some (.int a3), some (.int a4), some (.int (a5 + (1 : Int32)))], [], x))
   else rX1_poolOf d (15, [some (.ref 0), some (.int a1), some (.int a2), some (.int a3), some (.int a4), some (.int (a5 + (1 : Int32)))], [], x)) := (mj_run_to (cd := cdX1) (rt := 1) (tab := tX1_poolOf) (cal := kX1 d) zX1_poolOf 99 (15, [some (.ref 0), some (.int a1), some (.int a2), some (.int a3), some (.int a4), some (.int a5)], [], x)).trans rfl
set_option maxRecDepth 100000 in
set_option maxHeartbeats 4000000 in
theorem bX1_poolOf_157 (d : Nat) (a1 : Int32) (a2 : Int32) (a3 : Int32) (a4 : Int32) (a5 : Int32) (s1 : Int32) (x : mj_X) : rX1_poolOf d (157, [some (.ref 0), some (.int a1), some (.int a2), some (.int a3), some (.int a4), some (.int a5)], [.int s1, .ref 0], x) = mj_g a5 60000 (some (some (.int (x.1 20 a5.toNatClampNeg)), (mj_wI x 0 43 (s1 + (2 : Int32))))) := (mj_run_to (cd := cdX1) (rt := 1) (tab := tX1_poolOf) (cal := kX1 d) zX1_poolOf 99 (157, [some (.ref 0), some (.int a1), some (.int a2), some (.int a3), some (.int a4), some (.int a5)], [.int s1, .ref 0], x)).trans rfl
noncomputable abbrev rX1_longConstant (d : Nat) : mj_S → mj_R := mj_run cdX1 0 tX1_longConstant (kX1 d)
def zX1_longConstant (p : Nat) : Bool := bif Nat.beq p 13 then true else false
set_option maxRecDepth 100000 in
set_option maxHeartbeats 4000000 in
theorem eX1_longConstant (d : Nat) (a1 : Int32) (a2 : Int32) (x : mj_X) : kX1 (d + 1) 65 [.ref 0, .int a1, .int a2] x = 
  if a1 = 0 then 
   if a2 = 0 then rX1_longConstant d (13, [some (.ref 0), some (.int a1), some (.int a2)], [], x)
   else 
    if a2 = (1 : Int32) then rX1_longConstant d (13, [some (.ref 0), some (.int a1), some (.int a2)], [], x)
    else mj_rV (kX1 d 63 [.ref 0, .int (2 : Int32), .int a2, .int a1] x) fun x1 =>
     some (none, x1)
  else mj_rV (kX1 d 63 [.ref 0, .int (2 : Int32), .int a2, .int a1] x) fun x2 =>
   some (none, x2) := (mj_run_to (cd := cdX1) (rt := 0) (tab := tX1_longConstant) (cal := kX1 d) zX1_longConstant 23 (0, [some (.ref 0), some (.int a1), some (.int a2)], [], x)).trans rfl
set_option maxRecDepth 100000 in
set_option maxHeartbeats 4000000 in
theorem bX1_longConstant_13 (d : Nat) (a1 : Int32) (a2 : Int32) (x : mj_X) : rX1_longConstant d (13, [some (.ref 0), some (.int a1), some (.int a2)], [], x) = mj_rV (kX1 d 42 [.ref 0, .int ((9 : Int32) + a2), .int (0 : Int32), .int (2 : Int32)] x) fun x1 =>
  some (none, x1) := (mj_run_to (cd := cdX1) (rt := 0) (tab := tX1_longConstant) (cal := kX1 d) zX1_longConstant 23 (13, [some (.ref 0), some (.int a1), some (.int a2)], [], x)).trans rfl
noncomputable abbrev rX1_floatConstant (d : Nat) : mj_S → mj_R := mj_run cdX1 0 tX1_floatConstant (kX1 d)
def zX1_floatConstant (p : Nat) : Bool := bif Nat.beq p 23 then true else false
set_option maxRecDepth 100000 in
set_option maxHeartbeats 4000000 in
theorem eX1_floatConstant (d : Nat) (a1 : Int32) (x : mj_X) : kX1 (d + 1) 66 [.ref 0, .int a1] x = mj_rI (kX1 d 67 [.int a1] x) fun v2 x1 =>
  
  if v2 = 0 then rX1_floatConstant d (23, [some (.ref 0), some (.int a1), some (.int v2)], [], x1)
  else 
   if v2 = (1065353216 : Int32) then rX1_floatConstant d (23, [some (.ref 0), some (.int a1), some (.int v2)], [], x1)
   else 
    if v2 = (1073741824 : Int32) then rX1_floatConstant d (23, [some (.ref 0), some (.int a1), some (.int v2)], [], x1)
    else mj_rV (kX1 d 63 [.ref 0, .int (3 : Int32), .int v2, .int (0 : Int32)] x1) fun x3 =>
     some (none, x3) := (mj_run_to (cd := cdX1) (rt := 0) (tab := tX1_floatConstant) (cal := kX1 d) zX1_floatConstant 28 (0, [some (.ref 0), some (.int a1), none], [], x)).trans rfl
set_option maxRecDepth 100000 in
set_option maxHeartbeats 4000000 in
theorem bX1_floatConstant_23 (d : Nat) (a1 : Int32) (a2 : Int32) (x : mj_X) : rX1_floatConstant d (23, [some (.ref 0), some (.int a1), some (.int a2)], [], x) = 
  if a2 = 0 then mj_rV (kX1 d 42 [.ref 0, .int (11 : Int32), .int (0 : Int32), .int (1 : Int32)] x) fun x1 =>
   some (none, x1)
  else 
   if a2 = (1065353216 : Int32) then mj_rV (kX1 d 42 [.ref 0, .int (12 : Int32), .int (0 : Int32), .int (1 : Int32)] x) fun x2 =>
    some (none, x2)
   else mj_rV (kX1 d 42 [.ref 0, .int (13 : Int32), .int (0 : Int32), .int (1 : Int32)] x) fun x3 =>
    some (none, x3) := (mj_run_to (cd := cdX1) (rt := 0) (tab := tX1_floatConstant) (cal := kX1 d) zX1_floatConstant 28 (23, [some (.ref 0), some (.int a1), some (.int a2)], [], x)).trans rfl
noncomputable abbrev rX1_doubleConstant (d : Nat) : mj_S → mj_R := mj_run cdX1 0 tX1_doubleConstant (kX1 d)
def zX1_doubleConstant (p : Nat) : Bool := bif Nat.beq p 30 then true else false
set_option maxRecDepth 100000 in
set_option maxHeartbeats 4000000 in
theorem eX1_doubleConstant (d : Nat) (a1 : Int32) (a2 : Int32) (x : mj_X) : kX1 (d + 1) 68 [.ref 0, .int a1, .int a2] x = mj_rL (kX1 d 69 [.long ((a1.toInt64 <<< ((32 : Int32).toInt64 &&& 63)) ||| (a2.toInt64 &&& (4294967295 : Int64)))] x) fun v2 x1 =>
  
  if (lg_cmp v2 (0 : Int64)) = 0 then rX1_doubleConstant d (30, [some (.ref 0), some (.int a1), some (.int a2), some (.long v2), none], [], x1)
  else 
   if (lg_cmp v2 (4607182418800017408 : Int64)) = 0 then rX1_doubleConstant d (30, [some (.ref 0), some (.int a1), some (.int a2), some (.long v2), none], [], x1)
   else mj_rV (kX1 d 63 [.ref 0, .int (4 : Int32), .int v2.toInt32, .int (v2 >>> ((32 : Int32).toInt64 &&& 63)).toInt32] x1) fun x3 =>
    some (none, x3) := (mj_run_to (cd := cdX1) (rt := 0) (tab := tX1_doubleConstant) (cal := kX1 d) zX1_doubleConstant 33 (0, [some (.ref 0), some (.int a1), some (.int a2), none, none], [], x)).trans rfl
set_option maxRecDepth 100000 in
set_option maxHeartbeats 4000000 in
theorem bX1_doubleConstant_30 (d : Nat) (a1 : Int32) (a2 : Int32) (a3 : Int64) (x : mj_X) : rX1_doubleConstant d (30, [some (.ref 0), some (.int a1), some (.int a2), some (.long a3), none], [], x) = 
  if (lg_cmp a3 (0 : Int64)) = 0 then mj_rV (kX1 d 42 [.ref 0, .int (14 : Int32), .int (0 : Int32), .int (2 : Int32)] x) fun x1 =>
   some (none, x1)
  else mj_rV (kX1 d 42 [.ref 0, .int (15 : Int32), .int (0 : Int32), .int (2 : Int32)] x) fun x2 =>
   some (none, x2) := (mj_run_to (cd := cdX1) (rt := 0) (tab := tX1_doubleConstant) (cal := kX1 d) zX1_doubleConstant 33 (30, [some (.ref 0), some (.int a1), some (.int a2), some (.long a3), none], [], x)).trans rfl
