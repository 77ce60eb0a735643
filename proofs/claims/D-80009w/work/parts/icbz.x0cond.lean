noncomputable abbrev rX0_condition (d : Nat) : mj_S → mj_R := mj_run cdX0 0 tX0_condition (kX0 d)
def zX0_condition (p : Nat) : Bool := bif Nat.blt p 167 then (bif Nat.blt p 104 then (bif Nat.beq p 78 then true else false) else (bif Nat.blt p 126 then (bif Nat.beq p 104 then true else false) else (bif Nat.beq p 126 then true else false))) else (bif Nat.blt p 308 then (bif Nat.blt p 278 then (bif Nat.beq p 167 then true else false) else (bif Nat.beq p 278 then true else false)) else (bif Nat.blt p 322 then (bif Nat.beq p 308 then true else false) else (bif Nat.beq p 322 then true else false)))
set_option maxRecDepth 100000 in
set_option maxHeartbeats 4000000 in
theorem eX0_condition (d : Nat) (a1 : Int32) (a2 : Int32) (a3 : Int32) (x : mj_X) : kX0 (d + 1) 65 [.ref 0, .int a1, .int a2, .int a3] x = mj_g a1 4000 (mj_g a1 4000 (mj_g a1 4000 (
  if (x.1 1 a1.toNatClampNeg) = (1 : Int32) then 
   if (x.1 2 a1.toNatClampNeg) = 0 then 
    if (0 : Int32) = a2 then mj_rV (kX0 d 66 [.ref 0, .int a3] x) fun x1 =>
     some (none, x1)
    else some (none, x)
   else 
    if (1 : Int32) = a2 then mj_rV (kX0 d 66 [.ref 0, .int a3] x) fun x2 =>
     some (none, x2)
    else some (none, x)
  else 
   if (x.1 1 a1.toNatClampNeg) = (31 : Int32) then 
    if a2 = 0 then mj_rV (kX0 d 65 [.ref 0, .int (x.1 2 a1.toNatClampNeg), .int (1 : Int32), .int a3] x) fun x3 =>
     some (none, x3)
    else mj_rV (kX0 d 65 [.ref 0, .int (x.1 2 a1.toNatClampNeg), .int (0 : Int32), .int a3] x) fun x4 =>
     some (none, x4)
   else rX0_condition d (78, [some (.ref 0), some (.int a1), some (.int a2), some (.int a3), some (.int (x.1 1 a1.toNatClampNeg)), some (.int (x.1 2 a1.toNatClampNeg)), some (.int (x.1 3 a1.toNatClampNeg)), none, none, none, none], [], x)))) := (mj_run_to (cd := cdX0) (rt := 0) (tab := tX0_condition) (cal := kX0 d) zX0_condition 88 (0, [some (.ref 0), some (.int a1), some (.int a2), some (.int a3), none, none, none, none, none, none, none], [], x)).trans rfl
set_option maxRecDepth 100000 in
set_option maxHeartbeats 4000000 in
theorem bX0_condition_78 (d : Nat) (a1 : Int32) (a2 : Int32) (a3 : Int32) (a4 : Int32) (a5 : Int32) (a6 : Int32) (x : mj_X) : rX0_condition d (78, [some (.ref 0), some (.int a1), some (.int a2), some (.int a3), some (.int a4), some (.int a5), some (.int a6), none, none, none, none], [], x) = 
  if a4 = (29 : Int32) then 
   if a4 = (29 : Int32) then rX0_condition d (104, [some (.ref 0), some (.int a1), some (.int a2), some (.int a3), some (.int a4), some (.int a5), some (.int a6), none, none, none, none], [.int (1 : Int32)], x)
   else rX0_condition d (104, [some (.ref 0), some (.int a1), some (.int a2), some (.int a3), some (.int a4), some (.int a5), some (.int a6), none, none, none, none], [.int (0 : Int32)], x)
  else 
   if a4 = (30 : Int32) then 
    if a4 = (29 : Int32) then rX0_condition d (104, [some (.ref 0), some (.int a1), some (.int a2), some (.int a3), some (.int a4), some (.int a5), some (.int a6), none, none, none, none], [.int (1 : Int32)], x)
    else rX0_condition d (104, [some (.ref 0), some (.int a1), some (.int a2), some (.int a3), some (.int a4), some (.int a5), some (.int a6), none, none, none, none], [.int (0 : Int32)], x)
   else rX0_condition d (167, [some (.ref 0), some (.int a1), some (.int a2), some (.int a3), some (.int a4), some (.int a5), some (.int a6), none, none, none, none], [], x) := (mj_run_to (cd := cdX0) (rt := 0) (tab := tX0_condition) (cal := kX0 d) zX0_condition 88 (78, [some (.ref 0), some (.int a1), some (.int a2), some (.int a3), some (.int a4), some (.int a5), some (.int a6), none, none, none, none], [], x)).trans rfl
set_option maxRecDepth 100000 in
set_option maxHeartbeats 4000000 in
theorem bX0_condition_104 (d : Nat) (a1 : Int32) (a2 : Int32) (a3 : Int32) (a4 : Int32) (a5 : Int32) (a6 : Int32) (s0 : Int32) (x : mj_X) : rX0_condition d (104, [some (.ref 0), some (.int a1), some (.int a2), some (.int a3), some (.int a4), some (.int a5), some (.int a6), none, none, none, none], [.int s0], x) = 
  if s0 = a2 then mj_rI (kX0 d 64 [.ref 0] x) fun v2 x1 =>
   
   if a2 = 0 then rX0_condition d (126, [some (.ref 0), some (.int a1), some (.int a2), some (.int a3), some (.int a4), some (.int a5), some (.int a6), some (.int v2), none, none, none], [.int (1 : Int32), .int a5, .ref 0], x1)
   else rX0_condition d (126, [some (.ref 0), some (.int a1), some (.int a2), some (.int a3), some (.int a4), some (.int a5), some (.int a6), some (.int v2), none, none, none], [.int (0 : Int32), .int a5, .ref 0], x1)
  else mj_rV (kX0 d 65 [.ref 0, .int a5, .int a2, .int a3] x) fun x3 =>
   mj_rV (kX0 d 65 [.ref 0, .int a6, .int a2, .int a3] x3) fun x4 =>
   some (none, x4) := (mj_run_to (cd := cdX0) (rt := 0) (tab := tX0_condition) (cal := kX0 d) zX0_condition 88 (104, [some (.ref 0), some (.int a1), some (.int a2), some (.int a3), some (.int a4), some (.int a5), some (.int a6), none, none, none, none], [.int s0], x)).trans rfl
set_option maxRecDepth 100000 in
set_option maxHeartbeats 4000000 in
theorem bX0_condition_126 (d : Nat) (a1 : Int32) (a2 : Int32) (a3 : Int32) (a4 : Int32) (a5 : Int32) (a6 : Int32) (a7 : Int32) (s1 : Int32) (s2 : Int32) (x : mj_X) : rX0_condition d (126, [some (.ref 0), some (.int a1), some (.int a2), some (.int a3), some (.int a4), some (.int a5), some (.int a6), some (.int a7), none, none, none], [.int s2, .int s1, .ref 0], x) = mj_rV (kX0 d 65 [.ref 0, .int s1, .int s2, .int a7] x) fun x1 =>
  mj_rV (kX0 d 65 [.ref 0, .int a6, .int a2, .int a3] x1) fun x2 =>
  mj_rV (kX0 d 70 [.ref 0, .int a7] x2) fun x3 =>
  some (none, x3) := (mj_run_to (cd := cdX0) (rt := 0) (tab := tX0_condition) (cal := kX0 d) zX0_condition 88 (126, [some (.ref 0), some (.int a1), some (.int a2), some (.int a3), some (.int a4), some (.int a5), some (.int a6), some (.int a7), none, none, none], [.int s2, .int s1, .ref 0], x)).trans rfl
set_option maxRecDepth 100000 in
set_option maxHeartbeats 4000000 in
theorem bX0_condition_167 (d : Nat) (a1 : Int32) (a2 : Int32) (a3 : Int32) (a4 : Int32) (a5 : Int32) (a6 : Int32) (x : mj_X) : rX0_condition d (167, [some (.ref 0), some (.int a1), some (.int a2), some (.int a3), some (.int a4), some (.int a5), some (.int a6), none, none, none, none], [], x) = mj_rI (kX0 d 2 [.long a4.toInt64, .long (23 : Int64), .long (28 : Int64)] x) fun v2 x1 =>
  
  if v2 = 0 then mj_rV (kX0 d 35 [.ref 0, .int a1, .int (1 : Int32)] x1) fun x3 =>
   
   if a2 = 0 then mj_rV (kX0 d 74 [.ref 0, .int (153 : Int32), .int a3] x3) fun x4 =>
    some (none, x4)
   else mj_rV (kX0 d 74 [.ref 0, .int (154 : Int32), .int a3] x3) fun x5 =>
    some (none, x5)
  else mj_g a5 4000 (mj_rV (kX0 d 35 [.ref 0, .int a5, .int (1 : Int32)] x1) fun x6 =>
   
   if (x1.1 4 a5.toNatClampNeg) = (1 : Int32) then mj_g a6 4000 (
    if (x6.1 1 a6.toNatClampNeg) = (1 : Int32) then mj_g a6 4000 (
     if (x6.1 2 a6.toNatClampNeg) = 0 then rX0_condition d (322, [some (.ref 0), some (.int a1), some (.int a2), some (.int a3), some (.int a4), some (.int a5), some (.int a6), some (.int (a4 - (23 : Int32))), some (.int (x1.1 4 a5.toNatClampNeg)), some (.int (153 : Int32)), none], [], x6)
     else mj_rV (kX0 d 35 [.ref 0, .int a6, .int (1 : Int32)] x6) fun x7 =>
      rX0_condition d (322, [some (.ref 0), some (.int a1), some (.int a2), some (.int a3), some (.int a4), some (.int a5), some (.int a6), some (.int (a4 - (23 : Int32))), some (.int (x1.1 4 a5.toNatClampNeg)), some (.int (159 : Int32)), none], [], x7))
    else mj_rV (kX0 d 35 [.ref 0, .int a6, .int (1 : Int32)] x6) fun x8 =>
     rX0_condition d (322, [some (.ref 0), some (.int a1), some (.int a2), some (.int a3), some (.int a4), some (.int a5), some (.int a6), some (.int (a4 - (23 : Int32))), some (.int (x1.1 4 a5.toNatClampNeg)), some (.int (159 : Int32)), none], [], x8))
   else mj_rV (kX0 d 35 [.ref 0, .int a6, .int (1 : Int32)] x6) fun x9 =>
    
    if a4 = (25 : Int32) then rX0_condition d (278, [some (.ref 0), some (.int a1), some (.int a2), some (.int a3), some (.int a4), some (.int a5), some (.int a6), some (.int (a4 - (23 : Int32))), some (.int (x1.1 4 a5.toNatClampNeg)), some (.int (153 : Int32)), none], [.int (1 : Int32)], x9)
    else 
     if a4 = (28 : Int32) then rX0_condition d (278, [some (.ref 0), some (.int a1), some (.int a2), some (.int a3), some (.int a4), some (.int a5), some (.int a6), some (.int (a4 - (23 : Int32))), some (.int (x1.1 4 a5.toNatClampNeg)), some (.int (153 : Int32)), none], [.int (1 : Int32)], x9)
     else rX0_condition d (278, [some (.ref 0), some (.int a1), some (.int a2), some (.int a3), some (.int a4), some (.int a5), some (.int a6), some (.int (a4 - (23 : Int32))), some (.int (x1.1 4 a5.toNatClampNeg)), some (.int (153 : Int32)), none], [.int (0 : Int32)], x9)) := (mj_run_to (cd := cdX0) (rt := 0) (tab := tX0_condition) (cal := kX0 d) zX0_condition 88 (167, [some (.ref 0), some (.int a1), some (.int a2), some (.int a3), some (.int a4), some (.int a5), some (.int a6), none, none, none, none], [], x)).trans rfl
set_option maxRecDepth 100000 in
set_option maxHeartbeats 4000000 in
theorem bX0_condition_278 (d : Nat) (a1 : Int32) (a2 : Int32) (a3 : Int32) (a4 : Int32) (a5 : Int32) (a6 : Int32) (a7 : Int32) (a8 : Int32) (a9 : Int32) (s0 : Int32) (x : mj_X) : rX0_condition d (278, [some (.ref 0), some (.int a1), some (.int a2), some (.int a3), some (.int a4), some (.int a5), some (.int a6), some (.int a7), some (.int a8), some (.int a9), none], [.int s0], x) = 
  if a8 = (2 : Int32) then mj_rV (kX0 d 37 [.ref 0, .int (148 : Int32)] x) fun x1 =>
   rX0_condition d (322, [some (.ref 0), some (.int a1), some (.int a2), some (.int a3), some (.int a4), some (.int a5), some (.int a6), some (.int a7), some (.int a8), some (.int a9), some (.int s0)], [], x1)
  else 
   if a8 = (3 : Int32) then rX0_condition d (308, [some (.ref 0), some (.int a1), some (.int a2), some (.int a3), some (.int a4), some (.int a5), some (.int a6), some (.int a7), some (.int a8), some (.int a9), some (.int s0)], [.int (149 : Int32), .ref 0], x)
   else rX0_condition d (308, [some (.ref 0), some (.int a1), some (.int a2), some (.int a3), some (.int a4), some (.int a5), some (.int a6), some (.int a7), some (.int a8), some (.int a9), some (.int s0)], [.int (151 : Int32), .ref 0], x) := (mj_run_to (cd := cdX0) (rt := 0) (tab := tX0_condition) (cal := kX0 d) zX0_condition 88 (278, [some (.ref 0), some (.int a1), some (.int a2), some (.int a3), some (.int a4), some (.int a5), some (.int a6), some (.int a7), some (.int a8), some (.int a9), none], [.int s0], x)).trans rfl
set_option maxRecDepth 100000 in
set_option maxHeartbeats 4000000 in
theorem bX0_condition_308 (d : Nat) (a1 : Int32) (a2 : Int32) (a3 : Int32) (a4 : Int32) (a5 : Int32) (a6 : Int32) (a7 : Int32) (a8 : Int32) (a9 : Int32) (a10 : Int32) (s1 : Int32) (x : mj_X) : rX0_condition d (308, [some (.ref 0), some (.int a1), some (.int a2), some (.int a3), some (.int a4), some (.int a5), some (.int a6), some (.int a7), some (.int a8), some (.int a9), some (.int a10)], [.int s1, .ref 0], x) = 
  if a10 = 0 then mj_rV (kX0 d 37 [.ref 0, .int (s1 + (0 : Int32))] x) fun x1 =>
   rX0_condition d (322, [some (.ref 0), some (.int a1), some (.int a2), some (.int a3), some (.int a4), some (.int a5), some (.int a6), some (.int a7), some (.int a8), some (.int a9), some (.int a10)], [], x1)
  else mj_rV (kX0 d 37 [.ref 0, .int (s1 + (1 : Int32))] x) fun x2 =>
   rX0_condition d (322, [some (.ref 0), some (.int a1), some (.int a2), some (.int a3), some (.int a4), some (.int a5), some (.int a6), some (.int a7), some (.int a8), some (.int a9), some (.int a10)], [], x2) := (mj_run_to (cd := cdX0) (rt := 0) (tab := tX0_condition) (cal := kX0 d) zX0_condition 88 (308, [some (.ref 0), some (.int a1), some (.int a2), some (.int a3), some (.int a4), some (.int a5), some (.int a6), some (.int a7), some (.int a8), some (.int a9), some (.int a10)], [.int s1, .ref 0], x)).trans rfl
set_option maxRecDepth 100000 in
set_option maxHeartbeats 4000000 in
theorem bX0_condition_322 (d : Nat) (a1 : Int32) (a2 : Int32) (a3 : Int32) (a4 : Int32) (a5 : Int32) (a6 : Int32) (a7 : Int32) (a8 : Int32) (a9 : Int32) (o10 : Option Value) (x : mj_X) : rX0_condition d (322, [some (.ref 0), some (.int a1), some (.int a2), some (.int a3), some (.int a4), some (.int a5), some (.int a6), some (.int a7), some (.int a8), some (.int a9), o10], [], x) = 
  if a2 = 0 then mj_rI (kX0 d 73 [.int (a9 + a7)] x) fun v2 x1 =>
   mj_rV (kX0 d 74 [.ref 0, .int v2, .int a3] x1) fun x3 =>
   some (none, x3)
  else mj_rV (kX0 d 74 [.ref 0, .int (a9 + a7), .int a3] x) fun x4 =>
   some (none, x4) := (mj_run_to (cd := cdX0) (rt := 0) (tab := tX0_condition) (cal := kX0 d) zX0_condition 88 (322, [some (.ref 0), some (.int a1), some (.int a2), some (.int a3), some (.int a4), some (.int a5), some (.int a6), some (.int a7), some (.int a8), some (.int a9), o10], [], x)).trans rfl
