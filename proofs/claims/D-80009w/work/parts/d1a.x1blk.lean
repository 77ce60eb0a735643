noncomputable abbrev rX1_declare (d : Nat) : mj_S → mj_R := mj_run cdX1 0 tX1_declare (kX1 d)
def zX1_declare (p : Nat) : Bool := false
set_option maxRecDepth 100000 in
set_option maxHeartbeats 4000000 in
theorem eX1_declare (d : Nat) (a1 : Int32) (x : mj_X) : kX1 (d + 1) 24 [.ref 0, .int a1] x = mj_g a1 4000 (mj_g (x.1 0 27) 4001 (some (none, (mj_wI (mj_wI (mj_wI x 26 a1.toNatClampNeg (1 : Int32)) 27 (x.1 0 27).toNatClampNeg a1) 0 27 ((x.1 0 27) + (1 : Int32)))))) := (mj_run_to (cd := cdX1) (rt := 0) (tab := tX1_declare) (cal := kX1 d) zX1_declare 20 (0, [some (.ref 0), some (.int a1)], [], x)).trans rfl
noncomputable abbrev rX1_placesOf (d : Nat) : mj_S → mj_R := mj_run cdX1 1 tX1_placesOf (kX1 d)
def zX1_placesOf (p : Nat) : Bool := false
set_option maxRecDepth 100000 in
set_option maxHeartbeats 4000000 in
theorem eX1_placesOf (d : Nat) (a0 : Int32) (x : mj_X) : kX1 (d + 1) 25 [.int a0] x = 
  if a0 = 0 then some (some (.int (0 : Int32)), x)
  else 
   if a0 = (2 : Int32) then some (some (.int (2 : Int32)), x)
   else 
    if a0 = (4 : Int32) then some (some (.int (2 : Int32)), x)
    else some (some (.int (1 : Int32)), x) := (mj_run_to (cd := cdX1) (rt := 1) (tab := tX1_placesOf) (cal := kX1 d) zX1_placesOf 21 (0, [some (.int a0)], [], x)).trans rfl
noncomputable abbrev rX1_isScopedPlace (d : Nat) : mj_S → mj_R := mj_run cdX1 5 tX1_isScopedPlace (kX1 d)
def zX1_isScopedPlace (p : Nat) : Bool := false
set_option maxRecDepth 100000 in
set_option maxHeartbeats 4000000 in
theorem eX1_isScopedPlace (d : Nat) (a1 : Int32) (x : mj_X) : kX1 (d + 1) 26 [.ref 0, .int a1] x = mj_rI (kX1 d 27 [.ref 0, .int a1] x) fun v2 x1 =>
  mj_rV (kX1 d 30 [.ref 0, .int (x.1 0 27)] x1) fun x3 =>
  mj_gb v2 (some (some (.int v2), x3)) := (mj_run_to (cd := cdX1) (rt := 5) (tab := tX1_isScopedPlace) (cal := kX1 d) zX1_isScopedPlace 14 (0, [some (.ref 0), some (.int a1), none, none], [], x)).trans rfl
noncomputable abbrev rX1_isScopedStatement (d : Nat) : mj_S → mj_R := mj_run cdX1 5 tX1_isScopedStatement (kX1 d)
def zX1_isScopedStatement (p : Nat) : Bool := bif Nat.blt p 275 then (bif Nat.blt p 185 then (bif Nat.blt p 146 then (bif Nat.beq p 140 then true else false) else (bif Nat.blt p 163 then (bif Nat.beq p 146 then true else false) else (bif Nat.beq p 163 then true else false))) else (bif Nat.blt p 213 then (bif Nat.blt p 191 then (bif Nat.beq p 185 then true else false) else (bif Nat.beq p 191 then true else false)) else (bif Nat.blt p 253 then (bif Nat.beq p 213 then true else false) else (bif Nat.beq p 253 then true else false)))) else (bif Nat.blt p 378 then (bif Nat.blt p 334 then (bif Nat.blt p 315 then (bif Nat.beq p 275 then true else false) else (bif Nat.beq p 315 then true else false)) else (bif Nat.blt p 356 then (bif Nat.beq p 334 then true else false) else (bif Nat.beq p 356 then true else false))) else (bif Nat.blt p 432 then (bif Nat.blt p 388 then (bif Nat.beq p 378 then true else false) else (bif Nat.beq p 388 then true else false)) else (bif Nat.blt p 438 then (bif Nat.beq p 432 then true else false) else (bif Nat.beq p 438 then true else false))))
set_option maxRecDepth 100000 in
set_option maxHeartbeats 4000000 in
theorem eX1_isScopedStatement (d : Nat) (a1 : Int32) (x : mj_X) : kX1 (d + 1) 27 [.ref 0, .int a1] x = mj_g a1 4000 (mj_g a1 4000 (mj_g a1 4000 (mj_sw (x.1 2 a1.toNatClampNeg) 60 (418) [120, 126, 143, 165, 171, 193, 418, 171, 233, 255, 418, 418, 418, 295, 120, 314, 418, 418, 418, 336, 171, 358, 418, 418, 418, 412] fun off => mj_j 20 off fun t => rX1_isScopedStatement d (t, [some (.ref 0), some (.int a1), some (.int (x.1 3 a1.toNatClampNeg)), some (.int (x.1 4 a1.toNatClampNeg)), none, none], [], x)))) := (mj_run_to (cd := cdX1) (rt := 5) (tab := tX1_isScopedStatement) (cal := kX1 d) zX1_isScopedStatement 31 (0, [some (.ref 0), some (.int a1), none, none, none, none], [], x)).trans rfl
set_option maxRecDepth 100000 in
set_option maxHeartbeats 4000000 in
theorem bX1_isScopedStatement_140 (d : Nat) (a1 : Int32) (a2 : Int32) (a3 : Int32) (x : mj_X) : rX1_isScopedStatement d (140, [some (.ref 0), some (.int a1), some (.int a2), some (.int a3), none, none], [], x) = mj_rI (kX1 d 28 [.ref 0, .int a2] x) fun v2 x1 =>
  mj_gb v2 (some (some (.int v2), x1)) := (mj_run_to (cd := cdX1) (rt := 5) (tab := tX1_isScopedStatement) (cal := kX1 d) zX1_isScopedStatement 31 (140, [some (.ref 0), some (.int a1), some (.int a2), some (.int a3), none, none], [], x)).trans rfl
set_option maxRecDepth 100000 in
set_option maxHeartbeats 4000000 in
theorem bX1_isScopedStatement_146 (d : Nat) (a1 : Int32) (a2 : Int32) (a3 : Int32) (x : mj_X) : rX1_isScopedStatement d (146, [some (.ref 0), some (.int a1), some (.int a2), some (.int a3), none, none], [], x) = mj_rI (kX1 d 28 [.ref 0, .int a3] x) fun v2 x1 =>
  
  if v2 = 0 then some (some (.int (0 : Int32)), x1)
  else mj_rV (kX1 d 24 [.ref 0, .int a2] x1) fun x3 =>
   some (some (.int (1 : Int32)), x3) := (mj_run_to (cd := cdX1) (rt := 5) (tab := tX1_isScopedStatement) (cal := kX1 d) zX1_isScopedStatement 31 (146, [some (.ref 0), some (.int a1), some (.int a2), some (.int a3), none, none], [], x)).trans rfl
set_option maxRecDepth 100000 in
set_option maxHeartbeats 4000000 in
theorem bX1_isScopedStatement_163 (d : Nat) (a1 : Int32) (a2 : Int32) (a3 : Int32) (x : mj_X) : rX1_isScopedStatement d (163, [some (.ref 0), some (.int a1), some (.int a2), some (.int a3), none, none], [], x) = mj_rI (kX1 d 27 [.ref 0, .int a2] x) fun v2 x1 =>
  
  if v2 = 0 then some (some (.int (0 : Int32)), x1)
  else mj_rI (kX1 d 27 [.ref 0, .int a3] x1) fun v4 x3 =>
   
   if v4 = 0 then some (some (.int (0 : Int32)), x3)
   else some (some (.int (1 : Int32)), x3) := (mj_run_to (cd := cdX1) (rt := 5) (tab := tX1_isScopedStatement) (cal := kX1 d) zX1_isScopedStatement 31 (163, [some (.ref 0), some (.int a1), some (.int a2), some (.int a3), none, none], [], x)).trans rfl
set_option maxRecDepth 100000 in
set_option maxHeartbeats 4000000 in
theorem bX1_isScopedStatement_185 (d : Nat) (a1 : Int32) (a2 : Int32) (a3 : Int32) (x : mj_X) : rX1_isScopedStatement d (185, [some (.ref 0), some (.int a1), some (.int a2), some (.int a3), none, none], [], x) = mj_rI (kX1 d 26 [.ref 0, .int a2] x) fun v2 x1 =>
  mj_gb v2 (some (some (.int v2), x1)) := (mj_run_to (cd := cdX1) (rt := 5) (tab := tX1_isScopedStatement) (cal := kX1 d) zX1_isScopedStatement 31 (185, [some (.ref 0), some (.int a1), some (.int a2), some (.int a3), none, none], [], x)).trans rfl
set_option maxRecDepth 100000 in
set_option maxHeartbeats 4000000 in
theorem bX1_isScopedStatement_191 (d : Nat) (a1 : Int32) (a2 : Int32) (a3 : Int32) (x : mj_X) : rX1_isScopedStatement d (191, [some (.ref 0), some (.int a1), some (.int a2), some (.int a3), none, none], [], x) = mj_rI (kX1 d 28 [.ref 0, .int a2] x) fun v2 x1 =>
  
  if v2 = 0 then some (some (.int (0 : Int32)), x1)
  else mj_rI (kX1 d 26 [.ref 0, .int a3] x1) fun v4 x3 =>
   
   if v4 = 0 then some (some (.int (0 : Int32)), x3)
   else some (some (.int (1 : Int32)), x3) := (mj_run_to (cd := cdX1) (rt := 5) (tab := tX1_isScopedStatement) (cal := kX1 d) zX1_isScopedStatement 31 (191, [some (.ref 0), some (.int a1), some (.int a2), some (.int a3), none, none], [], x)).trans rfl
set_option maxRecDepth 100000 in
set_option maxHeartbeats 4000000 in
theorem bX1_isScopedStatement_213 (d : Nat) (a1 : Int32) (a2 : Int32) (a3 : Int32) (x : mj_X) : rX1_isScopedStatement d (213, [some (.ref 0), some (.int a1), some (.int a2), some (.int a3), none, none], [], x) = mj_rI (kX1 d 28 [.ref 0, .int a2] x) fun v2 x1 =>
  
  if v2 = 0 then some (some (.int (0 : Int32)), x1)
  else mj_g a3 4000 (mj_rI (kX1 d 26 [.ref 0, .int (x1.1 3 a3.toNatClampNeg)] x1) fun v4 x3 =>
   
   if v4 = 0 then some (some (.int (0 : Int32)), x3)
   else mj_g a3 4000 (mj_rI (kX1 d 26 [.ref 0, .int (x3.1 4 a3.toNatClampNeg)] x3) fun v6 x5 =>
    
    if v6 = 0 then some (some (.int (0 : Int32)), x5)
    else some (some (.int (1 : Int32)), x5))) := (mj_run_to (cd := cdX1) (rt := 5) (tab := tX1_isScopedStatement) (cal := kX1 d) zX1_isScopedStatement 31 (213, [some (.ref 0), some (.int a1), some (.int a2), some (.int a3), none, none], [], x)).trans rfl
set_option maxRecDepth 100000 in
set_option maxHeartbeats 4000000 in
theorem bX1_isScopedStatement_253 (d : Nat) (a1 : Int32) (a2 : Int32) (a3 : Int32) (x : mj_X) : rX1_isScopedStatement d (253, [some (.ref 0), some (.int a1), some (.int a2), some (.int a3), none, none], [], x) = mj_rI (kX1 d 26 [.ref 0, .int a2] x) fun v2 x1 =>
  
  if v2 = 0 then some (some (.int (0 : Int32)), x1)
  else mj_rI (kX1 d 28 [.ref 0, .int a3] x1) fun v4 x3 =>
   
   if v4 = 0 then some (some (.int (0 : Int32)), x3)
   else some (some (.int (1 : Int32)), x3) := (mj_run_to (cd := cdX1) (rt := 5) (tab := tX1_isScopedStatement) (cal := kX1 d) zX1_isScopedStatement 31 (253, [some (.ref 0), some (.int a1), some (.int a2), some (.int a3), none, none], [], x)).trans rfl
set_option maxRecDepth 100000 in
set_option maxHeartbeats 4000000 in
theorem bX1_isScopedStatement_275 (d : Nat) (a1 : Int32) (a2 : Int32) (a3 : Int32) (x : mj_X) : rX1_isScopedStatement d (275, [some (.ref 0), some (.int a1), some (.int a2), some (.int a3), none, none], [], x) = mj_g a2 4000 (mj_rI (kX1 d 28 [.ref 0, .int (x.1 3 a2.toNatClampNeg)] x) fun v2 x1 =>
  
  if v2 = 0 then some (some (.int (0 : Int32)), x1)
  else mj_g a2 4000 (mj_rI (kX1 d 26 [.ref 0, .int (x1.1 4 a2.toNatClampNeg)] x1) fun v4 x3 =>
   
   if v4 = 0 then some (some (.int (0 : Int32)), x3)
   else mj_rI (kX1 d 26 [.ref 0, .int a3] x3) fun v6 x5 =>
    
    if v6 = 0 then some (some (.int (0 : Int32)), x5)
    else some (some (.int (1 : Int32)), x5))) := (mj_run_to (cd := cdX1) (rt := 5) (tab := tX1_isScopedStatement) (cal := kX1 d) zX1_isScopedStatement 31 (275, [some (.ref 0), some (.int a1), some (.int a2), some (.int a3), none, none], [], x)).trans rfl
set_option maxRecDepth 100000 in
set_option maxHeartbeats 4000000 in
theorem bX1_isScopedStatement_315 (d : Nat) (a1 : Int32) (a2 : Int32) (a3 : Int32) (x : mj_X) : rX1_isScopedStatement d (315, [some (.ref 0), some (.int a1), some (.int a2), some (.int a3), none, none], [], x) = 
  if a2 = (-1 : Int32) then some (some (.int (1 : Int32)), x)
  else mj_rI (kX1 d 28 [.ref 0, .int a2] x) fun v2 x1 =>
   
   if v2 = 0 then some (some (.int (0 : Int32)), x1)
   else some (some (.int (1 : Int32)), x1) := (mj_run_to (cd := cdX1) (rt := 5) (tab := tX1_isScopedStatement) (cal := kX1 d) zX1_isScopedStatement 31 (315, [some (.ref 0), some (.int a1), some (.int a2), some (.int a3), none, none], [], x)).trans rfl
set_option maxRecDepth 100000 in
set_option maxHeartbeats 4000000 in
theorem bX1_isScopedStatement_334 (d : Nat) (a1 : Int32) (a2 : Int32) (a3 : Int32) (x : mj_X) : rX1_isScopedStatement d (334, [some (.ref 0), some (.int a1), some (.int a2), some (.int a3), none, none], [], x) = mj_rI (kX1 d 26 [.ref 0, .int a2] x) fun v2 x1 =>
  
  if v2 = 0 then some (some (.int (0 : Int32)), x1)
  else mj_rI (kX1 d 29 [.ref 0, .int a3] x1) fun v4 x3 =>
   
   if v4 = 0 then some (some (.int (0 : Int32)), x3)
   else some (some (.int (1 : Int32)), x3) := (mj_run_to (cd := cdX1) (rt := 5) (tab := tX1_isScopedStatement) (cal := kX1 d) zX1_isScopedStatement 31 (334, [some (.ref 0), some (.int a1), some (.int a2), some (.int a3), none, none], [], x)).trans rfl
set_option maxRecDepth 100000 in
set_option maxHeartbeats 4000000 in
theorem bX1_isScopedStatement_356 (d : Nat) (a1 : Int32) (a2 : Int32) (a3 : Int32) (x : mj_X) : rX1_isScopedStatement d (356, [some (.ref 0), some (.int a1), some (.int a2), some (.int a3), none, none], [], x) = mj_rI (kX1 d 26 [.ref 0, .int a2] x) fun v2 x1 =>
  
  if v2 = 0 then some (some (.int (0 : Int32)), x1)
  else mj_rI (kX1 d 26 [.ref 0, .int a3] x1) fun v4 x3 =>
   
   if v4 = 0 then some (some (.int (0 : Int32)), x3)
   else some (some (.int (1 : Int32)), x3) := (mj_run_to (cd := cdX1) (rt := 5) (tab := tX1_isScopedStatement) (cal := kX1 d) zX1_isScopedStatement 31 (356, [some (.ref 0), some (.int a1), some (.int a2), some (.int a3), none, none], [], x)).trans rfl
set_option maxRecDepth 100000 in
set_option maxHeartbeats 4000000 in
theorem bX1_isScopedStatement_378 (d : Nat) (a1 : Int32) (a2 : Int32) (a3 : Int32) (x : mj_X) : rX1_isScopedStatement d (378, [some (.ref 0), some (.int a1), some (.int a2), some (.int a3), none, none], [], x) = mj_rI (kX1 d 28 [.ref 0, .int a2] x) fun v2 x1 =>
  rX1_isScopedStatement d (388, [some (.ref 0), some (.int a1), some (.int a2), some (.int a3), some (.int v2), some (.int a3)], [], x1) := (mj_run_to (cd := cdX1) (rt := 5) (tab := tX1_isScopedStatement) (cal := kX1 d) zX1_isScopedStatement 31 (378, [some (.ref 0), some (.int a1), some (.int a2), some (.int a3), none, none], [], x)).trans rfl
set_option maxRecDepth 100000 in
set_option maxHeartbeats 4000000 in
theorem bX1_isScopedStatement_388 (d : Nat) (a1 : Int32) (a2 : Int32) (a3 : Int32) (a4 : Int32) (a5 : Int32) (x : mj_X) : rX1_isScopedStatement d (388, [some (.ref 0), some (.int a1), some (.int a2), some (.int a3), some (.int a4), some (.int a5)], [], x) = 
  if a5 = (-1 : Int32) then mj_gb a4 (some (some (.int a4), x))
  else 
   if a4 = 0 then mj_gb a4 (some (some (.int a4), x))
   else mj_g a5 4000 (mj_g (x.1 3 a5.toNatClampNeg) 4000 (mj_rI (kX1 d 26 [.ref 0, .int (x.1 4 (x.1 3 a5.toNatClampNeg).toNatClampNeg)] x) fun v2 x1 =>
    mj_g a5 4000 (rX1_isScopedStatement d (388, [some (.ref 0), some (.int a1), some (.int a2), some (.int a3), some (.int v2), some (.int (x1.1 4 a5.toNatClampNeg))], [], x1)))) := (mj_run_to (cd := cdX1) (rt := 5) (tab := tX1_isScopedStatement) (cal := kX1 d) zX1_isScopedStatement 31 (388, [some (.ref 0), some (.int a1), some (.int a2), some (.int a3), some (.int a4), some (.int a5)], [], x)).trans rfl
set_option maxRecDepth 100000 in
set_option maxHeartbeats 4000000 in
theorem bX1_isScopedStatement_432 (d : Nat) (a1 : Int32) (a2 : Int32) (a3 : Int32) (x : mj_X) : rX1_isScopedStatement d (432, [some (.ref 0), some (.int a1), some (.int a2), some (.int a3), none, none], [], x) = mj_rI (kX1 d 27 [.ref 0, .int a3] x) fun v2 x1 =>
  mj_gb v2 (some (some (.int v2), x1)) := (mj_run_to (cd := cdX1) (rt := 5) (tab := tX1_isScopedStatement) (cal := kX1 d) zX1_isScopedStatement 31 (432, [some (.ref 0), some (.int a1), some (.int a2), some (.int a3), none, none], [], x)).trans rfl
set_option maxRecDepth 100000 in
set_option maxHeartbeats 4000000 in
theorem bX1_isScopedStatement_438 (d : Nat) (a1 : Int32) (a2 : Int32) (a3 : Int32) (x : mj_X) : rX1_isScopedStatement d (438, [some (.ref 0), some (.int a1), some (.int a2), some (.int a3), none, none], [], x) = some (some (.int (1 : Int32)), x) := (mj_run_to (cd := cdX1) (rt := 5) (tab := tX1_isScopedStatement) (cal := kX1 d) zX1_isScopedStatement 31 (438, [some (.ref 0), some (.int a1), some (.int a2), some (.int a3), none, none], [], x)).trans rfl
noncomputable abbrev rX1_isScoped (d : Nat) : mj_S → mj_R := mj_run cdX1 5 tX1_isScoped (kX1 d)
def zX1_isScoped (p : Nat) : Bool := bif Nat.beq p 99 then true else false
set_option maxRecDepth 100000 in
set_option maxHeartbeats 4000000 in
theorem eX1_isScoped (d : Nat) (a1 : Int32) (x : mj_X) : kX1 (d + 1) 28 [.ref 0, .int a1] x = mj_g a1 4000 (
  if (x.1 2 a1.toNatClampNeg) = (6 : Int32) then mj_g a1 4000 (mj_g (x.1 3 a1.toNatClampNeg) 4000 (mj_gb (x.1 26 (x.1 3 a1.toNatClampNeg).toNatClampNeg) (some (some (.int (x.1 26 (x.1 3 a1.toNatClampNeg).toNatClampNeg)), x))))
  else 
   if (x.1 2 a1.toNatClampNeg) = (7 : Int32) then mj_g a1 4000 (mj_g (x.1 3 a1.toNatClampNeg) 4000 (
    if (x.1 26 (x.1 3 a1.toNatClampNeg).toNatClampNeg) = 0 then some (some (.int (0 : Int32)), x)
    else mj_g a1 4000 (mj_rI (kX1 d 28 [.ref 0, .int (x.1 4 a1.toNatClampNeg)] x) fun v2 x1 =>
     
     if v2 = 0 then some (some (.int (0 : Int32)), x1)
     else some (some (.int (1 : Int32)), x1))))
   else mj_rI (kX1 d 17 [.int (x.1 2 a1.toNatClampNeg)] x) fun v4 x3 =>
    
    if v4 = 0 then rX1_isScoped d (99, [some (.ref 0), some (.int a1), some (.int (x.1 2 a1.toNatClampNeg)), none], [.int (1 : Int32)], x3)
    else mj_g a1 4000 (
     if (x3.1 3 a1.toNatClampNeg) = (-1 : Int32) then rX1_isScoped d (99, [some (.ref 0), some (.int a1), some (.int (x.1 2 a1.toNatClampNeg)), none], [.int (1 : Int32)], x3)
     else mj_g a1 4000 (mj_rI (kX1 d 28 [.ref 0, .int (x3.1 3 a1.toNatClampNeg)] x3) fun v6 x5 =>
      
      if v6 = 0 then rX1_isScoped d (99, [some (.ref 0), some (.int a1), some (.int (x.1 2 a1.toNatClampNeg)), none], [.int (0 : Int32)], x5)
      else rX1_isScoped d (99, [some (.ref 0), some (.int a1), some (.int (x.1 2 a1.toNatClampNeg)), none], [.int (1 : Int32)], x5)))) := (mj_run_to (cd := cdX1) (rt := 5) (tab := tX1_isScoped) (cal := kX1 d) zX1_isScoped 70 (0, [some (.ref 0), some (.int a1), none, none], [], x)).trans rfl
set_option maxRecDepth 100000 in
set_option maxHeartbeats 4000000 in
theorem bX1_isScoped_99 (d : Nat) (a1 : Int32) (a2 : Int32) (s0 : Int32) (x : mj_X) : rX1_isScoped d (99, [some (.ref 0), some (.int a1), some (.int a2), none], [.int s0], x) = 
  if s0 = 0 then some (some (.int (0 : Int32)), x)
  else mj_rI (kX1 d 18 [.int a2] x) fun v2 x1 =>
   
   if v2 = 0 then some (some (.int (1 : Int32)), x1)
   else mj_g a1 4000 (
    if (x1.1 4 a1.toNatClampNeg) = (-1 : Int32) then some (some (.int (1 : Int32)), x1)
    else mj_g a1 4000 (mj_rI (kX1 d 28 [.ref 0, .int (x1.1 4 a1.toNatClampNeg)] x1) fun v4 x3 =>
     
     if v4 = 0 then some (some (.int (0 : Int32)), x3)
     else some (some (.int (1 : Int32)), x3))) := (mj_run_to (cd := cdX1) (rt := 5) (tab := tX1_isScoped) (cal := kX1 d) zX1_isScoped 70 (99, [some (.ref 0), some (.int a1), some (.int a2), none], [.int s0], x)).trans rfl
noncomputable abbrev rX1_isScopedHandlers (d : Nat) : mj_S → mj_R := mj_run cdX1 5 tX1_isScopedHandlers (kX1 d)
def zX1_isScopedHandlers (p : Nat) : Bool := bif Nat.blt p 59 then (bif Nat.beq p 4 then true else false) else (bif Nat.beq p 59 then true else false)
set_option maxRecDepth 100000 in
set_option maxHeartbeats 4000000 in
theorem eX1_isScopedHandlers (d : Nat) (a1 : Int32) (x : mj_X) : kX1 (d + 1) 29 [.ref 0, .int a1] x = rX1_isScopedHandlers d (4, [some (.ref 0), some (.int a1), some (.int (1 : Int32)), some (.int a1), none, none], [], x) := (mj_run_to (cd := cdX1) (rt := 5) (tab := tX1_isScopedHandlers) (cal := kX1 d) zX1_isScopedHandlers 38 (0, [some (.ref 0), some (.int a1), none, none, none, none], [], x)).trans rfl
set_option maxRecDepth 100000 in
set_option maxHeartbeats 4000000 in
theorem bX1_isScopedHandlers_4 (d : Nat) (a1 : Int32) (a2 : Int32) (a3 : Int32) (o4 : Option Value) (o5 : Option Value) (x : mj_X) : rX1_isScopedHandlers d (4, [some (.ref 0), some (.int a1), some (.int a2), some (.int a3), o4, o5], [], x) = 
  if a3 = (-1 : Int32) then mj_gb a2 (some (some (.int a2), x))
  else 
   if a2 = 0 then mj_gb a2 (some (some (.int a2), x))
   else mj_g a3 4000 (mj_g (x.1 3 a3.toNatClampNeg) 4000 (
    if (x.1 2 (x.1 3 a3.toNatClampNeg).toNatClampNeg) = (78 : Int32) then mj_g (x.1 3 a3.toNatClampNeg) 4000 (mj_rV (kX1 d 24 [.ref 0, .int (x.1 3 (x.1 3 a3.toNatClampNeg).toNatClampNeg)] x) fun x1 =>
     mj_g (x.1 3 a3.toNatClampNeg) 4000 (rX1_isScopedHandlers d (59, [some (.ref 0), some (.int a1), some (.int a2), some (.int a3), some (.int (x1.1 4 (x.1 3 a3.toNatClampNeg).toNatClampNeg)), some (.int (x.1 0 27))], [], x1)))
    else rX1_isScopedHandlers d (59, [some (.ref 0), some (.int a1), some (.int a2), some (.int a3), some (.int (x.1 3 a3.toNatClampNeg)), some (.int (x.1 0 27))], [], x))) := (mj_run_to (cd := cdX1) (rt := 5) (tab := tX1_isScopedHandlers) (cal := kX1 d) zX1_isScopedHandlers 38 (4, [some (.ref 0), some (.int a1), some (.int a2), some (.int a3), o4, o5], [], x)).trans rfl
set_option maxRecDepth 100000 in
set_option maxHeartbeats 4000000 in
theorem bX1_isScopedHandlers_59 (d : Nat) (a1 : Int32) (a2 : Int32) (a3 : Int32) (a4 : Int32) (a5 : Int32) (x : mj_X) : rX1_isScopedHandlers d (59, [some (.ref 0), some (.int a1), some (.int a2), some (.int a3), some (.int a4), some (.int a5)], [], x) = mj_g a4 4000 (mj_rI (kX1 d 26 [.ref 0, .int (x.1 4 a4.toNatClampNeg)] x) fun v2 x1 =>
  mj_rV (kX1 d 30 [.ref 0, .int a5] x1) fun x3 =>
  mj_g a3 4000 (rX1_isScopedHandlers d (4, [some (.ref 0), some (.int a1), some (.int v2), some (.int (x3.1 4 a3.toNatClampNeg)), some (.int a4), some (.int a5)], [], x3))) := (mj_run_to (cd := cdX1) (rt := 5) (tab := tX1_isScopedHandlers) (cal := kX1 d) zX1_isScopedHandlers 38 (59, [some (.ref 0), some (.int a1), some (.int a2), some (.int a3), some (.int a4), some (.int a5)], [], x)).trans rfl
noncomputable abbrev rX1_undeclare (d : Nat) : mj_S → mj_R := mj_run cdX1 0 tX1_undeclare (kX1 d)
def zX1_undeclare (p : Nat) : Bool := bif Nat.beq p 0 then true else false
set_option maxRecDepth 100000 in
set_option maxHeartbeats 4000000 in
theorem eX1_undeclare (d : Nat) (a1 : Int32) (x : mj_X) : kX1 (d + 1) 30 [.ref 0, .int a1] x = rX1_undeclare d (0, [some (.ref 0), some (.int a1)], [], x) := rfl
set_option maxRecDepth 100000 in
set_option maxHeartbeats 4000000 in
theorem bX1_undeclare_0 (d : Nat) (a1 : Int32) (x : mj_X) : rX1_undeclare d (0, [some (.ref 0), some (.int a1)], [], x) = 
  if (x.1 0 27) ≤ a1 then some (none, x)
  else mj_g ((x.1 0 27) - (1 : Int32)) 4001 (mj_g (x.1 27 ((x.1 0 27) - (1 : Int32)).toNatClampNeg) 4000 (rX1_undeclare d (0, [some (.ref 0), some (.int a1)], [], (mj_wI (mj_wI x 0 27 ((x.1 0 27) - (1 : Int32))) 26 (x.1 27 ((x.1 0 27) - (1 : Int32)).toNatClampNeg).toNatClampNeg (0 : Int32))))) := (mj_run_to (cd := cdX1) (rt := 0) (tab := tX1_undeclare) (cal := kX1 d) zX1_undeclare 24 (0, [some (.ref 0), some (.int a1)], [], x)).trans rfl
noncomputable abbrev rX1_isLeft (d : Nat) : mj_S → mj_R := mj_run cdX1 5 tX1_isLeft (kX1 d)
def zX1_isLeft (p : Nat) : Bool := bif Nat.blt p 254 then (bif Nat.blt p 198 then (bif Nat.blt p 160 then (bif Nat.blt p 154 then (bif Nat.beq p 132 then true else false) else (bif Nat.beq p 154 then true else false)) else (bif Nat.blt p 166 then (bif Nat.beq p 160 then true else false) else (bif Nat.beq p 166 then true else false))) else (bif Nat.blt p 212 then (bif Nat.blt p 205 then (bif Nat.beq p 198 then true else false) else (bif Nat.beq p 205 then true else false)) else (bif Nat.blt p 240 then (bif Nat.beq p 212 then true else false) else (bif Nat.beq p 240 then true else false)))) else (bif Nat.blt p 348 then (bif Nat.blt p 299 then (bif Nat.blt p 260 then (bif Nat.beq p 254 then true else false) else (bif Nat.beq p 260 then true else false)) else (bif Nat.blt p 338 then (bif Nat.beq p 299 then true else false) else (bif Nat.beq p 338 then true else false))) else (bif Nat.blt p 428 then (bif Nat.blt p 398 then (bif Nat.beq p 348 then true else false) else (bif Nat.beq p 398 then true else false)) else (bif Nat.blt p 434 then (bif Nat.beq p 428 then true else false) else (bif Nat.blt p 479 then (bif Nat.beq p 434 then true else false) else (bif Nat.beq p 479 then true else false)))))
set_option maxRecDepth 100000 in
set_option maxHeartbeats 4000000 in
theorem eX1_isLeft (d : Nat) (a1 : Int32) (x : mj_X) : kX1 (d + 1) 31 [.ref 0, .int a1] x = mj_g a1 4000 (mj_g a1 4000 (mj_g a1 4000 (mj_sw (x.1 2 a1.toNatClampNeg) 62 (459) [112, 134, 140, 146, 459, 178, 185, 192, 459, 220, 234, 279, 459, 318, 459, 459, 459, 112, 140, 408, 459, 459, 459, 140] fun off => mj_j 20 off fun t => rX1_isLeft d (t, [some (.ref 0), some (.int a1), some (.int (x.1 3 a1.toNatClampNeg)), some (.int (x.1 4 a1.toNatClampNeg)), none, none, none, none], [], x)))) := (mj_run_to (cd := cdX1) (rt := 5) (tab := tX1_isLeft) (cal := kX1 d) zX1_isLeft 34 (0, [some (.ref 0), some (.int a1), none, none, none, none, none, none], [], x)).trans rfl
set_option maxRecDepth 100000 in
set_option maxHeartbeats 4000000 in
theorem bX1_isLeft_132 (d : Nat) (a1 : Int32) (a2 : Int32) (a3 : Int32) (x : mj_X) : rX1_isLeft d (132, [some (.ref 0), some (.int a1), some (.int a2), some (.int a3), none, none, none, none], [], x) = mj_rI (kX1 d 31 [.ref 0, .int a2] x) fun v2 x1 =>
  
  if v2 = 0 then some (some (.int (0 : Int32)), x1)
  else mj_rI (kX1 d 31 [.ref 0, .int a3] x1) fun v4 x3 =>
   
   if v4 = 0 then some (some (.int (0 : Int32)), x3)
   else some (some (.int (1 : Int32)), x3) := (mj_run_to (cd := cdX1) (rt := 5) (tab := tX1_isLeft) (cal := kX1 d) zX1_isLeft 34 (132, [some (.ref 0), some (.int a1), some (.int a2), some (.int a3), none, none, none, none], [], x)).trans rfl
set_option maxRecDepth 100000 in
set_option maxHeartbeats 4000000 in
theorem bX1_isLeft_154 (d : Nat) (a1 : Int32) (a2 : Int32) (a3 : Int32) (x : mj_X) : rX1_isLeft d (154, [some (.ref 0), some (.int a1), some (.int a2), some (.int a3), none, none, none, none], [], x) = mj_rI (kX1 d 31 [.ref 0, .int a2] x) fun v2 x1 =>
  mj_gb v2 (some (some (.int v2), x1)) := (mj_run_to (cd := cdX1) (rt := 5) (tab := tX1_isLeft) (cal := kX1 d) zX1_isLeft 34 (154, [some (.ref 0), some (.int a1), some (.int a2), some (.int a3), none, none, none, none], [], x)).trans rfl
set_option maxRecDepth 100000 in
set_option maxHeartbeats 4000000 in
theorem bX1_isLeft_160 (d : Nat) (a1 : Int32) (a2 : Int32) (a3 : Int32) (x : mj_X) : rX1_isLeft d (160, [some (.ref 0), some (.int a1), some (.int a2), some (.int a3), none, none, none, none], [], x) = mj_rI (kX1 d 31 [.ref 0, .int a3] x) fun v2 x1 =>
  mj_gb v2 (some (some (.int v2), x1)) := (mj_run_to (cd := cdX1) (rt := 5) (tab := tX1_isLeft) (cal := kX1 d) zX1_isLeft 34 (160, [some (.ref 0), some (.int a1), some (.int a2), some (.int a3), none, none, none, none], [], x)).trans rfl
set_option maxRecDepth 100000 in
set_option maxHeartbeats 4000000 in
theorem bX1_isLeft_166 (d : Nat) (a1 : Int32) (a2 : Int32) (a3 : Int32) (x : mj_X) : rX1_isLeft d (166, [some (.ref 0), some (.int a1), some (.int a2), some (.int a3), none, none, none, none], [], x) = mj_g a3 4000 (mj_rI (kX1 d 31 [.ref 0, .int (x.1 3 a3.toNatClampNeg)] x) fun v2 x1 =>
  
  if v2 = 0 then some (some (.int (0 : Int32)), x1)
  else mj_g a3 4000 (mj_rI (kX1 d 31 [.ref 0, .int (x1.1 4 a3.toNatClampNeg)] x1) fun v4 x3 =>
   
   if v4 = 0 then some (some (.int (0 : Int32)), x3)
   else some (some (.int (1 : Int32)), x3))) := (mj_run_to (cd := cdX1) (rt := 5) (tab := tX1_isLeft) (cal := kX1 d) zX1_isLeft 34 (166, [some (.ref 0), some (.int a1), some (.int a2), some (.int a3), none, none, none, none], [], x)).trans rfl
set_option maxRecDepth 100000 in
set_option maxHeartbeats 4000000 in
theorem bX1_isLeft_198 (d : Nat) (a1 : Int32) (a2 : Int32) (a3 : Int32) (x : mj_X) : rX1_isLeft d (198, [some (.ref 0), some (.int a1), some (.int a2), some (.int a3), none, none, none, none], [], x) = mj_rI (kX1 d 32 [.ref 0, .int a3, .int (1 : Int32)] x) fun v2 x1 =>
  mj_gb v2 (some (some (.int v2), x1)) := (mj_run_to (cd := cdX1) (rt := 5) (tab := tX1_isLeft) (cal := kX1 d) zX1_isLeft 34 (198, [some (.ref 0), some (.int a1), some (.int a2), some (.int a3), none, none, none, none], [], x)).trans rfl
set_option maxRecDepth 100000 in
set_option maxHeartbeats 4000000 in
theorem bX1_isLeft_205 (d : Nat) (a1 : Int32) (a2 : Int32) (a3 : Int32) (x : mj_X) : rX1_isLeft d (205, [some (.ref 0), some (.int a1), some (.int a2), some (.int a3), none, none, none, none], [], x) = mj_rI (kX1 d 32 [.ref 0, .int a2, .int (1 : Int32)] x) fun v2 x1 =>
  mj_gb v2 (some (some (.int v2), x1)) := (mj_run_to (cd := cdX1) (rt := 5) (tab := tX1_isLeft) (cal := kX1 d) zX1_isLeft 34 (205, [some (.ref 0), some (.int a1), some (.int a2), some (.int a3), none, none, none, none], [], x)).trans rfl
set_option maxRecDepth 100000 in
set_option maxHeartbeats 4000000 in
theorem bX1_isLeft_212 (d : Nat) (a1 : Int32) (a2 : Int32) (a3 : Int32) (x : mj_X) : rX1_isLeft d (212, [some (.ref 0), some (.int a1), some (.int a2), some (.int a3), none, none, none, none], [], x) = mj_g a2 4000 (mj_rI (kX1 d 31 [.ref 0, .int (x.1 4 a2.toNatClampNeg)] x) fun v2 x1 =>
  
  if v2 = 0 then some (some (.int (0 : Int32)), x1)
  else mj_rI (kX1 d 32 [.ref 0, .int a3, .int (1 : Int32)] x1) fun v4 x3 =>
   
   if v4 = 0 then some (some (.int (0 : Int32)), x3)
   else some (some (.int (1 : Int32)), x3)) := (mj_run_to (cd := cdX1) (rt := 5) (tab := tX1_isLeft) (cal := kX1 d) zX1_isLeft 34 (212, [some (.ref 0), some (.int a1), some (.int a2), some (.int a3), none, none, none, none], [], x)).trans rfl
set_option maxRecDepth 100000 in
set_option maxHeartbeats 4000000 in
theorem bX1_isLeft_240 (d : Nat) (a1 : Int32) (a2 : Int32) (a3 : Int32) (x : mj_X) : rX1_isLeft d (240, [some (.ref 0), some (.int a1), some (.int a2), some (.int a3), none, none, none, none], [], x) = 
  if (x.1 0 29) ≤ a2 then some (some (.int (0 : Int32)), x)
  else some (some (.int (1 : Int32)), x) := (mj_run_to (cd := cdX1) (rt := 5) (tab := tX1_isLeft) (cal := kX1 d) zX1_isLeft 34 (240, [some (.ref 0), some (.int a1), some (.int a2), some (.int a3), none, none, none, none], [], x)).trans rfl
set_option maxRecDepth 100000 in
set_option maxHeartbeats 4000000 in
theorem bX1_isLeft_254 (d : Nat) (a1 : Int32) (a2 : Int32) (a3 : Int32) (x : mj_X) : rX1_isLeft d (254, [some (.ref 0), some (.int a1), some (.int a2), some (.int a3), none, none, none, none], [], x) = rX1_isLeft d (260, [some (.ref 0), some (.int a1), some (.int a2), some (.int a3), some (.int (0 : Int32)), some (.int (0 : Int32)), none, none], [], x) := (mj_run_to (cd := cdX1) (rt := 5) (tab := tX1_isLeft) (cal := kX1 d) zX1_isLeft 34 (254, [some (.ref 0), some (.int a1), some (.int a2), some (.int a3), none, none, none, none], [], x)).trans rfl
set_option maxRecDepth 100000 in
set_option maxHeartbeats 4000000 in
theorem bX1_isLeft_260 (d : Nat) (a1 : Int32) (a2 : Int32) (a3 : Int32) (a4 : Int32) (a5 : Int32) (x : mj_X) : rX1_isLeft d (260, [some (.ref 0), some (.int a1), some (.int a2), some (.int a3), some (.int a4), some (.int a5), none, none], [], x) = 
  if (x.1 0 29) ≤ a5 then 
   if a4 ≤ a2 then some (some (.int (0 : Int32)), x)
   else some (some (.int (1 : Int32)), x)
  else mj_g a5 50 (rX1_isLeft d (260, [some (.ref 0), some (.int a1), some (.int a2), some (.int a3), some (.int (a4 + (x.1 29 a5.toNatClampNeg))), some (.int (a5 + (1 : Int32))), none, none], [], x)) := (mj_run_to (cd := cdX1) (rt := 5) (tab := tX1_isLeft) (cal := kX1 d) zX1_isLeft 34 (260, [some (.ref 0), some (.int a1), some (.int a2), some (.int a3), some (.int a4), some (.int a5), none, none], [], x)).trans rfl
set_option maxRecDepth 100000 in
set_option maxHeartbeats 4000000 in
theorem bX1_isLeft_299 (d : Nat) (a1 : Int32) (a2 : Int32) (a3 : Int32) (x : mj_X) : rX1_isLeft d (299, [some (.ref 0), some (.int a1), some (.int a2), some (.int a3), none, none, none, none], [], x) = 
  if a2 = (-1 : Int32) then 
   if (x.1 0 30) = 0 then some (some (.int (1 : Int32)), x)
   else some (some (.int (0 : Int32)), x)
  else mj_g a2 4000 (
   if (x.1 5 a2.toNatClampNeg) = (x.1 0 30) then some (some (.int (1 : Int32)), x)
   else some (some (.int (0 : Int32)), x)) := (mj_run_to (cd := cdX1) (rt := 5) (tab := tX1_isLeft) (cal := kX1 d) zX1_isLeft 34 (299, [some (.ref 0), some (.int a1), some (.int a2), some (.int a3), none, none, none, none], [], x)).trans rfl
set_option maxRecDepth 100000 in
set_option maxHeartbeats 4000000 in
theorem bX1_isLeft_338 (d : Nat) (a1 : Int32) (a2 : Int32) (a3 : Int32) (x : mj_X) : rX1_isLeft d (338, [some (.ref 0), some (.int a1), some (.int a2), some (.int a3), none, none, none, none], [], x) = mj_rI (kX1 d 31 [.ref 0, .int a2] x) fun v2 x1 =>
  rX1_isLeft d (348, [some (.ref 0), some (.int a1), some (.int a2), some (.int a3), none, some (.int v2), some (.int a3), none], [], x1) := (mj_run_to (cd := cdX1) (rt := 5) (tab := tX1_isLeft) (cal := kX1 d) zX1_isLeft 34 (338, [some (.ref 0), some (.int a1), some (.int a2), some (.int a3), none, none, none, none], [], x)).trans rfl
set_option maxRecDepth 100000 in
set_option maxHeartbeats 4000000 in
theorem bX1_isLeft_348 (d : Nat) (a1 : Int32) (a2 : Int32) (a3 : Int32) (a5 : Int32) (a6 : Int32) (o7 : Option Value) (x : mj_X) : rX1_isLeft d (348, [some (.ref 0), some (.int a1), some (.int a2), some (.int a3), none, some (.int a5), some (.int a6), o7], [], x) = 
  if a6 = (-1 : Int32) then mj_gb a5 (some (some (.int a5), x))
  else 
   if a5 = 0 then mj_gb a5 (some (some (.int a5), x))
   else mj_g a6 4000 (mj_g (x.1 3 a6.toNatClampNeg) 4000 (
    if (x.1 2 (x.1 3 a6.toNatClampNeg).toNatClampNeg) = (78 : Int32) then mj_g a6 4000 (mj_g (x.1 3 a6.toNatClampNeg) 4000 (rX1_isLeft d (398, [some (.ref 0), some (.int a1), some (.int a2), some (.int a3), none, some (.int a5), some (.int a6), o7], [.int (x.1 4 (x.1 3 a6.toNatClampNeg).toNatClampNeg)], x)))
    else mj_g a6 4000 (rX1_isLeft d (398, [some (.ref 0), some (.int a1), some (.int a2), some (.int a3), none, some (.int a5), some (.int a6), o7], [.int (x.1 3 a6.toNatClampNeg)], x)))) := (mj_run_to (cd := cdX1) (rt := 5) (tab := tX1_isLeft) (cal := kX1 d) zX1_isLeft 34 (348, [some (.ref 0), some (.int a1), some (.int a2), some (.int a3), none, some (.int a5), some (.int a6), o7], [], x)).trans rfl
set_option maxRecDepth 100000 in
set_option maxHeartbeats 4000000 in
theorem bX1_isLeft_398 (d : Nat) (a1 : Int32) (a2 : Int32) (a3 : Int32) (a5 : Int32) (a6 : Int32) (o7 : Option Value) (s0 : Int32) (x : mj_X) : rX1_isLeft d (398, [some (.ref 0), some (.int a1), some (.int a2), some (.int a3), none, some (.int a5), some (.int a6), o7], [.int s0], x) = mj_g s0 4000 (mj_rI (kX1 d 31 [.ref 0, .int (x.1 4 s0.toNatClampNeg)] x) fun v2 x1 =>
  mj_g a6 4000 (rX1_isLeft d (348, [some (.ref 0), some (.int a1), some (.int a2), some (.int a3), none, some (.int v2), some (.int (x1.1 4 a6.toNatClampNeg)), some (.int s0)], [], x1))) := (mj_run_to (cd := cdX1) (rt := 5) (tab := tX1_isLeft) (cal := kX1 d) zX1_isLeft 34 (398, [some (.ref 0), some (.int a1), some (.int a2), some (.int a3), none, some (.int a5), some (.int a6), o7], [.int s0], x)).trans rfl
set_option maxRecDepth 100000 in
set_option maxHeartbeats 4000000 in
theorem bX1_isLeft_428 (d : Nat) (a1 : Int32) (a2 : Int32) (a3 : Int32) (x : mj_X) : rX1_isLeft d (428, [some (.ref 0), some (.int a1), some (.int a2), some (.int a3), none, none, none, none], [], x) = rX1_isLeft d (434, [some (.ref 0), some (.int a1), some (.int a2), some (.int a3), none, none, some (.int (1 : Int32)), some (.int a3)], [], x) := (mj_run_to (cd := cdX1) (rt := 5) (tab := tX1_isLeft) (cal := kX1 d) zX1_isLeft 34 (428, [some (.ref 0), some (.int a1), some (.int a2), some (.int a3), none, none, none, none], [], x)).trans rfl
set_option maxRecDepth 100000 in
set_option maxHeartbeats 4000000 in
theorem bX1_isLeft_434 (d : Nat) (a1 : Int32) (a2 : Int32) (a3 : Int32) (a6 : Int32) (a7 : Int32) (x : mj_X) : rX1_isLeft d (434, [some (.ref 0), some (.int a1), some (.int a2), some (.int a3), none, none, some (.int a6), some (.int a7)], [], x) = 
  if a7 = (-1 : Int32) then mj_gb a6 (some (some (.int a6), x))
  else 
   if a6 = 0 then mj_gb a6 (some (some (.int a6), x))
   else mj_g a7 4000 (mj_g (x.1 3 a7.toNatClampNeg) 4000 (mj_rI (kX1 d 32 [.ref 0, .int (x.1 4 (x.1 3 a7.toNatClampNeg).toNatClampNeg), .int (0 : Int32)] x) fun v2 x1 =>
    mj_g a7 4000 (rX1_isLeft d (434, [some (.ref 0), some (.int a1), some (.int a2), some (.int a3), none, none, some (.int v2), some (.int (x1.1 4 a7.toNatClampNeg))], [], x1)))) := (mj_run_to (cd := cdX1) (rt := 5) (tab := tX1_isLeft) (cal := kX1 d) zX1_isLeft 34 (434, [some (.ref 0), some (.int a1), some (.int a2), some (.int a3), none, none, some (.int a6), some (.int a7)], [], x)).trans rfl
set_option maxRecDepth 100000 in
set_option maxHeartbeats 4000000 in
theorem bX1_isLeft_479 (d : Nat) (a1 : Int32) (a2 : Int32) (a3 : Int32) (x : mj_X) : rX1_isLeft d (479, [some (.ref 0), some (.int a1), some (.int a2), some (.int a3), none, none, none, none], [], x) = some (some (.int (1 : Int32)), x) := (mj_run_to (cd := cdX1) (rt := 5) (tab := tX1_isLeft) (cal := kX1 d) zX1_isLeft 34 (479, [some (.ref 0), some (.int a1), some (.int a2), some (.int a3), none, none, none, none], [], x)).trans rfl
noncomputable abbrev rX1_isIn (d : Nat) : mj_S → mj_R := mj_run cdX1 5 tX1_isIn (kX1 d)
def zX1_isIn (p : Nat) : Bool := false
set_option maxRecDepth 100000 in
set_option maxHeartbeats 4000000 in
theorem eX1_isIn (d : Nat) (a1 : Int32) (a2 : Int32) (x : mj_X) : kX1 (d + 1) 32 [.ref 0, .int a1, .int a2] x = mj_g (x.1 0 29) 50 (mj_rI (kX1 d 31 [.ref 0, .int a1] (mj_wI (mj_wI x 29 (x.1 0 29).toNatClampNeg a2) 0 29 ((x.1 0 29) + (1 : Int32)))) fun v2 x1 =>
  mj_gb v2 (some (some (.int v2), (mj_wI x1 0 29 ((x1.1 0 29) - (1 : Int32)))))) := (mj_run_to (cd := cdX1) (rt := 5) (tab := tX1_isIn) (cal := kX1 d) zX1_isIn 26 (0, [some (.ref 0), some (.int a1), some (.int a2), none], [], x)).trans rfl
noncomputable abbrev rX1_isMember (d : Nat) : mj_S → mj_R := mj_run cdX1 5 tX1_isMember (kX1 d)
def zX1_isMember (p : Nat) : Bool := false
set_option maxRecDepth 100000 in
set_option maxHeartbeats 4000000 in
theorem eX1_isMember (d : Nat) (a1 : Int32) (x : mj_X) : kX1 (d + 1) 101 [.ref 0, .int a1] x = 
  if a1 < 0 then some (some (.int (0 : Int32)), x)
  else 
   if (x.1 0 7) ≤ a1 then some (some (.int (0 : Int32)), x)
   else some (some (.int (1 : Int32)), x) := (mj_run_to (cd := cdX1) (rt := 5) (tab := tX1_isMember) (cal := kX1 d) zX1_isMember 15 (0, [some (.ref 0), some (.int a1)], [], x)).trans rfl
