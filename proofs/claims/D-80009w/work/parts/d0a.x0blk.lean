noncomputable abbrev rX0_force (d : Nat) : mj_S → mj_R := mj_run cdX0 0 tX0_force (kX0 d)
def zX0_force (p : Nat) : Bool := false
set_option maxRecDepth 100000 in
set_option maxHeartbeats 4000000 in
theorem eX0_force (d : Nat) (a1 : Int32) (x : mj_X) : kX0 (d + 1) 25 [.ref 0, .int a1] x = mj_g a1 4000 (mj_g (x.1 0 26) 4000 (some (none, (mj_wI (mj_wI (mj_wI x 25 a1.toNatClampNeg (1 : Int32)) 0 26 ((x.1 0 26) + (1 : Int32))) 26 (x.1 0 26).toNatClampNeg a1)))) := (mj_run_to (cd := cdX0) (rt := 0) (tab := tX0_force) (cal := kX0 d) zX0_force 19 (0, [some (.ref 0), some (.int a1)], [], x)).trans rfl
noncomputable abbrev rX0_placesOf (d : Nat) : mj_S → mj_R := mj_run cdX0 1 tX0_placesOf (kX0 d)
def zX0_placesOf (p : Nat) : Bool := false
set_option maxRecDepth 100000 in
set_option maxHeartbeats 4000000 in
theorem eX0_placesOf (d : Nat) (a0 : Int32) (x : mj_X) : kX0 (d + 1) 26 [.int a0] x = 
  if a0 = 0 then some (some (.int (0 : Int32)), x)
  else mj_rI (kX0 d 27 [.int a0] x) fun v2 x1 =>
   
   if v2 = 0 then some (some (.int (1 : Int32)), x1)
   else some (some (.int (2 : Int32)), x1) := (mj_run_to (cd := cdX0) (rt := 1) (tab := tX0_placesOf) (cal := kX0 d) zX0_placesOf 15 (0, [some (.int a0)], [], x)).trans rfl
noncomputable abbrev rX0_isWide (d : Nat) : mj_S → mj_R := mj_run cdX0 5 tX0_isWide (kX0 d)
def zX0_isWide (p : Nat) : Bool := false
set_option maxRecDepth 100000 in
set_option maxHeartbeats 4000000 in
theorem eX0_isWide (d : Nat) (a0 : Int32) (x : mj_X) : kX0 (d + 1) 27 [.int a0] x = 
  if a0 = (2 : Int32) then some (some (.int (1 : Int32)), x)
  else 
   if a0 = (4 : Int32) then some (some (.int (1 : Int32)), x)
   else some (some (.int (0 : Int32)), x) := (mj_run_to (cd := cdX0) (rt := 5) (tab := tX0_isWide) (cal := kX0 d) zX0_isWide 16 (0, [some (.int a0)], [], x)).trans rfl
noncomputable abbrev rX0_isScoped (d : Nat) : mj_S → mj_R := mj_run cdX0 5 tX0_isScoped (kX0 d)
def zX0_isScoped (p : Nat) : Bool := bif Nat.blt p 490 then (bif Nat.blt p 433 then (bif Nat.blt p 385 then (bif Nat.blt p 378 then (bif Nat.beq p 376 then true else false) else (bif Nat.beq p 378 then true else false)) else (bif Nat.blt p 408 then (bif Nat.beq p 385 then true else false) else (bif Nat.blt p 414 then (bif Nat.beq p 408 then true else false) else (bif Nat.beq p 414 then true else false)))) else (bif Nat.blt p 456 then (bif Nat.blt p 439 then (bif Nat.beq p 433 then true else false) else (bif Nat.beq p 439 then true else false)) else (bif Nat.blt p 478 then (bif Nat.beq p 456 then true else false) else (bif Nat.blt p 484 then (bif Nat.beq p 478 then true else false) else (bif Nat.beq p 484 then true else false))))) else (bif Nat.blt p 580 then (bif Nat.blt p 534 then (bif Nat.blt p 512 then (bif Nat.beq p 490 then true else false) else (bif Nat.beq p 512 then true else false)) else (bif Nat.blt p 556 then (bif Nat.beq p 534 then true else false) else (bif Nat.blt p 578 then (bif Nat.beq p 556 then true else false) else (bif Nat.beq p 578 then true else false)))) else (bif Nat.blt p 648 then (bif Nat.blt p 599 then (bif Nat.beq p 580 then true else false) else (bif Nat.blt p 621 then (bif Nat.beq p 599 then true else false) else (bif Nat.beq p 621 then true else false))) else (bif Nat.blt p 654 then (bif Nat.beq p 648 then true else false) else (bif Nat.blt p 681 then (bif Nat.beq p 654 then true else false) else (bif Nat.beq p 681 then true else false)))))
set_option maxRecDepth 100000 in
set_option maxHeartbeats 4000000 in
theorem eX0_isScoped (d : Nat) (a1 : Int32) (x : mj_X) : kX0 (d + 1) 28 [.ref 0, .int a1] x = mj_g a1 4000 (mj_g a1 4000 (mj_g a1 4000 (mj_sw (x.1 1 a1.toNatClampNeg) 1 (661) [356, 356, 356, 356, 661, 358, 365, 661, 661, 661, 661, 661, 661, 661, 661, 661, 661, 661, 661, 661, 661, 388, 661, 661, 661, 661, 661, 661, 661, 661, 661, 661, 661, 413, 661, 661, 661, 661, 661, 661, 661, 661, 661, 661, 661, 388, 661, 394, 661, 661, 356, 661, 661, 661, 661, 661, 661, 661, 661, 661, 419, 436, 464, 470, 661, 492, 470, 514, 536, 470, 558, 558, 560, 661, 579, 601, 628, 634, 492, 470, 661, 601, 628, 628, 458] fun off => mj_j 20 off fun t => rX0_isScoped d (t, [some (.ref 0), some (.int a1), some (.int (x.1 2 a1.toNatClampNeg)), some (.int (x.1 3 a1.toNatClampNeg)), none, none], [], x)))) := (mj_run_to (cd := cdX0) (rt := 5) (tab := tX0_isScoped) (cal := kX0 d) zX0_isScoped 38 (0, [some (.ref 0), some (.int a1), none, none, none, none], [], x)).trans rfl
set_option maxRecDepth 100000 in
set_option maxHeartbeats 4000000 in
theorem bX0_isScoped_376 (d : Nat) (a1 : Int32) (a2 : Int32) (a3 : Int32) (x : mj_X) : rX0_isScoped d (376, [some (.ref 0), some (.int a1), some (.int a2), some (.int a3), none, none], [], x) = some (some (.int (1 : Int32)), x) := (mj_run_to (cd := cdX0) (rt := 5) (tab := tX0_isScoped) (cal := kX0 d) zX0_isScoped 38 (376, [some (.ref 0), some (.int a1), some (.int a2), some (.int a3), none, none], [], x)).trans rfl
set_option maxRecDepth 100000 in
set_option maxHeartbeats 4000000 in
theorem bX0_isScoped_378 (d : Nat) (a1 : Int32) (a2 : Int32) (a3 : Int32) (x : mj_X) : rX0_isScoped d (378, [some (.ref 0), some (.int a1), some (.int a2), some (.int a3), none, none], [], x) = mj_g a2 4000 (mj_gb (x.1 25 a2.toNatClampNeg) (some (some (.int (x.1 25 a2.toNatClampNeg)), x))) := (mj_run_to (cd := cdX0) (rt := 5) (tab := tX0_isScoped) (cal := kX0 d) zX0_isScoped 38 (378, [some (.ref 0), some (.int a1), some (.int a2), some (.int a3), none, none], [], x)).trans rfl
set_option maxRecDepth 100000 in
set_option maxHeartbeats 4000000 in
theorem bX0_isScoped_385 (d : Nat) (a1 : Int32) (a2 : Int32) (a3 : Int32) (x : mj_X) : rX0_isScoped d (385, [some (.ref 0), some (.int a1), some (.int a2), some (.int a3), none, none], [], x) = mj_g a2 4000 (
  if (x.1 25 a2.toNatClampNeg) = 0 then some (some (.int (0 : Int32)), x)
  else mj_rI (kX0 d 28 [.ref 0, .int a3] x) fun v2 x1 =>
   
   if v2 = 0 then some (some (.int (0 : Int32)), x1)
   else some (some (.int (1 : Int32)), x1)) := (mj_run_to (cd := cdX0) (rt := 5) (tab := tX0_isScoped) (cal := kX0 d) zX0_isScoped 38 (385, [some (.ref 0), some (.int a1), some (.int a2), some (.int a3), none, none], [], x)).trans rfl
set_option maxRecDepth 100000 in
set_option maxHeartbeats 4000000 in
theorem bX0_isScoped_408 (d : Nat) (a1 : Int32) (a2 : Int32) (a3 : Int32) (x : mj_X) : rX0_isScoped d (408, [some (.ref 0), some (.int a1), some (.int a2), some (.int a3), none, none], [], x) = mj_rI (kX0 d 28 [.ref 0, .int a3] x) fun v2 x1 =>
  mj_gb v2 (some (some (.int v2), x1)) := (mj_run_to (cd := cdX0) (rt := 5) (tab := tX0_isScoped) (cal := kX0 d) zX0_isScoped 38 (408, [some (.ref 0), some (.int a1), some (.int a2), some (.int a3), none, none], [], x)).trans rfl
set_option maxRecDepth 100000 in
set_option maxHeartbeats 4000000 in
theorem bX0_isScoped_414 (d : Nat) (a1 : Int32) (a2 : Int32) (a3 : Int32) (x : mj_X) : rX0_isScoped d (414, [some (.ref 0), some (.int a1), some (.int a2), some (.int a3), none, none], [], x) = 
  if a3 = (-1 : Int32) then some (some (.int (1 : Int32)), x)
  else mj_rI (kX0 d 28 [.ref 0, .int a3] x) fun v2 x1 =>
   
   if v2 = 0 then some (some (.int (0 : Int32)), x1)
   else some (some (.int (1 : Int32)), x1) := (mj_run_to (cd := cdX0) (rt := 5) (tab := tX0_isScoped) (cal := kX0 d) zX0_isScoped 38 (414, [some (.ref 0), some (.int a1), some (.int a2), some (.int a3), none, none], [], x)).trans rfl
set_option maxRecDepth 100000 in
set_option maxHeartbeats 4000000 in
theorem bX0_isScoped_433 (d : Nat) (a1 : Int32) (a2 : Int32) (a3 : Int32) (x : mj_X) : rX0_isScoped d (433, [some (.ref 0), some (.int a1), some (.int a2), some (.int a3), none, none], [], x) = mj_rI (kX0 d 28 [.ref 0, .int a2] x) fun v2 x1 =>
  mj_gb v2 (some (some (.int v2), x1)) := (mj_run_to (cd := cdX0) (rt := 5) (tab := tX0_isScoped) (cal := kX0 d) zX0_isScoped 38 (433, [some (.ref 0), some (.int a1), some (.int a2), some (.int a3), none, none], [], x)).trans rfl
set_option maxRecDepth 100000 in
set_option maxHeartbeats 4000000 in
theorem bX0_isScoped_439 (d : Nat) (a1 : Int32) (a2 : Int32) (a3 : Int32) (x : mj_X) : rX0_isScoped d (439, [some (.ref 0), some (.int a1), some (.int a2), some (.int a3), none, none], [], x) = mj_rI (kX0 d 28 [.ref 0, .int a3] x) fun v2 x1 =>
  
  if v2 = 0 then some (some (.int (0 : Int32)), x1)
  else mj_rV (kX0 d 25 [.ref 0, .int a2] x1) fun x3 =>
   some (some (.int (1 : Int32)), x3) := (mj_run_to (cd := cdX0) (rt := 5) (tab := tX0_isScoped) (cal := kX0 d) zX0_isScoped 38 (439, [some (.ref 0), some (.int a1), some (.int a2), some (.int a3), none, none], [], x)).trans rfl
set_option maxRecDepth 100000 in
set_option maxHeartbeats 4000000 in
theorem bX0_isScoped_456 (d : Nat) (a1 : Int32) (a2 : Int32) (a3 : Int32) (x : mj_X) : rX0_isScoped d (456, [some (.ref 0), some (.int a1), some (.int a2), some (.int a3), none, none], [], x) = mj_rI (kX0 d 28 [.ref 0, .int a2] x) fun v2 x1 =>
  
  if v2 = 0 then some (some (.int (0 : Int32)), x1)
  else mj_rI (kX0 d 28 [.ref 0, .int a3] x1) fun v4 x3 =>
   
   if v4 = 0 then some (some (.int (0 : Int32)), x3)
   else some (some (.int (1 : Int32)), x3) := (mj_run_to (cd := cdX0) (rt := 5) (tab := tX0_isScoped) (cal := kX0 d) zX0_isScoped 38 (456, [some (.ref 0), some (.int a1), some (.int a2), some (.int a3), none, none], [], x)).trans rfl
set_option maxRecDepth 100000 in
set_option maxHeartbeats 4000000 in
theorem bX0_isScoped_478 (d : Nat) (a1 : Int32) (a2 : Int32) (a3 : Int32) (x : mj_X) : rX0_isScoped d (478, [some (.ref 0), some (.int a1), some (.int a2), some (.int a3), none, none], [], x) = mj_rI (kX0 d 28 [.ref 0, .int a3] x) fun v2 x1 =>
  mj_gb v2 (some (some (.int v2), x1)) := (mj_run_to (cd := cdX0) (rt := 5) (tab := tX0_isScoped) (cal := kX0 d) zX0_isScoped 38 (478, [some (.ref 0), some (.int a1), some (.int a2), some (.int a3), none, none], [], x)).trans rfl
set_option maxRecDepth 100000 in
set_option maxHeartbeats 4000000 in
theorem bX0_isScoped_484 (d : Nat) (a1 : Int32) (a2 : Int32) (a3 : Int32) (x : mj_X) : rX0_isScoped d (484, [some (.ref 0), some (.int a1), some (.int a2), some (.int a3), none, none], [], x) = mj_rI (kX0 d 29 [.ref 0, .int a2] x) fun v2 x1 =>
  mj_gb v2 (some (some (.int v2), x1)) := (mj_run_to (cd := cdX0) (rt := 5) (tab := tX0_isScoped) (cal := kX0 d) zX0_isScoped 38 (484, [some (.ref 0), some (.int a1), some (.int a2), some (.int a3), none, none], [], x)).trans rfl
set_option maxRecDepth 100000 in
set_option maxHeartbeats 4000000 in
theorem bX0_isScoped_490 (d : Nat) (a1 : Int32) (a2 : Int32) (a3 : Int32) (x : mj_X) : rX0_isScoped d (490, [some (.ref 0), some (.int a1), some (.int a2), some (.int a3), none, none], [], x) = mj_rI (kX0 d 28 [.ref 0, .int a2] x) fun v2 x1 =>
  
  if v2 = 0 then some (some (.int (0 : Int32)), x1)
  else mj_rI (kX0 d 29 [.ref 0, .int a3] x1) fun v4 x3 =>
   
   if v4 = 0 then some (some (.int (0 : Int32)), x3)
   else some (some (.int (1 : Int32)), x3) := (mj_run_to (cd := cdX0) (rt := 5) (tab := tX0_isScoped) (cal := kX0 d) zX0_isScoped 38 (490, [some (.ref 0), some (.int a1), some (.int a2), some (.int a3), none, none], [], x)).trans rfl
set_option maxRecDepth 100000 in
set_option maxHeartbeats 4000000 in
theorem bX0_isScoped_512 (d : Nat) (a1 : Int32) (a2 : Int32) (a3 : Int32) (x : mj_X) : rX0_isScoped d (512, [some (.ref 0), some (.int a1), some (.int a2), some (.int a3), none, none], [], x) = mj_rI (kX0 d 29 [.ref 0, .int a2] x) fun v2 x1 =>
  
  if v2 = 0 then some (some (.int (0 : Int32)), x1)
  else mj_rI (kX0 d 29 [.ref 0, .int a3] x1) fun v4 x3 =>
   
   if v4 = 0 then some (some (.int (0 : Int32)), x3)
   else some (some (.int (1 : Int32)), x3) := (mj_run_to (cd := cdX0) (rt := 5) (tab := tX0_isScoped) (cal := kX0 d) zX0_isScoped 38 (512, [some (.ref 0), some (.int a1), some (.int a2), some (.int a3), none, none], [], x)).trans rfl
set_option maxRecDepth 100000 in
set_option maxHeartbeats 4000000 in
theorem bX0_isScoped_534 (d : Nat) (a1 : Int32) (a2 : Int32) (a3 : Int32) (x : mj_X) : rX0_isScoped d (534, [some (.ref 0), some (.int a1), some (.int a2), some (.int a3), none, none], [], x) = mj_rI (kX0 d 29 [.ref 0, .int a2] x) fun v2 x1 =>
  
  if v2 = 0 then some (some (.int (0 : Int32)), x1)
  else mj_rI (kX0 d 28 [.ref 0, .int a3] x1) fun v4 x3 =>
   
   if v4 = 0 then some (some (.int (0 : Int32)), x3)
   else some (some (.int (1 : Int32)), x3) := (mj_run_to (cd := cdX0) (rt := 5) (tab := tX0_isScoped) (cal := kX0 d) zX0_isScoped 38 (534, [some (.ref 0), some (.int a1), some (.int a2), some (.int a3), none, none], [], x)).trans rfl
set_option maxRecDepth 100000 in
set_option maxHeartbeats 4000000 in
theorem bX0_isScoped_556 (d : Nat) (a1 : Int32) (a2 : Int32) (a3 : Int32) (x : mj_X) : rX0_isScoped d (556, [some (.ref 0), some (.int a1), some (.int a2), some (.int a3), none, none], [], x) = mj_rI (kX0 d 28 [.ref 0, .int a2] x) fun v2 x1 =>
  
  if v2 = 0 then some (some (.int (0 : Int32)), x1)
  else mj_rI (kX0 d 29 [.ref 0, .int a3] x1) fun v4 x3 =>
   
   if v4 = 0 then some (some (.int (0 : Int32)), x3)
   else some (some (.int (1 : Int32)), x3) := (mj_run_to (cd := cdX0) (rt := 5) (tab := tX0_isScoped) (cal := kX0 d) zX0_isScoped 38 (556, [some (.ref 0), some (.int a1), some (.int a2), some (.int a3), none, none], [], x)).trans rfl
set_option maxRecDepth 100000 in
set_option maxHeartbeats 4000000 in
theorem bX0_isScoped_578 (d : Nat) (a1 : Int32) (a2 : Int32) (a3 : Int32) (x : mj_X) : rX0_isScoped d (578, [some (.ref 0), some (.int a1), some (.int a2), some (.int a3), none, none], [], x) = some (some (.int (1 : Int32)), x) := (mj_run_to (cd := cdX0) (rt := 5) (tab := tX0_isScoped) (cal := kX0 d) zX0_isScoped 38 (578, [some (.ref 0), some (.int a1), some (.int a2), some (.int a3), none, none], [], x)).trans rfl
set_option maxRecDepth 100000 in
set_option maxHeartbeats 4000000 in
theorem bX0_isScoped_580 (d : Nat) (a1 : Int32) (a2 : Int32) (a3 : Int32) (x : mj_X) : rX0_isScoped d (580, [some (.ref 0), some (.int a1), some (.int a2), some (.int a3), none, none], [], x) = 
  if a2 = (-1 : Int32) then some (some (.int (1 : Int32)), x)
  else mj_rI (kX0 d 28 [.ref 0, .int a2] x) fun v2 x1 =>
   
   if v2 = 0 then some (some (.int (0 : Int32)), x1)
   else some (some (.int (1 : Int32)), x1) := (mj_run_to (cd := cdX0) (rt := 5) (tab := tX0_isScoped) (cal := kX0 d) zX0_isScoped 38 (580, [some (.ref 0), some (.int a1), some (.int a2), some (.int a3), none, none], [], x)).trans rfl
set_option maxRecDepth 100000 in
set_option maxHeartbeats 4000000 in
theorem bX0_isScoped_599 (d : Nat) (a1 : Int32) (a2 : Int32) (a3 : Int32) (x : mj_X) : rX0_isScoped d (599, [some (.ref 0), some (.int a1), some (.int a2), some (.int a3), none, none], [], x) = mj_rI (kX0 d 29 [.ref 0, .int a2] x) fun v2 x1 =>
  
  if v2 = 0 then some (some (.int (0 : Int32)), x1)
  else mj_rI (kX0 d 28 [.ref 0, .int a3] x1) fun v4 x3 =>
   
   if v4 = 0 then some (some (.int (0 : Int32)), x3)
   else some (some (.int (1 : Int32)), x3) := (mj_run_to (cd := cdX0) (rt := 5) (tab := tX0_isScoped) (cal := kX0 d) zX0_isScoped 38 (599, [some (.ref 0), some (.int a1), some (.int a2), some (.int a3), none, none], [], x)).trans rfl
set_option maxRecDepth 100000 in
set_option maxHeartbeats 4000000 in
theorem bX0_isScoped_621 (d : Nat) (a1 : Int32) (a2 : Int32) (a3 : Int32) (x : mj_X) : rX0_isScoped d (621, [some (.ref 0), some (.int a1), some (.int a2), some (.int a3), none, none], [], x) = mj_rI (kX0 d 28 [.ref 0, .int a2] x) fun v2 x1 =>
  
  if v2 = 0 then some (some (.int (0 : Int32)), x1)
  else 
   if a3 = (-1 : Int32) then some (some (.int (1 : Int32)), x1)
   else mj_rI (kX0 d 28 [.ref 0, .int a3] x1) fun v4 x3 =>
    
    if v4 = 0 then some (some (.int (0 : Int32)), x3)
    else some (some (.int (1 : Int32)), x3) := (mj_run_to (cd := cdX0) (rt := 5) (tab := tX0_isScoped) (cal := kX0 d) zX0_isScoped 38 (621, [some (.ref 0), some (.int a1), some (.int a2), some (.int a3), none, none], [], x)).trans rfl
set_option maxRecDepth 100000 in
set_option maxHeartbeats 4000000 in
theorem bX0_isScoped_648 (d : Nat) (a1 : Int32) (a2 : Int32) (a3 : Int32) (x : mj_X) : rX0_isScoped d (648, [some (.ref 0), some (.int a1), some (.int a2), some (.int a3), none, none], [], x) = mj_rI (kX0 d 29 [.ref 0, .int a3] x) fun v2 x1 =>
  mj_gb v2 (some (some (.int v2), x1)) := (mj_run_to (cd := cdX0) (rt := 5) (tab := tX0_isScoped) (cal := kX0 d) zX0_isScoped 38 (648, [some (.ref 0), some (.int a1), some (.int a2), some (.int a3), none, none], [], x)).trans rfl
set_option maxRecDepth 100000 in
set_option maxHeartbeats 4000000 in
theorem bX0_isScoped_654 (d : Nat) (a1 : Int32) (a2 : Int32) (a3 : Int32) (x : mj_X) : rX0_isScoped d (654, [some (.ref 0), some (.int a1), some (.int a2), some (.int a3), none, none], [], x) = mj_rV (kX0 d 25 [.ref 0, .int a2] x) fun x1 =>
  mj_rI (kX0 d 28 [.ref 0, .int a3] x1) fun v3 x2 =>
  mj_rV (kX0 d 30 [.ref 0, .int (x.1 0 26)] x2) fun x4 =>
  mj_gb v3 (some (some (.int v3), x4)) := (mj_run_to (cd := cdX0) (rt := 5) (tab := tX0_isScoped) (cal := kX0 d) zX0_isScoped 38 (654, [some (.ref 0), some (.int a1), some (.int a2), some (.int a3), none, none], [], x)).trans rfl
set_option maxRecDepth 100000 in
set_option maxHeartbeats 4000000 in
theorem bX0_isScoped_681 (d : Nat) (a1 : Int32) (a2 : Int32) (a3 : Int32) (x : mj_X) : rX0_isScoped d (681, [some (.ref 0), some (.int a1), some (.int a2), some (.int a3), none, none], [], x) = mj_rI (kX0 d 28 [.ref 0, .int a2] x) fun v2 x1 =>
  
  if v2 = 0 then some (some (.int (0 : Int32)), x1)
  else mj_g a1 4000 (mj_rI (kX0 d 22 [.int (x1.1 1 a1.toNatClampNeg)] x1) fun v4 x3 =>
   
   if v4 = 0 then some (some (.int (1 : Int32)), x3)
   else 
    if a3 = (-1 : Int32) then some (some (.int (1 : Int32)), x3)
    else mj_rI (kX0 d 28 [.ref 0, .int a3] x3) fun v6 x5 =>
     
     if v6 = 0 then some (some (.int (0 : Int32)), x5)
     else some (some (.int (1 : Int32)), x5)) := (mj_run_to (cd := cdX0) (rt := 5) (tab := tX0_isScoped) (cal := kX0 d) zX0_isScoped 38 (681, [some (.ref 0), some (.int a1), some (.int a2), some (.int a3), none, none], [], x)).trans rfl
noncomputable abbrev rX0_isScopedAlone (d : Nat) : mj_S → mj_R := mj_run cdX0 5 tX0_isScopedAlone (kX0 d)
def zX0_isScopedAlone (p : Nat) : Bool := false
set_option maxRecDepth 100000 in
set_option maxHeartbeats 4000000 in
theorem eX0_isScopedAlone (d : Nat) (a1 : Int32) (x : mj_X) : kX0 (d + 1) 29 [.ref 0, .int a1] x = mj_rI (kX0 d 28 [.ref 0, .int a1] x) fun v2 x1 =>
  mj_rV (kX0 d 30 [.ref 0, .int (x.1 0 26)] x1) fun x3 =>
  mj_gb v2 (some (some (.int v2), x3)) := (mj_run_to (cd := cdX0) (rt := 5) (tab := tX0_isScopedAlone) (cal := kX0 d) zX0_isScopedAlone 14 (0, [some (.ref 0), some (.int a1), none, none], [], x)).trans rfl
noncomputable abbrev rX0_release (d : Nat) : mj_S → mj_R := mj_run cdX0 0 tX0_release (kX0 d)
def zX0_release (p : Nat) : Bool := bif Nat.beq p 0 then true else false
set_option maxRecDepth 100000 in
set_option maxHeartbeats 4000000 in
theorem eX0_release (d : Nat) (a1 : Int32) (x : mj_X) : kX0 (d + 1) 30 [.ref 0, .int a1] x = rX0_release d (0, [some (.ref 0), some (.int a1)], [], x) := rfl
set_option maxRecDepth 100000 in
set_option maxHeartbeats 4000000 in
theorem bX0_release_0 (d : Nat) (a1 : Int32) (x : mj_X) : rX0_release d (0, [some (.ref 0), some (.int a1)], [], x) = 
  if (x.1 0 26) ≤ a1 then some (none, x)
  else mj_g ((x.1 0 26) - (1 : Int32)) 4000 (mj_g (x.1 26 ((x.1 0 26) - (1 : Int32)).toNatClampNeg) 4000 (rX0_release d (0, [some (.ref 0), some (.int a1)], [], (mj_wI (mj_wI x 0 26 ((x.1 0 26) - (1 : Int32))) 25 (x.1 26 ((x.1 0 26) - (1 : Int32)).toNatClampNeg).toNatClampNeg (0 : Int32))))) := (mj_run_to (cd := cdX0) (rt := 0) (tab := tX0_release) (cal := kX0 d) zX0_release 23 (0, [some (.ref 0), some (.int a1)], [], x)).trans rfl
noncomputable abbrev rX0_isLeft (d : Nat) : mj_S → mj_R := mj_run cdX0 5 tX0_isLeft (kX0 d)
def zX0_isLeft (p : Nat) : Bool := bif Nat.blt p 257 then (bif Nat.blt p 186 then (bif Nat.blt p 164 then (bif Nat.beq p 132 then true else false) else (bif Nat.blt p 175 then (bif Nat.beq p 164 then true else false) else (bif Nat.beq p 175 then true else false))) else (bif Nat.blt p 201 then (bif Nat.beq p 186 then true else false) else (bif Nat.blt p 216 then (bif Nat.beq p 201 then true else false) else (bif Nat.beq p 216 then true else false)))) else (bif Nat.blt p 309 then (bif Nat.blt p 269 then (bif Nat.beq p 257 then true else false) else (bif Nat.blt p 281 then (bif Nat.beq p 269 then true else false) else (bif Nat.beq p 281 then true else false))) else (bif Nat.blt p 379 then (bif Nat.blt p 341 then (bif Nat.beq p 309 then true else false) else (bif Nat.beq p 341 then true else false)) else (bif Nat.blt p 392 then (bif Nat.beq p 379 then true else false) else (bif Nat.beq p 392 then true else false))))
set_option maxRecDepth 100000 in
set_option maxHeartbeats 4000000 in
theorem eX0_isLeft (d : Nat) (a1 : Int32) (a2 : Int32) (a3 : Int32) (a4 : Int32) (x : mj_X) : kX0 (d + 1) 31 [.ref 0, .int a1, .int a2, .int a3, .int a4] x = mj_g a1 4000 (mj_g a1 4000 (mj_g a1 4000 (mj_sw (x.1 1 a1.toNatClampNeg) 62 (370) [110, 142, 153, 153, 110, 164, 179, 194, 164, 235, 247, 259, 370, 287, 319, 153, 153, 110, 153, 357, 319, 153, 153, 153] fun off => mj_j 22 off fun t => rX0_isLeft d (t, [some (.ref 0), some (.int a1), some (.int a2), some (.int a3), some (.int a4), some (.int (x.1 2 a1.toNatClampNeg)), some (.int (x.1 3 a1.toNatClampNeg))], [], x)))) := (mj_run_to (cd := cdX0) (rt := 5) (tab := tX0_isLeft) (cal := kX0 d) zX0_isLeft 30 (0, [some (.ref 0), some (.int a1), some (.int a2), some (.int a3), some (.int a4), none, none], [], x)).trans rfl
set_option maxRecDepth 100000 in
set_option maxHeartbeats 4000000 in
theorem bX0_isLeft_132 (d : Nat) (a1 : Int32) (a2 : Int32) (a3 : Int32) (a4 : Int32) (a5 : Int32) (a6 : Int32) (x : mj_X) : rX0_isLeft d (132, [some (.ref 0), some (.int a1), some (.int a2), some (.int a3), some (.int a4), some (.int a5), some (.int a6)], [], x) = mj_rI (kX0 d 31 [.ref 0, .int a5, .int a2, .int a3, .int a4] x) fun v2 x1 =>
  
  if v2 = 0 then some (some (.int (0 : Int32)), x1)
  else mj_rI (kX0 d 31 [.ref 0, .int a6, .int a2, .int a3, .int a4] x1) fun v4 x3 =>
   
   if v4 = 0 then some (some (.int (0 : Int32)), x3)
   else some (some (.int (1 : Int32)), x3) := (mj_run_to (cd := cdX0) (rt := 5) (tab := tX0_isLeft) (cal := kX0 d) zX0_isLeft 30 (132, [some (.ref 0), some (.int a1), some (.int a2), some (.int a3), some (.int a4), some (.int a5), some (.int a6)], [], x)).trans rfl
set_option maxRecDepth 100000 in
set_option maxHeartbeats 4000000 in
theorem bX0_isLeft_164 (d : Nat) (a1 : Int32) (a2 : Int32) (a3 : Int32) (a4 : Int32) (a5 : Int32) (a6 : Int32) (x : mj_X) : rX0_isLeft d (164, [some (.ref 0), some (.int a1), some (.int a2), some (.int a3), some (.int a4), some (.int a5), some (.int a6)], [], x) = mj_rI (kX0 d 31 [.ref 0, .int a5, .int a2, .int a3, .int a4] x) fun v2 x1 =>
  mj_gb v2 (some (some (.int v2), x1)) := (mj_run_to (cd := cdX0) (rt := 5) (tab := tX0_isLeft) (cal := kX0 d) zX0_isLeft 30 (164, [some (.ref 0), some (.int a1), some (.int a2), some (.int a3), some (.int a4), some (.int a5), some (.int a6)], [], x)).trans rfl
set_option maxRecDepth 100000 in
set_option maxHeartbeats 4000000 in
theorem bX0_isLeft_175 (d : Nat) (a1 : Int32) (a2 : Int32) (a3 : Int32) (a4 : Int32) (a5 : Int32) (a6 : Int32) (x : mj_X) : rX0_isLeft d (175, [some (.ref 0), some (.int a1), some (.int a2), some (.int a3), some (.int a4), some (.int a5), some (.int a6)], [], x) = mj_rI (kX0 d 31 [.ref 0, .int a6, .int a2, .int a3, .int a4] x) fun v2 x1 =>
  mj_gb v2 (some (some (.int v2), x1)) := (mj_run_to (cd := cdX0) (rt := 5) (tab := tX0_isLeft) (cal := kX0 d) zX0_isLeft 30 (175, [some (.ref 0), some (.int a1), some (.int a2), some (.int a3), some (.int a4), some (.int a5), some (.int a6)], [], x)).trans rfl
set_option maxRecDepth 100000 in
set_option maxHeartbeats 4000000 in
theorem bX0_isLeft_186 (d : Nat) (a1 : Int32) (a2 : Int32) (a3 : Int32) (a4 : Int32) (a5 : Int32) (a6 : Int32) (x : mj_X) : rX0_isLeft d (186, [some (.ref 0), some (.int a1), some (.int a2), some (.int a3), some (.int a4), some (.int a5), some (.int a6)], [], x) = mj_rI (kX0 d 31 [.ref 0, .int a6, .int (a2 + (1 : Int32)), .int (a3 + (1 : Int32)), .int a4] x) fun v2 x1 =>
  mj_gb v2 (some (some (.int v2), x1)) := (mj_run_to (cd := cdX0) (rt := 5) (tab := tX0_isLeft) (cal := kX0 d) zX0_isLeft 30 (186, [some (.ref 0), some (.int a1), some (.int a2), some (.int a3), some (.int a4), some (.int a5), some (.int a6)], [], x)).trans rfl
set_option maxRecDepth 100000 in
set_option maxHeartbeats 4000000 in
theorem bX0_isLeft_201 (d : Nat) (a1 : Int32) (a2 : Int32) (a3 : Int32) (a4 : Int32) (a5 : Int32) (a6 : Int32) (x : mj_X) : rX0_isLeft d (201, [some (.ref 0), some (.int a1), some (.int a2), some (.int a3), some (.int a4), some (.int a5), some (.int a6)], [], x) = mj_rI (kX0 d 31 [.ref 0, .int a5, .int (a2 + (1 : Int32)), .int (a3 + (1 : Int32)), .int a4] x) fun v2 x1 =>
  mj_gb v2 (some (some (.int v2), x1)) := (mj_run_to (cd := cdX0) (rt := 5) (tab := tX0_isLeft) (cal := kX0 d) zX0_isLeft 30 (201, [some (.ref 0), some (.int a1), some (.int a2), some (.int a3), some (.int a4), some (.int a5), some (.int a6)], [], x)).trans rfl
set_option maxRecDepth 100000 in
set_option maxHeartbeats 4000000 in
theorem bX0_isLeft_216 (d : Nat) (a1 : Int32) (a2 : Int32) (a3 : Int32) (a4 : Int32) (a5 : Int32) (a6 : Int32) (x : mj_X) : rX0_isLeft d (216, [some (.ref 0), some (.int a1), some (.int a2), some (.int a3), some (.int a4), some (.int a5), some (.int a6)], [], x) = mj_g a5 4000 (mj_rI (kX0 d 31 [.ref 0, .int (x.1 3 a5.toNatClampNeg), .int a2, .int a3, .int a4] x) fun v2 x1 =>
  
  if v2 = 0 then some (some (.int (0 : Int32)), x1)
  else mj_rI (kX0 d 31 [.ref 0, .int a6, .int (a2 + (1 : Int32)), .int (a3 + (1 : Int32)), .int a4] x1) fun v4 x3 =>
   
   if v4 = 0 then some (some (.int (0 : Int32)), x3)
   else some (some (.int (1 : Int32)), x3)) := (mj_run_to (cd := cdX0) (rt := 5) (tab := tX0_isLeft) (cal := kX0 d) zX0_isLeft 30 (216, [some (.ref 0), some (.int a1), some (.int a2), some (.int a3), some (.int a4), some (.int a5), some (.int a6)], [], x)).trans rfl
set_option maxRecDepth 100000 in
set_option maxHeartbeats 4000000 in
theorem bX0_isLeft_257 (d : Nat) (a1 : Int32) (a2 : Int32) (a3 : Int32) (a4 : Int32) (a5 : Int32) (a6 : Int32) (x : mj_X) : rX0_isLeft d (257, [some (.ref 0), some (.int a1), some (.int a2), some (.int a3), some (.int a4), some (.int a5), some (.int a6)], [], x) = 
  if a3 ≤ a5 then some (some (.int (0 : Int32)), x)
  else some (some (.int (1 : Int32)), x) := (mj_run_to (cd := cdX0) (rt := 5) (tab := tX0_isLeft) (cal := kX0 d) zX0_isLeft 30 (257, [some (.ref 0), some (.int a1), some (.int a2), some (.int a3), some (.int a4), some (.int a5), some (.int a6)], [], x)).trans rfl
set_option maxRecDepth 100000 in
set_option maxHeartbeats 4000000 in
theorem bX0_isLeft_269 (d : Nat) (a1 : Int32) (a2 : Int32) (a3 : Int32) (a4 : Int32) (a5 : Int32) (a6 : Int32) (x : mj_X) : rX0_isLeft d (269, [some (.ref 0), some (.int a1), some (.int a2), some (.int a3), some (.int a4), some (.int a5), some (.int a6)], [], x) = 
  if a2 ≤ a5 then some (some (.int (0 : Int32)), x)
  else some (some (.int (1 : Int32)), x) := (mj_run_to (cd := cdX0) (rt := 5) (tab := tX0_isLeft) (cal := kX0 d) zX0_isLeft 30 (269, [some (.ref 0), some (.int a1), some (.int a2), some (.int a3), some (.int a4), some (.int a5), some (.int a6)], [], x)).trans rfl
set_option maxRecDepth 100000 in
set_option maxHeartbeats 4000000 in
theorem bX0_isLeft_281 (d : Nat) (a1 : Int32) (a2 : Int32) (a3 : Int32) (a4 : Int32) (a5 : Int32) (a6 : Int32) (x : mj_X) : rX0_isLeft d (281, [some (.ref 0), some (.int a1), some (.int a2), some (.int a3), some (.int a4), some (.int a5), some (.int a6)], [], x) = 
  if a5 = (-1 : Int32) then 
   if a4 = (0 : Int32) then some (some (.int (1 : Int32)), x)
   else some (some (.int (0 : Int32)), x)
  else mj_g a5 4000 (
   if a4 = (x.1 4 a5.toNatClampNeg) then some (some (.int (1 : Int32)), x)
   else some (some (.int (0 : Int32)), x)) := (mj_run_to (cd := cdX0) (rt := 5) (tab := tX0_isLeft) (cal := kX0 d) zX0_isLeft 30 (281, [some (.ref 0), some (.int a1), some (.int a2), some (.int a3), some (.int a4), some (.int a5), some (.int a6)], [], x)).trans rfl
set_option maxRecDepth 100000 in
set_option maxHeartbeats 4000000 in
theorem bX0_isLeft_309 (d : Nat) (a1 : Int32) (a2 : Int32) (a3 : Int32) (a4 : Int32) (a5 : Int32) (a6 : Int32) (x : mj_X) : rX0_isLeft d (309, [some (.ref 0), some (.int a1), some (.int a2), some (.int a3), some (.int a4), some (.int a5), some (.int a6)], [], x) = mj_rI (kX0 d 31 [.ref 0, .int a5, .int a2, .int a3, .int a4] x) fun v2 x1 =>
  
  if v2 = 0 then some (some (.int (0 : Int32)), x1)
  else mj_rI (kX0 d 31 [.ref 0, .int a6, .int a2, .int a3, .int a4] x1) fun v4 x3 =>
   
   if v4 = 0 then some (some (.int (0 : Int32)), x3)
   else some (some (.int (1 : Int32)), x3) := (mj_run_to (cd := cdX0) (rt := 5) (tab := tX0_isLeft) (cal := kX0 d) zX0_isLeft 30 (309, [some (.ref 0), some (.int a1), some (.int a2), some (.int a3), some (.int a4), some (.int a5), some (.int a6)], [], x)).trans rfl
set_option maxRecDepth 100000 in
set_option maxHeartbeats 4000000 in
theorem bX0_isLeft_341 (d : Nat) (a1 : Int32) (a2 : Int32) (a3 : Int32) (a4 : Int32) (a5 : Int32) (a6 : Int32) (x : mj_X) : rX0_isLeft d (341, [some (.ref 0), some (.int a1), some (.int a2), some (.int a3), some (.int a4), some (.int a5), some (.int a6)], [], x) = mj_rI (kX0 d 31 [.ref 0, .int a5, .int a2, .int a3, .int a4] x) fun v2 x1 =>
  
  if v2 = 0 then some (some (.int (0 : Int32)), x1)
  else 
   if a6 = (-1 : Int32) then some (some (.int (1 : Int32)), x1)
   else mj_rI (kX0 d 31 [.ref 0, .int a6, .int a2, .int a3, .int a4] x1) fun v4 x3 =>
    
    if v4 = 0 then some (some (.int (0 : Int32)), x3)
    else some (some (.int (1 : Int32)), x3) := (mj_run_to (cd := cdX0) (rt := 5) (tab := tX0_isLeft) (cal := kX0 d) zX0_isLeft 30 (341, [some (.ref 0), some (.int a1), some (.int a2), some (.int a3), some (.int a4), some (.int a5), some (.int a6)], [], x)).trans rfl
set_option maxRecDepth 100000 in
set_option maxHeartbeats 4000000 in
theorem bX0_isLeft_379 (d : Nat) (a1 : Int32) (a2 : Int32) (a3 : Int32) (a4 : Int32) (a5 : Int32) (a6 : Int32) (x : mj_X) : rX0_isLeft d (379, [some (.ref 0), some (.int a1), some (.int a2), some (.int a3), some (.int a4), some (.int a5), some (.int a6)], [], x) = mj_rI (kX0 d 31 [.ref 0, .int a6, .int a2, .int (a3 + (1 : Int32)), .int a4] x) fun v2 x1 =>
  mj_gb v2 (some (some (.int v2), x1)) := (mj_run_to (cd := cdX0) (rt := 5) (tab := tX0_isLeft) (cal := kX0 d) zX0_isLeft 30 (379, [some (.ref 0), some (.int a1), some (.int a2), some (.int a3), some (.int a4), some (.int a5), some (.int a6)], [], x)).trans rfl
set_option maxRecDepth 100000 in
set_option maxHeartbeats 4000000 in
theorem bX0_isLeft_392 (d : Nat) (a1 : Int32) (a2 : Int32) (a3 : Int32) (a4 : Int32) (a5 : Int32) (a6 : Int32) (x : mj_X) : rX0_isLeft d (392, [some (.ref 0), some (.int a1), some (.int a2), some (.int a3), some (.int a4), some (.int a5), some (.int a6)], [], x) = some (some (.int (1 : Int32)), x) := (mj_run_to (cd := cdX0) (rt := 5) (tab := tX0_isLeft) (cal := kX0 d) zX0_isLeft 30 (392, [some (.ref 0), some (.int a1), some (.int a2), some (.int a3), some (.int a4), some (.int a5), some (.int a6)], [], x)).trans rfl
noncomputable abbrev rX0_isMember (d : Nat) : mj_S → mj_R := mj_run cdX0 5 tX0_isMember (kX0 d)
def zX0_isMember (p : Nat) : Bool := false
set_option maxRecDepth 100000 in
set_option maxHeartbeats 4000000 in
theorem eX0_isMember (d : Nat) (a1 : Int32) (x : mj_X) : kX0 (d + 1) 113 [.ref 0, .int a1] x = mj_rI (kX0 d 2 [.long a1.toInt64, .long (0 : Int64), .long ((x.1 0 7) - (1 : Int32)).toInt64] x) fun v2 x1 =>
  mj_gb v2 (some (some (.int v2), x1)) := (mj_run_to (cd := cdX0) (rt := 5) (tab := tX0_isMember) (cal := kX0 d) zX0_isMember 12 (0, [some (.ref 0), some (.int a1)], [], x)).trans rfl
