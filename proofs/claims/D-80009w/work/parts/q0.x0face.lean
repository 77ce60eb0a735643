noncomputable abbrev rX0_range_2 (d : Nat) : mj_S → mj_R := mj_run cdX0 1 tX0_range_2 (kX0 d)
def zX0_range_2 (p : Nat) : Bool := false
set_option maxRecDepth 100000 in
set_option maxHeartbeats 4000000 in
theorem eX0_range_2 (d : Nat) (a1 : Int32) (a2 : Int32) (a3 : Int32) (x : mj_X) : kX0 (d + 1) 116 [.ref 0, .int a1, .int a2, .int a3] x = mj_rI (kX0 d 113 [.ref 0, .int a1] x) fun v2 x1 =>
  
  if v2 = 0 then some (some (.int (-1 : Int32)), x1)
  else mj_g (a1 + (1 : Int32)) 41 (mj_g a1 41 (mj_rI (kX0 d 2 [.long a2.toInt64, .long (0 : Int64), .long (((x1.1 21 (a1 + (1 : Int32)).toNatClampNeg) - (x1.1 21 a1.toNatClampNeg)) - (1 : Int32)).toInt64] x1) fun v4 x3 =>
   
   if v4 = 0 then some (some (.int (-1 : Int32)), x3)
   else mj_rI (kX0 d 2 [.long a3.toInt64, .long (0 : Int64), .long (3 : Int64)] x3) fun v6 x5 =>
    
    if v6 = 0 then some (some (.int (-1 : Int32)), x5)
    else mj_g a1 41 (mj_g (((4 : Int32) * ((x5.1 21 a1.toNatClampNeg) + a2)) + a3) 80000 (some (some (.int (x5.1 22 (((4 : Int32) * ((x5.1 21 a1.toNatClampNeg) + a2)) + a3).toNatClampNeg)), x5))))) := (mj_run_to (cd := cdX0) (rt := 1) (tab := tX0_range_2) (cal := kX0 d) zX0_range_2 52 (0, [some (.ref 0), some (.int a1), some (.int a2), some (.int a3)], [], x)).trans rfl
noncomputable abbrev rX0_line (d : Nat) : mj_S → mj_R := mj_run cdX0 1 tX0_line (kX0 d)
def zX0_line (p : Nat) : Bool := false
set_option maxRecDepth 100000 in
set_option maxHeartbeats 4000000 in
theorem eX0_line (d : Nat) (a1 : Int32) (a2 : Int32) (a3 : Int32) (x : mj_X) : kX0 (d + 1) 117 [.ref 0, .int a1, .int a2, .int a3] x = mj_rI (kX0 d 113 [.ref 0, .int a1] x) fun v2 x1 =>
  
  if v2 = 0 then some (some (.int (-1 : Int32)), x1)
  else mj_g (a1 + (1 : Int32)) 41 (mj_g a1 41 (mj_rI (kX0 d 2 [.long a2.toInt64, .long (0 : Int64), .long (((x1.1 23 (a1 + (1 : Int32)).toNatClampNeg) - (x1.1 23 a1.toNatClampNeg)) - (1 : Int32)).toInt64] x1) fun v4 x3 =>
   
   if v4 = 0 then some (some (.int (-1 : Int32)), x3)
   else mj_rI (kX0 d 2 [.long a3.toInt64, .long (0 : Int64), .long (1 : Int64)] x3) fun v6 x5 =>
    
    if v6 = 0 then some (some (.int (-1 : Int32)), x5)
    else mj_g a1 41 (mj_g (((2 : Int32) * ((x5.1 23 a1.toNatClampNeg) + a2)) + a3) 40000 (some (some (.int (x5.1 24 (((2 : Int32) * ((x5.1 23 a1.toNatClampNeg) + a2)) + a3).toNatClampNeg)), x5))))) := (mj_run_to (cd := cdX0) (rt := 1) (tab := tX0_line) (cal := kX0 d) zX0_line 52 (0, [some (.ref 0), some (.int a1), some (.int a2), some (.int a3)], [], x)).trans rfl
noncomputable abbrev rX0_argument (d : Nat) : mj_S → mj_R := mj_run cdX0 1 tX0_argument (kX0 d)
def zX0_argument (p : Nat) : Bool := bif Nat.beq p 36 then true else false
set_option maxRecDepth 100000 in
set_option maxHeartbeats 4000000 in
theorem eX0_argument (d : Nat) (a1 : Int32) (a2 : Int64) (x : mj_X) : kX0 (d + 1) 118 [.ref 0, .int a1, .long a2] x = mj_rI (kX0 d 2 [.long a1.toInt64, .long (1 : Int64), .long (8 : Int64)] x) fun v2 x1 =>
  
  if v2 = 0 then some (some (.int (-1 : Int32)), x1)
  else 
   if (x1.1 0 99) = (8 : Int32) then some (some (.int (-1 : Int32)), x1)
   else 
    if a1 < (5 : Int32) then rX0_argument d (36, [some (.ref 0), some (.int a1), some (.long a2), none], [], x1)
    else 
     if (lg_cmp a2 (4000 : Int64)) ≤ 0 then rX0_argument d (36, [some (.ref 0), some (.int a1), some (.long a2), none], [], x1)
     else some (some (.int (-1 : Int32)), x1) := (mj_run_to (cd := cdX0) (rt := 1) (tab := tX0_argument) (cal := kX0 d) zX0_argument 27 (0, [some (.ref 0), some (.int a1), some (.long a2), none], [], x)).trans rfl
set_option maxRecDepth 100000 in
set_option maxHeartbeats 4000000 in
theorem bX0_argument_36 (d : Nat) (a1 : Int32) (a2 : Int64) (x : mj_X) : rX0_argument d (36, [some (.ref 0), some (.int a1), some (.long a2), none], [], x) = mj_g (x.1 0 99) 8 (mj_g (x.1 0 99) 8 (some (some (.int ((x.1 0 99) + (1 : Int32))), (mj_wI (mj_wL (mj_wI x 98 (x.1 0 99).toNatClampNeg a1) 99 (x.1 0 99).toNatClampNeg a2) 0 99 ((x.1 0 99) + (1 : Int32)))))) := (mj_run_to (cd := cdX0) (rt := 1) (tab := tX0_argument) (cal := kX0 d) zX0_argument 27 (36, [some (.ref 0), some (.int a1), some (.long a2), none], [], x)).trans rfl
noncomputable abbrev rX0_forget_2 (d : Nat) : mj_S → mj_R := mj_run cdX0 1 tX0_forget_2 (kX0 d)
def zX0_forget_2 (p : Nat) : Bool := false
set_option maxRecDepth 100000 in
set_option maxHeartbeats 4000000 in
theorem eX0_forget_2 (d : Nat)  (x : mj_X) : kX0 (d + 1) 119 [.ref 0] x = some (some (.int (x.1 0 99)), (mj_wI x 0 99 (0 : Int32))) := (mj_run_to (cd := cdX0) (rt := 1) (tab := tX0_forget_2) (cal := kX0 d) zX0_forget_2 10 (0, [some (.ref 0), none], [], x)).trans rfl
noncomputable abbrev rX0_run (d : Nat) : mj_S → mj_R := mj_run cdX0 1 tX0_run (kX0 d)
def zX0_run (p : Nat) : Bool := false
set_option maxRecDepth 100000 in
set_option maxHeartbeats 4000000 in
theorem eX0_run (d : Nat) (a1 : Int32) (a2 : Int32) (x : mj_X) : kX0 (d + 1) 120 [.ref 0, .int a1, .int a2] x = mj_rI (kX0 d 113 [.ref 0, .int a1] x) fun v2 x1 =>
  
  if v2 = 0 then some (some (.int (-1 : Int32)), x1)
  else mj_rI (kX0 d 2 [.long a2.toInt64, .long (0 : Int64), .long (1 : Int64)] x1) fun v4 x3 =>
   
   if v4 = 0 then some (some (.int (-1 : Int32)), x3)
   else mj_rI (kX0 d 121 [.ref 0, .int a1] x3) fun v6 x5 =>
    
    if v6 = 0 then some (some (.int (-1 : Int32)), x5)
    else mj_rV (kX0 d 122 [.ref 0, .int a1, .int a2] x5) fun x7 =>
     some (some (.int (x7.1 0 100)), x7) := (mj_run_to (cd := cdX0) (rt := 1) (tab := tX0_run) (cal := kX0 d) zX0_run 29 (0, [some (.ref 0), some (.int a1), some (.int a2)], [], x)).trans rfl
noncomputable abbrev rX0_fits (d : Nat) : mj_S → mj_R := mj_run cdX0 5 tX0_fits (kX0 d)
def zX0_fits (p : Nat) : Bool := bif Nat.beq p 9 then true else false
set_option maxRecDepth 100000 in
set_option maxHeartbeats 4000000 in
theorem eX0_fits (d : Nat) (a1 : Int32) (x : mj_X) : kX0 (d + 1) 121 [.ref 0, .int a1] x = mj_g a1 40 (rX0_fits d (9, [some (.ref 0), some (.int a1), some (.int (0 : Int32)), some (.int (x.1 10 a1.toNatClampNeg))], [], x)) := (mj_run_to (cd := cdX0) (rt := 5) (tab := tX0_fits) (cal := kX0 d) zX0_fits 42 (0, [some (.ref 0), some (.int a1), none, none], [], x)).trans rfl
set_option maxRecDepth 100000 in
set_option maxHeartbeats 4000000 in
theorem bX0_fits_9 (d : Nat) (a1 : Int32) (a2 : Int32) (a3 : Int32) (x : mj_X) : rX0_fits d (9, [some (.ref 0), some (.int a1), some (.int a2), some (.int a3)], [], x) = 
  if a3 = (-1 : Int32) then 
   if a2 = (x.1 0 99) then some (some (.int (1 : Int32)), x)
   else some (some (.int (0 : Int32)), x)
  else 
   if a2 = (x.1 0 99) then some (some (.int (0 : Int32)), x)
   else mj_g a2 8 (mj_g a3 4000 (mj_g (x.1 2 a3.toNatClampNeg) 4000 (
    if (x.1 98 a2.toNatClampNeg) = (x.1 4 (x.1 2 a3.toNatClampNeg).toNatClampNeg) then mj_g a3 4000 (rX0_fits d (9, [some (.ref 0), some (.int a1), some (.int (a2 + (1 : Int32))), some (.int (x.1 3 a3.toNatClampNeg))], [], x))
    else some (some (.int (0 : Int32)), x)))) := (mj_run_to (cd := cdX0) (rt := 5) (tab := tX0_fits) (cal := kX0 d) zX0_fits 42 (9, [some (.ref 0), some (.int a1), some (.int a2), some (.int a3)], [], x)).trans rfl
noncomputable abbrev rX0_goesOff (d : Nat) : mj_S → mj_R := mj_run cdX0 0 tX0_goesOff (kX0 d)
def zX0_goesOff (p : Nat) : Bool := bif Nat.blt p 233 then (bif Nat.blt p 134 then (bif Nat.beq p 53 then true else false) else (bif Nat.blt p 196 then (bif Nat.beq p 134 then true else false) else (bif Nat.beq p 196 then true else false))) else (bif Nat.blt p 279 then (bif Nat.blt p 254 then (bif Nat.beq p 233 then true else false) else (bif Nat.beq p 254 then true else false)) else (bif Nat.blt p 329 then (bif Nat.beq p 279 then true else false) else (bif Nat.beq p 329 then true else false)))
set_option maxRecDepth 100000 in
set_option maxHeartbeats 4000000 in
theorem eX0_goesOff (d : Nat) (a1 : Int32) (a2 : Int32) (x : mj_X) : kX0 (d + 1) 122 [.ref 0, .int a1, .int a2] x = mj_g a1 40 (rX0_goesOff d (53, [some (.ref 0), some (.int a1), some (.int a2), some (.int (x.1 10 a1.toNatClampNeg)), some (.int (0 : Int32)), some (.int (0 : Int32)), none, none], [], (mj_wI (mj_wI (mj_wI (mj_wI (mj_wI (mj_wI (mj_wI (mj_wI x 0 75 (0 : Int32)) 0 76 (0 : Int32)) 0 78 (0 : Int32)) 0 79 (0 : Int32)) 0 80 (0 : Int32)) 0 81 (0 : Int32)) 0 83 (0 : Int32)) 0 87 (0 : Int32)))) := (mj_run_to (cd := cdX0) (rt := 0) (tab := tX0_goesOff) (cal := kX0 d) zX0_goesOff 55 (0, [some (.ref 0), some (.int a1), some (.int a2), none, none, none, none, none], [], x)).trans rfl
set_option maxRecDepth 100000 in
set_option maxHeartbeats 4000000 in
theorem bX0_goesOff_53 (d : Nat) (a1 : Int32) (a2 : Int32) (a3 : Int32) (a4 : Int32) (a5 : Int32) (o6 : Option Value) (x : mj_X) : rX0_goesOff d (53, [some (.ref 0), some (.int a1), some (.int a2), some (.int a3), some (.int a4), some (.int a5), o6, none], [], x) = 
  if (x.1 0 99) ≤ a5 then rX0_goesOff d (134, [some (.ref 0), some (.int a1), some (.int a2), some (.int a3), some (.int a4), some (.int a5), o6, none], [], x)
  else 
   if (x.1 0 78) = 0 then mj_rL (kX0 d 123 [.ref 0, .int a5] x) fun v2 x1 =>
    
    if a2 = 0 then mj_g a3 4000 (mj_g (x1.1 2 a3.toNatClampNeg) 44000 (mj_g a3 4000 (rX0_goesOff d (53, [some (.ref 0), some (.int a1), some (.int a2), some (.int (x1.1 3 a3.toNatClampNeg)), some (.int a4), some (.int (a5 + (1 : Int32))), some (.long v2), none], [], (mj_wL x1 83 (x1.1 2 a3.toNatClampNeg).toNatClampNeg v2)))))
    else mj_g a4 40000 (mj_g a5 8 (mj_rI (kX0 d 26 [.int (x1.1 98 a5.toNatClampNeg)] (mj_wL x1 89 a4.toNatClampNeg v2)) fun v4 x3 =>
     mj_g a3 4000 (rX0_goesOff d (53, [some (.ref 0), some (.int a1), some (.int a2), some (.int (x3.1 3 a3.toNatClampNeg)), some (.int (a4 + v4)), some (.int (a5 + (1 : Int32))), some (.long v2), none], [], x3))))
   else rX0_goesOff d (134, [some (.ref 0), some (.int a1), some (.int a2), some (.int a3), some (.int a4), some (.int a5), o6, none], [], x) := (mj_run_to (cd := cdX0) (rt := 0) (tab := tX0_goesOff) (cal := kX0 d) zX0_goesOff 55 (53, [some (.ref 0), some (.int a1), some (.int a2), some (.int a3), some (.int a4), some (.int a5), o6, none], [], x)).trans rfl
set_option maxRecDepth 100000 in
set_option maxHeartbeats 4000000 in
theorem bX0_goesOff_134 (d : Nat) (a1 : Int32) (a2 : Int32) (a3 : Int32) (a4 : Int32) (a5 : Int32) (o6 : Option Value) (x : mj_X) : rX0_goesOff d (134, [some (.ref 0), some (.int a1), some (.int a2), some (.int a3), some (.int a4), some (.int a5), o6, none], [], x) = 
  if (x.1 0 78) = 0 then 
   if a2 = 0 then mj_g a1 40 (mj_rI (kX0 d 125 [.ref 0, .int (x.1 11 a1.toNatClampNeg)] (mj_wL x 0 85 (0 : Int64))) fun v2 x1 =>
    
    if (x1.1 0 81) = 0 then 
     if v2 = (4 : Int32) then rX0_goesOff d (196, [some (.ref 0), some (.int a1), some (.int a2), some (.int a3), some (.int a4), some (.long (0 : Int64)), none, some (.int v2)], [.int (2 : Int32), .ref 0], x1)
     else rX0_goesOff d (196, [some (.ref 0), some (.int a1), some (.int a2), some (.int a3), some (.int a4), some (.long (0 : Int64)), none, some (.int v2)], [.int (1 : Int32), .ref 0], x1)
    else rX0_goesOff d (196, [some (.ref 0), some (.int a1), some (.int a2), some (.int a3), some (.int a4), some (.long (0 : Int64)), none, some (.int v2)], [.int (3 : Int32), .ref 0], x1))
   else mj_rI (kX0 d 149 [.ref 0, .int a1] x) fun v4 x3 =>
    rX0_goesOff d (233, [some (.ref 0), some (.int a1), some (.int a2), some (.int a3), some (.int a4), some (.long (x3.2 0 96)), none, none], [], (mj_wI x3 0 100 v4))
  else rX0_goesOff d (233, [some (.ref 0), some (.int a1), some (.int a2), some (.int a3), some (.int a4), some (.long (0 : Int64)), none, none], [], (mj_wI x 0 100 (2 : Int32))) := (mj_run_to (cd := cdX0) (rt := 0) (tab := tX0_goesOff) (cal := kX0 d) zX0_goesOff 55 (134, [some (.ref 0), some (.int a1), some (.int a2), some (.int a3), some (.int a4), some (.int a5), o6, none], [], x)).trans rfl
set_option maxRecDepth 100000 in
set_option maxHeartbeats 4000000 in
theorem bX0_goesOff_196 (d : Nat) (a1 : Int32) (a2 : Int32) (a3 : Int32) (a4 : Int32) (a5 : Int64) (a7 : Int32) (s1 : Int32) (x : mj_X) : rX0_goesOff d (196, [some (.ref 0), some (.int a1), some (.int a2), some (.int a3), some (.int a4), some (.long a5), none, some (.int a7)], [.int s1, .ref 0], x) = 
  if a7 = (3 : Int32) then rX0_goesOff d (233, [some (.ref 0), some (.int a1), some (.int a2), some (.int a3), some (.int a4), some (.long (x.2 0 85)), none, some (.int a7)], [], (mj_wI x 0 100 s1))
  else rX0_goesOff d (233, [some (.ref 0), some (.int a1), some (.int a2), some (.int a3), some (.int a4), some (.long (0 : Int64)), none, some (.int a7)], [], (mj_wI x 0 100 s1)) := (mj_run_to (cd := cdX0) (rt := 0) (tab := tX0_goesOff) (cal := kX0 d) zX0_goesOff 55 (196, [some (.ref 0), some (.int a1), some (.int a2), some (.int a3), some (.int a4), some (.long a5), none, some (.int a7)], [.int s1, .ref 0], x)).trans rfl
set_option maxRecDepth 100000 in
set_option maxHeartbeats 4000000 in
theorem bX0_goesOff_233 (d : Nat) (a1 : Int32) (a2 : Int32) (a3 : Int32) (a4 : Int32) (a5 : Int64) (o7 : Option Value) (x : mj_X) : rX0_goesOff d (233, [some (.ref 0), some (.int a1), some (.int a2), some (.int a3), some (.int a4), some (.long a5), none, o7], [], x) = 
  if (x.1 0 100) = (1 : Int32) then rX0_goesOff d (254, [some (.ref 0), some (.int a1), some (.int a2), some (.int a3), some (.int a4), some (.long a5), none, o7], [.int (1 : Int32)], (mj_wI x 0 77 (x.1 0 76)))
  else rX0_goesOff d (254, [some (.ref 0), some (.int a1), some (.int a2), some (.int a3), some (.int a4), some (.long a5), none, o7], [.int (0 : Int32)], (mj_wI x 0 77 (x.1 0 76))) := (mj_run_to (cd := cdX0) (rt := 0) (tab := tX0_goesOff) (cal := kX0 d) zX0_goesOff 55 (233, [some (.ref 0), some (.int a1), some (.int a2), some (.int a3), some (.int a4), some (.long a5), none, o7], [], x)).trans rfl
set_option maxRecDepth 100000 in
set_option maxHeartbeats 4000000 in
theorem bX0_goesOff_254 (d : Nat) (a1 : Int32) (a2 : Int32) (a3 : Int32) (a4 : Int32) (a5 : Int64) (o7 : Option Value) (s0 : Int32) (x : mj_X) : rX0_goesOff d (254, [some (.ref 0), some (.int a1), some (.int a2), some (.int a3), some (.int a4), some (.long a5), none, o7], [.int s0], x) = 
  if s0 = 0 then rX0_goesOff d (279, [some (.ref 0), some (.int a1), some (.int a2), some (.int a3), some (.int a4), some (.long a5), none, some (.int s0)], [.int (0 : Int32), .ref 0], x)
  else mj_g a1 40 (
   if (x.1 9 a1.toNatClampNeg) < (5 : Int32) then rX0_goesOff d (279, [some (.ref 0), some (.int a1), some (.int a2), some (.int a3), some (.int a4), some (.long a5), none, some (.int s0)], [.int (0 : Int32), .ref 0], x)
   else rX0_goesOff d (279, [some (.ref 0), some (.int a1), some (.int a2), some (.int a3), some (.int a4), some (.long a5), none, some (.int s0)], [.int a5.toInt32, .ref 0], x)) := (mj_run_to (cd := cdX0) (rt := 0) (tab := tX0_goesOff) (cal := kX0 d) zX0_goesOff 55 (254, [some (.ref 0), some (.int a1), some (.int a2), some (.int a3), some (.int a4), some (.long a5), none, o7], [.int s0], x)).trans rfl
set_option maxRecDepth 100000 in
set_option maxHeartbeats 4000000 in
theorem bX0_goesOff_279 (d : Nat) (a1 : Int32) (a2 : Int32) (a3 : Int32) (a4 : Int32) (a5 : Int64) (a7 : Int32) (s1 : Int32) (x : mj_X) : rX0_goesOff d (279, [some (.ref 0), some (.int a1), some (.int a2), some (.int a3), some (.int a4), some (.long a5), none, some (.int a7)], [.int s1, .ref 0], x) = 
  if a7 = 0 then rX0_goesOff d (329, [some (.ref 0), some (.int a1), some (.int a2), some (.int a3), some (.int a4), some (.long a5), none, some (.int a7)], [.long (0 : Int64), .ref 0], (mj_wI x 0 102 s1))
  else mj_g a1 40 (
   if (5 : Int32) ≤ (x.1 9 a1.toNatClampNeg) then 
    if (lg_cmp a5 (0 : Int64)) = 0 then rX0_goesOff d (329, [some (.ref 0), some (.int a1), some (.int a2), some (.int a3), some (.int a4), some (.long a5), none, some (.int a7)], [.long (-1 : Int64), .ref 0], (mj_wI x 0 102 s1))
    else mj_g a5.toInt32 120020 (rX0_goesOff d (329, [some (.ref 0), some (.int a1), some (.int a2), some (.int a3), some (.int a4), some (.long a5), none, some (.int a7)], [.long (x.1 73 a5.toInt32.toNatClampNeg).toInt64, .ref 0], (mj_wI x 0 102 s1)))
   else rX0_goesOff d (329, [some (.ref 0), some (.int a1), some (.int a2), some (.int a3), some (.int a4), some (.long a5), none, some (.int a7)], [.long a5, .ref 0], (mj_wI x 0 102 s1))) := (mj_run_to (cd := cdX0) (rt := 0) (tab := tX0_goesOff) (cal := kX0 d) zX0_goesOff 55 (279, [some (.ref 0), some (.int a1), some (.int a2), some (.int a3), some (.int a4), some (.long a5), none, some (.int a7)], [.int s1, .ref 0], x)).trans rfl
set_option maxRecDepth 100000 in
set_option maxHeartbeats 4000000 in
theorem bX0_goesOff_329 (d : Nat) (a1 : Int32) (a2 : Int32) (a3 : Int32) (a4 : Int32) (a5 : Int64) (a7 : Int32) (s1 : Int64) (x : mj_X) : rX0_goesOff d (329, [some (.ref 0), some (.int a1), some (.int a2), some (.int a3), some (.int a4), some (.long a5), none, some (.int a7)], [.long s1, .ref 0], x) = 
  if (x.1 0 100) = (2 : Int32) then some (none, (mj_wL x 0 101 s1))
  else some (none, (mj_wI (mj_wI (mj_wL x 0 101 s1) 0 78 (0 : Int32)) 0 79 (0 : Int32))) := (mj_run_to (cd := cdX0) (rt := 0) (tab := tX0_goesOff) (cal := kX0 d) zX0_goesOff 55 (329, [some (.ref 0), some (.int a1), some (.int a2), some (.int a3), some (.int a4), some (.long a5), none, some (.int a7)], [.long s1, .ref 0], x)).trans rfl
noncomputable abbrev rX0_valueOf (d : Nat) : mj_S → mj_R := mj_run cdX0 2 tX0_valueOf (kX0 d)
def zX0_valueOf (p : Nat) : Bool := bif Nat.blt p 50 then (bif Nat.blt p 48 then (bif Nat.beq p 44 then true else false) else (bif Nat.beq p 48 then true else false)) else (bif Nat.blt p 58 then (bif Nat.beq p 50 then true else false) else (bif Nat.blt p 66 then (bif Nat.beq p 58 then true else false) else (bif Nat.beq p 66 then true else false)))
set_option maxRecDepth 100000 in
set_option maxHeartbeats 4000000 in
theorem eX0_valueOf (d : Nat) (a1 : Int32) (x : mj_X) : kX0 (d + 1) 123 [.ref 0, .int a1] x = mj_g a1 8 (mj_g a1 8 (mj_sw (x.1 98 a1.toNatClampNeg) 1 (53) [31, 35, 37, 45] fun off => mj_j 13 off fun t => rX0_valueOf d (t, [some (.ref 0), some (.int a1), some (.long (x.2 99 a1.toNatClampNeg)), none], [], x))) := (mj_run_to (cd := cdX0) (rt := 2) (tab := tX0_valueOf) (cal := kX0 d) zX0_valueOf 19 (0, [some (.ref 0), some (.int a1), none, none], [], x)).trans rfl
set_option maxRecDepth 100000 in
set_option maxHeartbeats 4000000 in
theorem bX0_valueOf_44 (d : Nat) (a1 : Int32) (a2 : Int64) (x : mj_X) : rX0_valueOf d (44, [some (.ref 0), some (.int a1), some (.long a2), none], [], x) = some (some (.long a2.toInt32.toInt64), x) := (mj_run_to (cd := cdX0) (rt := 2) (tab := tX0_valueOf) (cal := kX0 d) zX0_valueOf 19 (44, [some (.ref 0), some (.int a1), some (.long a2), none], [], x)).trans rfl
set_option maxRecDepth 100000 in
set_option maxHeartbeats 4000000 in
theorem bX0_valueOf_48 (d : Nat) (a1 : Int32) (a2 : Int64) (x : mj_X) : rX0_valueOf d (48, [some (.ref 0), some (.int a1), some (.long a2), none], [], x) = some (some (.long a2), x) := (mj_run_to (cd := cdX0) (rt := 2) (tab := tX0_valueOf) (cal := kX0 d) zX0_valueOf 19 (48, [some (.ref 0), some (.int a1), some (.long a2), none], [], x)).trans rfl
set_option maxRecDepth 100000 in
set_option maxHeartbeats 4000000 in
theorem bX0_valueOf_50 (d : Nat) (a1 : Int32) (a2 : Int64) (x : mj_X) : rX0_valueOf d (50, [some (.ref 0), some (.int a1), some (.long a2), none], [], x) = mj_rF (kX0 d 59 [.long a2] x) fun v2 x1 =>
  mj_rL (kX0 d 60 [.float v2] x1) fun v4 x3 =>
  some (some (.long v4), x3) := (mj_run_to (cd := cdX0) (rt := 2) (tab := tX0_valueOf) (cal := kX0 d) zX0_valueOf 19 (50, [some (.ref 0), some (.int a1), some (.long a2), none], [], x)).trans rfl
set_option maxRecDepth 100000 in
set_option maxHeartbeats 4000000 in
theorem bX0_valueOf_58 (d : Nat) (a1 : Int32) (a2 : Int64) (x : mj_X) : rX0_valueOf d (58, [some (.ref 0), some (.int a1), some (.long a2), none], [], x) = mj_rD (kX0 d 61 [.long a2] x) fun v2 x1 =>
  mj_rL (kX0 d 62 [.double v2] x1) fun v4 x3 =>
  some (some (.long v4), x3) := (mj_run_to (cd := cdX0) (rt := 2) (tab := tX0_valueOf) (cal := kX0 d) zX0_valueOf 19 (58, [some (.ref 0), some (.int a1), some (.long a2), none], [], x)).trans rfl
set_option maxRecDepth 100000 in
set_option maxHeartbeats 4000000 in
theorem bX0_valueOf_66 (d : Nat) (a1 : Int32) (a2 : Int64) (x : mj_X) : rX0_valueOf d (66, [some (.ref 0), some (.int a1), some (.long a2), none], [], x) = 
  if 0 ≤ (lg_cmp a2 (0 : Int64)) then mj_g a1 8 (mj_rI (kX0 d 124 [.ref 0, .int (x.1 98 a1.toNatClampNeg), .int a2.toInt32] x) fun v2 x1 =>
   some (some (.long v2.toInt64), x1))
  else some (some (.long (0 : Int64)), x) := (mj_run_to (cd := cdX0) (rt := 2) (tab := tX0_valueOf) (cal := kX0 d) zX0_valueOf 19 (66, [some (.ref 0), some (.int a1), some (.long a2), none], [], x)).trans rfl
noncomputable abbrev rX0_result (d : Nat) : mj_S → mj_R := mj_run cdX0 2 tX0_result (kX0 d)
def zX0_result (p : Nat) : Bool := false
set_option maxRecDepth 100000 in
set_option maxHeartbeats 4000000 in
theorem eX0_result (d : Nat)  (x : mj_X) : kX0 (d + 1) 167 [.ref 0] x = some (some (.long (x.2 0 101)), x) := (mj_run_to (cd := cdX0) (rt := 2) (tab := tX0_result) (cal := kX0 d) zX0_result 5 (0, [some (.ref 0)], [], x)).trans rfl
noncomputable abbrev rX0_element (d : Nat) : mj_S → mj_R := mj_run cdX0 2 tX0_element (kX0 d)
def zX0_element (p : Nat) : Bool := false
set_option maxRecDepth 100000 in
set_option maxHeartbeats 4000000 in
theorem eX0_element (d : Nat) (a1 : Int32) (x : mj_X) : kX0 (d + 1) 168 [.ref 0, .int a1] x = 
  if (x.1 0 102) = 0 then some (some (.long (0 : Int64)), x)
  else mj_g (x.1 0 102) 120020 (mj_rI (kX0 d 2 [.long a1.toInt64, .long (0 : Int64), .long ((x.1 73 (x.1 0 102).toNatClampNeg) - (1 : Int32)).toInt64] x) fun v2 x1 =>
   
   if v2 = 0 then some (some (.long (0 : Int64)), x1)
   else mj_g (x1.1 0 102) 120020 (mj_g ((x1.1 72 (x1.1 0 102).toNatClampNeg) + a1) 20000 (some (some (.long (x1.2 75 ((x1.1 72 (x1.1 0 102).toNatClampNeg) + a1).toNatClampNeg)), x1)))) := (mj_run_to (cd := cdX0) (rt := 2) (tab := tX0_element) (cal := kX0 d) zX0_element 34 (0, [some (.ref 0), some (.int a1)], [], x)).trans rfl
noncomputable abbrev rX0_thrown (d : Nat) : mj_S → mj_R := mj_run cdX0 1 tX0_thrown (kX0 d)
def zX0_thrown (p : Nat) : Bool := bif Nat.blt p 42 then (bif Nat.blt p 37 then (bif Nat.beq p 32 then true else false) else (bif Nat.beq p 37 then true else false)) else (bif Nat.blt p 47 then (bif Nat.beq p 42 then true else false) else (bif Nat.blt p 52 then (bif Nat.beq p 47 then true else false) else (bif Nat.beq p 52 then true else false)))
set_option maxRecDepth 100000 in
set_option maxHeartbeats 4000000 in
theorem eX0_thrown (d : Nat) (a1 : Int32) (x : mj_X) : kX0 (d + 1) 169 [.ref 0, .int a1] x = mj_sw a1 0 (51) [31, 36, 41, 46] fun off => mj_j 1 off fun t => rX0_thrown d (t, [some (.ref 0), some (.int a1)], [], x) := (mj_run_to (cd := cdX0) (rt := 1) (tab := tX0_thrown) (cal := kX0 d) zX0_thrown 9 (0, [some (.ref 0), some (.int a1)], [], x)).trans rfl
set_option maxRecDepth 100000 in
set_option maxHeartbeats 4000000 in
theorem bX0_thrown_32 (d : Nat) (a1 : Int32) (x : mj_X) : rX0_thrown d (32, [some (.ref 0), some (.int a1)], [], x) = some (some (.int (x.1 0 78)), x) := (mj_run_to (cd := cdX0) (rt := 1) (tab := tX0_thrown) (cal := kX0 d) zX0_thrown 9 (32, [some (.ref 0), some (.int a1)], [], x)).trans rfl
set_option maxRecDepth 100000 in
set_option maxHeartbeats 4000000 in
theorem bX0_thrown_37 (d : Nat) (a1 : Int32) (x : mj_X) : rX0_thrown d (37, [some (.ref 0), some (.int a1)], [], x) = some (some (.int (x.1 0 79)), x) := (mj_run_to (cd := cdX0) (rt := 1) (tab := tX0_thrown) (cal := kX0 d) zX0_thrown 9 (37, [some (.ref 0), some (.int a1)], [], x)).trans rfl
set_option maxRecDepth 100000 in
set_option maxHeartbeats 4000000 in
theorem bX0_thrown_42 (d : Nat) (a1 : Int32) (x : mj_X) : rX0_thrown d (42, [some (.ref 0), some (.int a1)], [], x) = some (some (.int (x.1 0 80)), x) := (mj_run_to (cd := cdX0) (rt := 1) (tab := tX0_thrown) (cal := kX0 d) zX0_thrown 9 (42, [some (.ref 0), some (.int a1)], [], x)).trans rfl
set_option maxRecDepth 100000 in
set_option maxHeartbeats 4000000 in
theorem bX0_thrown_47 (d : Nat) (a1 : Int32) (x : mj_X) : rX0_thrown d (47, [some (.ref 0), some (.int a1)], [], x) = some (some (.int (x.1 0 77)), x) := (mj_run_to (cd := cdX0) (rt := 1) (tab := tX0_thrown) (cal := kX0 d) zX0_thrown 9 (47, [some (.ref 0), some (.int a1)], [], x)).trans rfl
set_option maxRecDepth 100000 in
set_option maxHeartbeats 4000000 in
theorem bX0_thrown_52 (d : Nat) (a1 : Int32) (x : mj_X) : rX0_thrown d (52, [some (.ref 0), some (.int a1)], [], x) = some (some (.int (-1 : Int32)), x) := (mj_run_to (cd := cdX0) (rt := 1) (tab := tX0_thrown) (cal := kX0 d) zX0_thrown 9 (52, [some (.ref 0), some (.int a1)], [], x)).trans rfl
noncomputable abbrev rX0_agree (d : Nat) : mj_S → mj_R := mj_run cdX0 1 tX0_agree (kX0 d)
def zX0_agree (p : Nat) : Bool := bif Nat.blt p 182 then (bif Nat.blt p 71 then (bif Nat.beq p 46 then true else false) else (bif Nat.beq p 71 then true else false)) else (bif Nat.blt p 188 then (bif Nat.beq p 182 then true else false) else (bif Nat.beq p 188 then true else false))
set_option maxRecDepth 100000 in
set_option maxHeartbeats 4000000 in
theorem eX0_agree (d : Nat) (a1 : Int32) (x : mj_X) : kX0 (d + 1) 170 [.ref 0, .int a1] x = mj_rI (kX0 d 113 [.ref 0, .int a1] x) fun v2 x1 =>
  
  if v2 = 0 then some (some (.int (-1 : Int32)), x1)
  else mj_rI (kX0 d 121 [.ref 0, .int a1] x1) fun v4 x3 =>
   
   if v4 = 0 then some (some (.int (-1 : Int32)), x3)
   else mj_rV (kX0 d 122 [.ref 0, .int a1, .int (1 : Int32)] x3) fun x5 =>
    rX0_agree d (46, [some (.ref 0), some (.int a1), some (.int (x5.1 0 100)), some (.long (x5.2 0 101)), none, some (.int (x5.1 0 78)), some (.int (x5.1 0 79)), none, none, none], [], x5) := (mj_run_to (cd := cdX0) (rt := 1) (tab := tX0_agree) (cal := kX0 d) zX0_agree 78 (0, [some (.ref 0), some (.int a1), none, none, none, none, none, none, none, none], [], x)).trans rfl
set_option maxRecDepth 100000 in
set_option maxHeartbeats 4000000 in
theorem bX0_agree_46 (d : Nat) (a1 : Int32) (a2 : Int32) (a3 : Int64) (a5 : Int32) (a6 : Int32) (x : mj_X) : rX0_agree d (46, [some (.ref 0), some (.int a1), some (.int a2), some (.long a3), none, some (.int a5), some (.int a6), none, none, none], [], x) = 
  if (x.1 0 102) = 0 then rX0_agree d (71, [some (.ref 0), some (.int a1), some (.int a2), some (.long a3), none, some (.int a5), some (.int a6), some (.int (0 : Int32)), some (.int (0 : Int32)), none], [], x)
  else mj_g (x.1 0 102) 120020 (rX0_agree d (71, [some (.ref 0), some (.int a1), some (.int a2), some (.long a3), none, some (.int a5), some (.int a6), some (.int (x.1 73 (x.1 0 102).toNatClampNeg)), some (.int (0 : Int32)), none], [], x)) := (mj_run_to (cd := cdX0) (rt := 1) (tab := tX0_agree) (cal := kX0 d) zX0_agree 78 (46, [some (.ref 0), some (.int a1), some (.int a2), some (.long a3), none, some (.int a5), some (.int a6), none, none, none], [], x)).trans rfl
set_option maxRecDepth 100000 in
set_option maxHeartbeats 4000000 in
theorem bX0_agree_71 (d : Nat) (a1 : Int32) (a2 : Int32) (a3 : Int64) (a5 : Int32) (a6 : Int32) (a7 : Int32) (a8 : Int32) (x : mj_X) : rX0_agree d (71, [some (.ref 0), some (.int a1), some (.int a2), some (.long a3), none, some (.int a5), some (.int a6), some (.int a7), some (.int a8), none], [], x) = 
  if a7 ≤ a8 then mj_rV (kX0 d 122 [.ref 0, .int a1, .int (0 : Int32)] x) fun x1 =>
   
   if a2 = (3 : Int32) then some (some (.int (3 : Int32)), x1)
   else 
    if (x1.1 0 100) = (3 : Int32) then some (some (.int (3 : Int32)), x1)
    else 
     if a2 = (x1.1 0 100) then 
      if (lg_cmp a3 (x1.2 0 101)) = 0 then 
       if a5 = (x1.1 0 78) then 
        if a6 = (x1.1 0 79) then 
         if (x1.1 0 102) = 0 then 
          if a7 = (0 : Int32) then rX0_agree d (188, [some (.ref 0), some (.int a1), some (.int a2), some (.long a3), none, some (.int a5), some (.int a6), some (.int a7), some (.int (1 : Int32)), some (.int (0 : Int32))], [], x1)
          else rX0_agree d (182, [some (.ref 0), some (.int a1), some (.int a2), some (.long a3), none, some (.int a5), some (.int a6), some (.int a7), some (.int a8), none], [], x1)
         else mj_g (x1.1 0 102) 120020 (
          if a7 = (x1.1 73 (x1.1 0 102).toNatClampNeg) then rX0_agree d (188, [some (.ref 0), some (.int a1), some (.int a2), some (.long a3), none, some (.int a5), some (.int a6), some (.int a7), some (.int (1 : Int32)), some (.int (0 : Int32))], [], x1)
          else rX0_agree d (182, [some (.ref 0), some (.int a1), some (.int a2), some (.long a3), none, some (.int a5), some (.int a6), some (.int a7), some (.int a8), none], [], x1))
        else rX0_agree d (182, [some (.ref 0), some (.int a1), some (.int a2), some (.long a3), none, some (.int a5), some (.int a6), some (.int a7), some (.int a8), none], [], x1)
       else rX0_agree d (182, [some (.ref 0), some (.int a1), some (.int a2), some (.long a3), none, some (.int a5), some (.int a6), some (.int a7), some (.int a8), none], [], x1)
      else rX0_agree d (182, [some (.ref 0), some (.int a1), some (.int a2), some (.long a3), none, some (.int a5), some (.int a6), some (.int a7), some (.int a8), none], [], x1)
     else rX0_agree d (182, [some (.ref 0), some (.int a1), some (.int a2), some (.long a3), none, some (.int a5), some (.int a6), some (.int a7), some (.int a8), none], [], x1)
  else mj_rL (kX0 d 168 [.ref 0, .int a8] x) fun v3 x2 =>
   mj_g a8 4000 (rX0_agree d (71, [some (.ref 0), some (.int a1), some (.int a2), some (.long a3), none, some (.int a5), some (.int a6), some (.int a7), some (.int (a8 + (1 : Int32))), none], [], (mj_wL x2 104 a8.toNatClampNeg v3))) := (mj_run_to (cd := cdX0) (rt := 1) (tab := tX0_agree) (cal := kX0 d) zX0_agree 78 (71, [some (.ref 0), some (.int a1), some (.int a2), some (.long a3), none, some (.int a5), some (.int a6), some (.int a7), some (.int a8), none], [], x)).trans rfl
set_option maxRecDepth 100000 in
set_option maxHeartbeats 4000000 in
theorem bX0_agree_182 (d : Nat) (a1 : Int32) (a2 : Int32) (a3 : Int64) (a5 : Int32) (a6 : Int32) (a7 : Int32) (a8 : Int32) (x : mj_X) : rX0_agree d (182, [some (.ref 0), some (.int a1), some (.int a2), some (.long a3), none, some (.int a5), some (.int a6), some (.int a7), some (.int a8), none], [], x) = rX0_agree d (188, [some (.ref 0), some (.int a1), some (.int a2), some (.long a3), none, some (.int a5), some (.int a6), some (.int a7), some (.int (0 : Int32)), some (.int (0 : Int32))], [], x) := (mj_run_to (cd := cdX0) (rt := 1) (tab := tX0_agree) (cal := kX0 d) zX0_agree 78 (182, [some (.ref 0), some (.int a1), some (.int a2), some (.long a3), none, some (.int a5), some (.int a6), some (.int a7), some (.int a8), none], [], x)).trans rfl
set_option maxRecDepth 100000 in
set_option maxHeartbeats 4000000 in
theorem bX0_agree_188 (d : Nat) (a1 : Int32) (a2 : Int32) (a3 : Int64) (a5 : Int32) (a6 : Int32) (a7 : Int32) (a8 : Int32) (a9 : Int32) (x : mj_X) : rX0_agree d (188, [some (.ref 0), some (.int a1), some (.int a2), some (.long a3), none, some (.int a5), some (.int a6), some (.int a7), some (.int a8), some (.int a9)], [], x) = 
  if a7 ≤ a9 then 
   if a8 = 0 then some (some (.int (0 : Int32)), x)
   else some (some (.int (1 : Int32)), x)
  else 
   if a8 = 0 then 
    if a8 = 0 then some (some (.int (0 : Int32)), x)
    else some (some (.int (1 : Int32)), x)
   else mj_g a9 4000 (mj_rL (kX0 d 168 [.ref 0, .int a9] x) fun v2 x1 =>
    
    if (lg_cmp (x.2 104 a9.toNatClampNeg) v2) = 0 then rX0_agree d (188, [some (.ref 0), some (.int a1), some (.int a2), some (.long a3), none, some (.int a5), some (.int a6), some (.int a7), some (.int (1 : Int32)), some (.int (a9 + (1 : Int32)))], [], x1)
    else rX0_agree d (188, [some (.ref 0), some (.int a1), some (.int a2), some (.long a3), none, some (.int a5), some (.int a6), some (.int a7), some (.int (0 : Int32)), some (.int (a9 + (1 : Int32)))], [], x1)) := (mj_run_to (cd := cdX0) (rt := 1) (tab := tX0_agree) (cal := kX0 d) zX0_agree 78 (188, [some (.ref 0), some (.int a1), some (.int a2), some (.long a3), none, some (.int a5), some (.int a6), some (.int a7), some (.int a8), some (.int a9)], [], x)).trans rfl
