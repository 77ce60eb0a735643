noncomputable abbrev rX0_member (d : Nat) : mj_S → mj_R := mj_run cdX0 1 tX0_member (kX0 d)
def zX0_member (p : Nat) : Bool := bif Nat.blt p 73 then (bif Nat.blt p 40 then (bif Nat.beq p 27 then true else false) else (bif Nat.beq p 40 then true else false)) else (bif Nat.blt p 205 then (bif Nat.beq p 73 then true else false) else (bif Nat.blt p 244 then (bif Nat.beq p 205 then true else false) else (bif Nat.beq p 244 then true else false)))
set_option maxRecDepth 100000 in
set_option maxHeartbeats 4000000 in
theorem eX0_member (d : Nat) (a1 : Int32) (a2 : Int32) (a3 : Int32) (x : mj_X) : kX0 (d + 1) 24 [.ref 0, .int a1, .int a2, .int a3] x = mj_rI (kX0 d 2 [.long a1.toInt64, .long (0 : Int64), .long (8 : Int64)] x) fun v2 x1 =>
  
  if v2 = 0 then rX0_member d (40, [some (.ref 0), some (.int a1), some (.int a2), some (.int a3), none, none, none], [.int (0 : Int32)], x1)
  else 
   if a2 = (-1 : Int32) then rX0_member d (27, [some (.ref 0), some (.int a1), some (.int a2), some (.int a3), none, none, none], [], x1)
   else mj_rI (kX0 d 12 [.ref 0, .int a2, .int (86 : Int32)] x1) fun v4 x3 =>
    
    if v4 = 0 then rX0_member d (40, [some (.ref 0), some (.int a1), some (.int a2), some (.int a3), none, none, none], [.int (0 : Int32)], x3)
    else rX0_member d (27, [some (.ref 0), some (.int a1), some (.int a2), some (.int a3), none, none, none], [], x3) := (mj_run_to (cd := cdX0) (rt := 1) (tab := tX0_member) (cal := kX0 d) zX0_member 80 (0, [some (.ref 0), some (.int a1), some (.int a2), some (.int a3), none, none, none], [], x)).trans rfl
set_option maxRecDepth 100000 in
set_option maxHeartbeats 4000000 in
theorem bX0_member_27 (d : Nat) (a1 : Int32) (a2 : Int32) (a3 : Int32) (x : mj_X) : rX0_member d (27, [some (.ref 0), some (.int a1), some (.int a2), some (.int a3), none, none, none], [], x) = mj_rI (kX0 d 18 [.ref 0, .int a3] x) fun v2 x1 =>
  
  if v2 = 0 then rX0_member d (40, [some (.ref 0), some (.int a1), some (.int a2), some (.int a3), none, none, none], [.int (0 : Int32)], x1)
  else rX0_member d (40, [some (.ref 0), some (.int a1), some (.int a2), some (.int a3), none, none, none], [.int (1 : Int32)], x1) := (mj_run_to (cd := cdX0) (rt := 1) (tab := tX0_member) (cal := kX0 d) zX0_member 80 (27, [some (.ref 0), some (.int a1), some (.int a2), some (.int a3), none, none, none], [], x)).trans rfl
set_option maxRecDepth 100000 in
set_option maxHeartbeats 4000000 in
theorem bX0_member_40 (d : Nat) (a1 : Int32) (a2 : Int32) (a3 : Int32) (s0 : Int32) (x : mj_X) : rX0_member d (40, [some (.ref 0), some (.int a1), some (.int a2), some (.int a3), none, none, none], [.int s0], x) = 
  if s0 = 0 then some (some (.int (-1 : Int32)), x)
  else mj_rV (mj_pr cdX0 1006 [.ref 25, .int (0 : Int32), .int (x.1 0 6), .int (0 : Int32)] (mj_wI x 0 26 (0 : Int32))) fun x1 =>
   rX0_member d (73, [some (.ref 0), some (.int a1), some (.int a2), some (.int a3), some (.int s0), some (.int (0 : Int32)), some (.int a2)], [], x1) := (mj_run_to (cd := cdX0) (rt := 1) (tab := tX0_member) (cal := kX0 d) zX0_member 80 (40, [some (.ref 0), some (.int a1), some (.int a2), some (.int a3), none, none, none], [.int s0], x)).trans rfl
set_option maxRecDepth 100000 in
set_option maxHeartbeats 4000000 in
theorem bX0_member_73 (d : Nat) (a1 : Int32) (a2 : Int32) (a3 : Int32) (a4 : Int32) (a5 : Int32) (a6 : Int32) (x : mj_X) : rX0_member d (73, [some (.ref 0), some (.int a1), some (.int a2), some (.int a3), some (.int a4), some (.int a5), some (.int a6)], [], x) = 
  if a6 = (-1 : Int32) then mj_rI (kX0 d 28 [.ref 0, .int a3] x) fun v2 x1 =>
   
   if v2 = 0 then some (some (.int (-2 : Int32)), x1)
   else mj_rI (kX0 d 31 [.ref 0, .int a3, .int (0 : Int32), .int (0 : Int32), .int a1] x1) fun v4 x3 =>
    
    if v4 = 0 then some (some (.int (-3 : Int32)), x3)
    else 
     if (x3.1 0 7) = (40 : Int32) then some (some (.int (-4 : Int32)), x3)
     else 
      if a5 ≤ (255 : Int32) then mj_rV (kX0 d 32 [.ref 0, .int a2, .int a3, .int a1] (mj_wI x3 0 31 (0 : Int32))) fun x5 =>
       
       if (x5.1 0 29) = 0 then mj_rI (kX0 d 95 [.ref 0] x5) fun v7 x6 =>
        
        if v7 = 0 then rX0_member d (205, [some (.ref 0), some (.int a1), some (.int a2), some (.int a3), some (.int a4), some (.int a5), some (.int a6)], [], x6)
        else mj_rV (kX0 d 32 [.ref 0, .int a2, .int a3, .int a1] (mj_wI x6 0 31 (1 : Int32))) fun x8 =>
         rX0_member d (205, [some (.ref 0), some (.int a1), some (.int a2), some (.int a3), some (.int a4), some (.int a5), some (.int a6)], [], x8)
       else rX0_member d (205, [some (.ref 0), some (.int a1), some (.int a2), some (.int a3), some (.int a4), some (.int a5), some (.int a6)], [], x5)
      else some (some (.int (-4 : Int32)), x3)
  else mj_g a6 4000 (mj_rV (kX0 d 25 [.ref 0, .int (x.1 2 a6.toNatClampNeg)] x) fun x9 =>
   mj_g a6 4000 (mj_g (x9.1 2 a6.toNatClampNeg) 4000 (mj_rI (kX0 d 26 [.int (x9.1 4 (x9.1 2 a6.toNatClampNeg).toNatClampNeg)] x9) fun v11 x10 =>
   mj_g a6 4000 (rX0_member d (73, [some (.ref 0), some (.int a1), some (.int a2), some (.int a3), some (.int a4), some (.int (a5 + v11)), some (.int (x10.1 3 a6.toNatClampNeg))], [], x10))))) := (mj_run_to (cd := cdX0) (rt := 1) (tab := tX0_member) (cal := kX0 d) zX0_member 80 (73, [some (.ref 0), some (.int a1), some (.int a2), some (.int a3), some (.int a4), some (.int a5), some (.int a6)], [], x)).trans rfl
set_option maxRecDepth 100000 in
set_option maxHeartbeats 4000000 in
theorem bX0_member_205 (d : Nat) (a1 : Int32) (a2 : Int32) (a3 : Int32) (a4 : Int32) (a5 : Int32) (a6 : Int32) (x : mj_X) : rX0_member d (205, [some (.ref 0), some (.int a1), some (.int a2), some (.int a3), some (.int a4), some (.int a5), some (.int a6)], [], x) = 
  if (x.1 0 29) = 0 then 
   if (x.1 0 30) = 0 then mj_g a3 4000 (
    if a2 = (-1 : Int32) then rX0_member d (244, [some (.ref 0), some (.int a1), some (.int a2), some (.int a3), some (.int a4), some (.int a5), some (.int a6)], [], (mj_wI x 6 a3.toNatClampNeg (1 : Int32)))
    else mj_g a2 4000 (rX0_member d (244, [some (.ref 0), some (.int a1), some (.int a2), some (.int a3), some (.int a4), some (.int a5), some (.int a6)], [], (mj_wI (mj_wI x 6 a3.toNatClampNeg (1 : Int32)) 6 a2.toNatClampNeg (1 : Int32)))))
   else some (some (.int (-5 : Int32)), x)
  else some (some (.int (-4 : Int32)), x) := (mj_run_to (cd := cdX0) (rt := 1) (tab := tX0_member) (cal := kX0 d) zX0_member 80 (205, [some (.ref 0), some (.int a1), some (.int a2), some (.int a3), some (.int a4), some (.int a5), some (.int a6)], [], x)).trans rfl
set_option maxRecDepth 100000 in
set_option maxHeartbeats 4000000 in
theorem bX0_member_244 (d : Nat) (a1 : Int32) (a2 : Int32) (a3 : Int32) (a4 : Int32) (a5 : Int32) (a6 : Int32) (x : mj_X) : rX0_member d (244, [some (.ref 0), some (.int a1), some (.int a2), some (.int a3), some (.int a4), some (.int a5), some (.int a6)], [], x) = mj_g (x.1 0 7) 40 (mj_g (x.1 0 7) 40 (mj_g (x.1 0 7) 40 (mj_rV (kX0 d 96 [.ref 0, .int (x.1 0 7)] (mj_wI (mj_wI (mj_wI (mj_wI x 0 7 ((x.1 0 7) + (1 : Int32))) 9 (x.1 0 7).toNatClampNeg a1) 10 (x.1 0 7).toNatClampNeg a2) 11 (x.1 0 7).toNatClampNeg a3)) fun x1 =>
  some (some (.int (x.1 0 7)), x1)))) := (mj_run_to (cd := cdX0) (rt := 1) (tab := tX0_member) (cal := kX0 d) zX0_member 80 (244, [some (.ref 0), some (.int a1), some (.int a2), some (.int a3), some (.int a4), some (.int a5), some (.int a6)], [], x)).trans rfl
noncomputable abbrev rX0_write (d : Nat) : mj_S → mj_R := mj_run cdX0 0 tX0_write (kX0 d)
def zX0_write (p : Nat) : Bool := bif Nat.beq p 107 then true else false
set_option maxRecDepth 100000 in
set_option maxHeartbeats 4000000 in
theorem eX0_write (d : Nat) (a1 : Int32) (a2 : Int32) (a3 : Int32) (x : mj_X) : kX0 (d + 1) 32 [.ref 0, .int a1, .int a2, .int a3] x = mj_g (x.1 0 7) 41 (mj_g (x.1 0 7) 41 (mj_g (x.1 0 7) 41 (rX0_write d (107, [some (.ref 0), some (.int a1), some (.int a2), some (.int a3), some (.int a1)], [], (mj_wI (mj_wI (mj_wI (mj_wI (mj_wI (mj_wI (mj_wI (mj_wI (mj_wI (mj_wI (mj_wI (mj_wI (mj_wI (mj_wI (mj_wI (mj_wI x 0 28 (0 : Int32)) 0 29 (0 : Int32)) 0 30 (1 : Int32)) 0 32 (0 : Int32)) 0 33 (0 : Int32)) 0 37 (0 : Int32)) 0 38 (-1 : Int32)) 0 42 (0 : Int32)) 0 43 (x.1 17 (x.1 0 7).toNatClampNeg)) 0 44 (1 : Int32)) 0 45 (x.1 21 (x.1 0 7).toNatClampNeg)) 0 46 (x.1 23 (x.1 0 7).toNatClampNeg)) 0 47 (-1 : Int32)) 0 58 (0 : Int32)) 0 59 (-1 : Int32)) 0 65 (0 : Int32)))))) := (mj_run_to (cd := cdX0) (rt := 0) (tab := tX0_write) (cal := kX0 d) zX0_write 65 (0, [some (.ref 0), some (.int a1), some (.int a2), some (.int a3), none], [], x)).trans rfl
set_option maxRecDepth 100000 in
set_option maxHeartbeats 4000000 in
theorem bX0_write_107 (d : Nat) (a1 : Int32) (a2 : Int32) (a3 : Int32) (a4 : Int32) (x : mj_X) : rX0_write d (107, [some (.ref 0), some (.int a1), some (.int a2), some (.int a3), some (.int a4)], [], x) = 
  if a4 = (-1 : Int32) then mj_rV (kX0 d 34 [.ref 0, .int a2] (mj_wI (mj_wI x 0 60 (0 : Int32)) 0 61 (0 : Int32))) fun x1 =>
   
   if a3 = 0 then mj_rV (kX0 d 37 [.ref 0, .int (177 : Int32)] x1) fun x2 =>
    some (none, (mj_wI x2 0 30 (0 : Int32)))
   else some (none, x1)
  else mj_g a4 4000 (mj_g a4 4000 (mj_g (x.1 2 a4.toNatClampNeg) 4000 (mj_rI (kX0 d 33 [.ref 0, .int (x.1 4 (x.1 2 a4.toNatClampNeg).toNatClampNeg)] x) fun v4 x3 =>
   mj_g (x.1 2 a4.toNatClampNeg) 4000 (mj_g a4 4000 (rX0_write d (107, [some (.ref 0), some (.int a1), some (.int a2), some (.int a3), some (.int (x3.1 3 a4.toNatClampNeg))], [], (mj_wI x3 35 (x.1 2 a4.toNatClampNeg).toNatClampNeg v4))))))) := (mj_run_to (cd := cdX0) (rt := 0) (tab := tX0_write) (cal := kX0 d) zX0_write 65 (107, [some (.ref 0), some (.int a1), some (.int a2), some (.int a3), some (.int a4)], [], x)).trans rfl
noncomputable abbrev rX0_take (d : Nat) : mj_S → mj_R := mj_run cdX0 1 tX0_take (kX0 d)
def zX0_take (p : Nat) : Bool := false
set_option maxRecDepth 100000 in
set_option maxHeartbeats 4000000 in
theorem eX0_take (d : Nat) (a1 : Int32) (x : mj_X) : kX0 (d + 1) 33 [.ref 0, .int a1] x = mj_rI (kX0 d 26 [.int a1] x) fun v2 x1 =>
  some (some (.int (x.1 0 32)), (mj_wI (mj_wI x1 0 32 ((x.1 0 32) + v2)) 0 33 (mj_max (x1.1 0 33) ((x.1 0 32) + v2)))) := (mj_run_to (cd := cdX0) (rt := 1) (tab := tX0_take) (cal := kX0 d) zX0_take 21 (0, [some (.ref 0), some (.int a1), none], [], x)).trans rfl
noncomputable abbrev rX0_act (d : Nat) : mj_S → mj_R := mj_run cdX0 0 tX0_act (kX0 d)
def zX0_act (p : Nat) : Bool := bif Nat.blt p 373 then (bif Nat.blt p 271 then (bif Nat.blt p 250 then (bif Nat.blt p 209 then (bif Nat.beq p 200 then true else false) else (bif Nat.beq p 209 then true else false)) else (bif Nat.blt p 263 then (bif Nat.beq p 250 then true else false) else (bif Nat.beq p 263 then true else false))) else (bif Nat.blt p 343 then (bif Nat.blt p 315 then (bif Nat.beq p 271 then true else false) else (bif Nat.beq p 315 then true else false)) else (bif Nat.blt p 363 then (bif Nat.beq p 343 then true else false) else (bif Nat.beq p 363 then true else false)))) else (bif Nat.blt p 453 then (bif Nat.blt p 418 then (bif Nat.blt p 391 then (bif Nat.beq p 373 then true else false) else (bif Nat.beq p 391 then true else false)) else (bif Nat.blt p 429 then (bif Nat.beq p 418 then true else false) else (bif Nat.beq p 429 then true else false))) else (bif Nat.blt p 490 then (bif Nat.blt p 481 then (bif Nat.beq p 453 then true else false) else (bif Nat.beq p 481 then true else false)) else (bif Nat.blt p 499 then (bif Nat.beq p 490 then true else false) else (bif Nat.blt p 506 then (bif Nat.beq p 499 then true else false) else (bif Nat.beq p 506 then true else false)))))
set_option maxRecDepth 100000 in
set_option maxHeartbeats 4000000 in
theorem eX0_act (d : Nat) (a1 : Int32) (x : mj_X) : kX0 (d + 1) 34 [.ref 0, .int a1] x = 
  if (x.1 0 30) = 0 then some (none, x)
  else 
   if (x.1 0 29) = 0 then 
    if (60000 : Int32) < ((x.1 0 60) + (1 : Int32)) then some (none, (mj_wI (mj_wI x 0 60 ((x.1 0 60) + (1 : Int32))) 0 29 (1 : Int32)))
    else 
     if (x.1 0 61) = (200 : Int32) then some (none, (mj_wI (mj_wI x 0 60 ((x.1 0 60) + (1 : Int32))) 0 29 (1 : Int32)))
     else mj_g a1 4000 (mj_g a1 4000 (mj_g a1 4000 (mj_sw (x.1 1 a1.toNatClampNeg) 60 (418) [119, 128, 169, 182, 234, 262, 418, 282, 282, 282, 418, 292, 292, 337, 372, 409, 418, 418, 418, 418, 418, 400, 418, 418, 418, 190] fun off => mj_j 81 off fun t => rX0_act d (t, [some (.ref 0), some (.int a1), some (.int (x.1 2 a1.toNatClampNeg)), some (.int (x.1 3 a1.toNatClampNeg)), none, none, none], [], (mj_wI (mj_wI x 0 60 ((x.1 0 60) + (1 : Int32))) 0 61 ((x.1 0 61) + (1 : Int32)))))))
   else some (none, x) := (mj_run_to (cd := cdX0) (rt := 0) (tab := tX0_act) (cal := kX0 d) zX0_act 67 (0, [some (.ref 0), some (.int a1), none, none, none, none, none], [], x)).trans rfl
set_option maxRecDepth 100000 in
set_option maxHeartbeats 4000000 in
theorem bX0_act_200 (d : Nat) (a1 : Int32) (a2 : Int32) (a3 : Int32) (x : mj_X) : rX0_act d (200, [some (.ref 0), some (.int a1), some (.int a2), some (.int a3), none, none, none], [], x) = mj_rV (kX0 d 35 [.ref 0, .int a2, .int (0 : Int32)] x) fun x1 =>
  rX0_act d (506, [some (.ref 0), some (.int a1), some (.int a2), some (.int a3), none, none, none], [], x1) := (mj_run_to (cd := cdX0) (rt := 0) (tab := tX0_act) (cal := kX0 d) zX0_act 67 (200, [some (.ref 0), some (.int a1), some (.int a2), some (.int a3), none, none, none], [], x)).trans rfl
set_option maxRecDepth 100000 in
set_option maxHeartbeats 4000000 in
theorem bX0_act_209 (d : Nat) (a1 : Int32) (a2 : Int32) (a3 : Int32) (x : mj_X) : rX0_act d (209, [some (.ref 0), some (.int a1), some (.int a2), some (.int a3), none, none, none], [], x) = mj_rV (kX0 d 35 [.ref 0, .int a3, .int (1 : Int32)] x) fun x1 =>
  mj_g a2 4000 (mj_rI (kX0 d 33 [.ref 0, .int (x1.1 4 a2.toNatClampNeg)] x1) fun v3 x2 =>
  mj_g a2 4000 (mj_g a2 4000 (mj_g a2 4000 (mj_rV (kX0 d 39 [.ref 0, .int (x2.1 4 a2.toNatClampNeg), .int ((mj_wI x2 35 a2.toNatClampNeg v3).1 35 a2.toNatClampNeg)] (mj_wI x2 35 a2.toNatClampNeg v3)) fun x4 =>
  rX0_act d (506, [some (.ref 0), some (.int a1), some (.int a2), some (.int a3), none, none, none], [], x4))))) := (mj_run_to (cd := cdX0) (rt := 0) (tab := tX0_act) (cal := kX0 d) zX0_act 67 (209, [some (.ref 0), some (.int a1), some (.int a2), some (.int a3), none, none, none], [], x)).trans rfl
set_option maxRecDepth 100000 in
set_option maxHeartbeats 4000000 in
theorem bX0_act_250 (d : Nat) (a1 : Int32) (a2 : Int32) (a3 : Int32) (x : mj_X) : rX0_act d (250, [some (.ref 0), some (.int a1), some (.int a2), some (.int a3), none, none, none], [], x) = mj_rV (kX0 d 34 [.ref 0, .int a2] x) fun x1 =>
  mj_rV (kX0 d 34 [.ref 0, .int a3] x1) fun x2 =>
  rX0_act d (506, [some (.ref 0), some (.int a1), some (.int a2), some (.int a3), none, none, none], [], x2) := (mj_run_to (cd := cdX0) (rt := 0) (tab := tX0_act) (cal := kX0 d) zX0_act 67 (250, [some (.ref 0), some (.int a1), some (.int a2), some (.int a3), none, none, none], [], x)).trans rfl
set_option maxRecDepth 100000 in
set_option maxHeartbeats 4000000 in
theorem bX0_act_263 (d : Nat) (a1 : Int32) (a2 : Int32) (a3 : Int32) (x : mj_X) : rX0_act d (263, [some (.ref 0), some (.int a1), some (.int a2), some (.int a3), none, none, none], [], x) = mj_rV (kX0 d 75 [.ref 0, .int a2] x) fun x1 =>
  rX0_act d (506, [some (.ref 0), some (.int a1), some (.int a2), some (.int a3), none, none, none], [], x1) := (mj_run_to (cd := cdX0) (rt := 0) (tab := tX0_act) (cal := kX0 d) zX0_act 67 (263, [some (.ref 0), some (.int a1), some (.int a2), some (.int a3), none, none, none], [], x)).trans rfl
set_option maxRecDepth 100000 in
set_option maxHeartbeats 4000000 in
theorem bX0_act_271 (d : Nat) (a1 : Int32) (a2 : Int32) (a3 : Int32) (x : mj_X) : rX0_act d (271, [some (.ref 0), some (.int a1), some (.int a2), some (.int a3), none, none, none], [], x) = mj_rV (kX0 d 34 [.ref 0, .int a3] (mj_wI x 0 47 a2)) fun x1 =>
  
  if (x1.1 0 48) = (x.1 0 48) then rX0_act d (506, [some (.ref 0), some (.int a1), some (.int a2), some (.int a3), some (.int (x.1 0 48)), some (.int (x.1 0 47)), none], [], (mj_wI x1 0 47 (x.1 0 47)))
  else rX0_act d (506, [some (.ref 0), some (.int a1), some (.int a2), some (.int a3), some (.int (x.1 0 48)), some (.int (x.1 0 47)), none], [], (mj_wI x1 0 47 (-1 : Int32))) := (mj_run_to (cd := cdX0) (rt := 0) (tab := tX0_act) (cal := kX0 d) zX0_act 67 (271, [some (.ref 0), some (.int a1), some (.int a2), some (.int a3), none, none, none], [], x)).trans rfl
set_option maxRecDepth 100000 in
set_option maxHeartbeats 4000000 in
theorem bX0_act_315 (d : Nat) (a1 : Int32) (a2 : Int32) (a3 : Int32) (x : mj_X) : rX0_act d (315, [some (.ref 0), some (.int a1), some (.int a2), some (.int a3), none, none, none], [], x) = mj_rI (kX0 d 64 [.ref 0] x) fun v2 x1 =>
  mj_rV (kX0 d 65 [.ref 0, .int a2, .int (0 : Int32), .int v2] x1) fun x3 =>
  mj_rV (kX0 d 75 [.ref 0, .int a3] x3) fun x4 =>
  mj_rV (kX0 d 70 [.ref 0, .int v2] x4) fun x5 =>
  rX0_act d (506, [some (.ref 0), some (.int a1), some (.int a2), some (.int a3), none, none, some (.int v2)], [], x5) := (mj_run_to (cd := cdX0) (rt := 0) (tab := tX0_act) (cal := kX0 d) zX0_act 67 (315, [some (.ref 0), some (.int a1), some (.int a2), some (.int a3), none, none, none], [], x)).trans rfl
set_option maxRecDepth 100000 in
set_option maxHeartbeats 4000000 in
theorem bX0_act_343 (d : Nat) (a1 : Int32) (a2 : Int32) (a3 : Int32) (x : mj_X) : rX0_act d (343, [some (.ref 0), some (.int a1), some (.int a2), some (.int a3), none, none, none], [], x) = mj_g a3 4000 (mj_g a3 4000 (mj_rV (kX0 d 76 [.ref 0, .int a2, .int (x.1 2 a3.toNatClampNeg), .int (x.1 3 a3.toNatClampNeg)] x) fun x1 =>
  rX0_act d (506, [some (.ref 0), some (.int a1), some (.int a2), some (.int a3), none, none, none], [], x1))) := (mj_run_to (cd := cdX0) (rt := 0) (tab := tX0_act) (cal := kX0 d) zX0_act 67 (343, [some (.ref 0), some (.int a1), some (.int a2), some (.int a3), none, none, none], [], x)).trans rfl
set_option maxRecDepth 100000 in
set_option maxHeartbeats 4000000 in
theorem bX0_act_363 (d : Nat) (a1 : Int32) (a2 : Int32) (a3 : Int32) (x : mj_X) : rX0_act d (363, [some (.ref 0), some (.int a1), some (.int a2), some (.int a3), none, none, none], [], x) = mj_rV (kX0 d 77 [.ref 0, .int a1, .int a2, .int a3] x) fun x1 =>
  rX0_act d (506, [some (.ref 0), some (.int a1), some (.int a2), some (.int a3), none, none, none], [], x1) := (mj_run_to (cd := cdX0) (rt := 0) (tab := tX0_act) (cal := kX0 d) zX0_act 67 (363, [some (.ref 0), some (.int a1), some (.int a2), some (.int a3), none, none, none], [], x)).trans rfl
set_option maxRecDepth 100000 in
set_option maxHeartbeats 4000000 in
theorem bX0_act_373 (d : Nat) (a1 : Int32) (a2 : Int32) (a3 : Int32) (x : mj_X) : rX0_act d (373, [some (.ref 0), some (.int a1), some (.int a2), some (.int a3), none, none, none], [], x) = mj_g a1 4000 (
  if (x.1 1 a1.toNatClampNeg) = (72 : Int32) then rX0_act d (391, [some (.ref 0), some (.int a1), some (.int a2), some (.int a3), none, none, none], [.int (1 : Int32), .ref 0, .ref 0], x)
  else rX0_act d (391, [some (.ref 0), some (.int a1), some (.int a2), some (.int a3), none, none, none], [.int (0 : Int32), .ref 0, .ref 0], x)) := (mj_run_to (cd := cdX0) (rt := 0) (tab := tX0_act) (cal := kX0 d) zX0_act 67 (373, [some (.ref 0), some (.int a1), some (.int a2), some (.int a3), none, none, none], [], x)).trans rfl
set_option maxRecDepth 100000 in
set_option maxHeartbeats 4000000 in
theorem bX0_act_391 (d : Nat) (a1 : Int32) (a2 : Int32) (a3 : Int32) (s2 : Int32) (x : mj_X) : rX0_act d (391, [some (.ref 0), some (.int a1), some (.int a2), some (.int a3), none, none, none], [.int s2, .ref 0, .ref 0], x) = mj_rI (kX0 d 80 [.ref 0, .int s2, .int a2] x) fun v2 x1 =>
  mj_g a1 4000 (
  if (x1.1 1 a1.toNatClampNeg) = (72 : Int32) then mj_rV (kX0 d 81 [.ref 0, .int v2, .int (1 : Int32), .int (-1 : Int32)] x1) fun x3 =>
   rX0_act d (506, [some (.ref 0), some (.int a1), some (.int a2), some (.int a3), none, none, none], [], x3)
  else mj_rV (kX0 d 81 [.ref 0, .int v2, .int (0 : Int32), .int (-1 : Int32)] x1) fun x4 =>
   rX0_act d (506, [some (.ref 0), some (.int a1), some (.int a2), some (.int a3), none, none, none], [], x4)) := (mj_run_to (cd := cdX0) (rt := 0) (tab := tX0_act) (cal := kX0 d) zX0_act 67 (391, [some (.ref 0), some (.int a1), some (.int a2), some (.int a3), none, none, none], [.int s2, .ref 0, .ref 0], x)).trans rfl
set_option maxRecDepth 100000 in
set_option maxHeartbeats 4000000 in
theorem bX0_act_418 (d : Nat) (a1 : Int32) (a2 : Int32) (a3 : Int32) (x : mj_X) : rX0_act d (418, [some (.ref 0), some (.int a1), some (.int a2), some (.int a3), none, none, none], [], x) = 
  if a2 = (-1 : Int32) then rX0_act d (429, [some (.ref 0), some (.int a1), some (.int a2), some (.int a3), none, none, none], [], x)
  else mj_rV (kX0 d 35 [.ref 0, .int a2, .int (1 : Int32)] x) fun x1 =>
   rX0_act d (429, [some (.ref 0), some (.int a1), some (.int a2), some (.int a3), none, none, none], [], x1) := (mj_run_to (cd := cdX0) (rt := 0) (tab := tX0_act) (cal := kX0 d) zX0_act 67 (418, [some (.ref 0), some (.int a1), some (.int a2), some (.int a3), none, none, none], [], x)).trans rfl
set_option maxRecDepth 100000 in
set_option maxHeartbeats 4000000 in
theorem bX0_act_429 (d : Nat) (a1 : Int32) (a2 : Int32) (a3 : Int32) (x : mj_X) : rX0_act d (429, [some (.ref 0), some (.int a1), some (.int a2), some (.int a3), none, none, none], [], x) = 
  if a2 = (-1 : Int32) then mj_rV (kX0 d 81 [.ref 0, .int (-1 : Int32), .int (0 : Int32), .int (0 : Int32)] x) fun x1 =>
   rX0_act d (506, [some (.ref 0), some (.int a1), some (.int a2), some (.int a3), none, none, none], [], x1)
  else mj_g a2 4000 (mj_rV (kX0 d 81 [.ref 0, .int (-1 : Int32), .int (0 : Int32), .int (x.1 4 a2.toNatClampNeg)] x) fun x2 =>
   rX0_act d (506, [some (.ref 0), some (.int a1), some (.int a2), some (.int a3), none, none, none], [], x2)) := (mj_run_to (cd := cdX0) (rt := 0) (tab := tX0_act) (cal := kX0 d) zX0_act 67 (429, [some (.ref 0), some (.int a1), some (.int a2), some (.int a3), none, none, none], [], x)).trans rfl
set_option maxRecDepth 100000 in
set_option maxHeartbeats 4000000 in
theorem bX0_act_453 (d : Nat) (a1 : Int32) (a2 : Int32) (a3 : Int32) (x : mj_X) : rX0_act d (453, [some (.ref 0), some (.int a1), some (.int a2), some (.int a3), none, none, none], [], x) = mj_rV (kX0 d 35 [.ref 0, .int a2, .int (1 : Int32)] x) fun x1 =>
  mj_rV (kX0 d 54 [.ref 0, .int (71 : Int32), .long (0 : Int64)] x1) fun x2 =>
  mj_rV (kX0 d 37 [.ref 0, .int (191 : Int32)] x2) fun x3 =>
  rX0_act d (506, [some (.ref 0), some (.int a1), some (.int a2), some (.int a3), none, none, none], [], (mj_wI x3 0 30 (0 : Int32))) := (mj_run_to (cd := cdX0) (rt := 0) (tab := tX0_act) (cal := kX0 d) zX0_act 67 (453, [some (.ref 0), some (.int a1), some (.int a2), some (.int a3), none, none, none], [], x)).trans rfl
set_option maxRecDepth 100000 in
set_option maxHeartbeats 4000000 in
theorem bX0_act_481 (d : Nat) (a1 : Int32) (a2 : Int32) (a3 : Int32) (x : mj_X) : rX0_act d (481, [some (.ref 0), some (.int a1), some (.int a2), some (.int a3), none, none, none], [], x) = mj_rV (kX0 d 84 [.ref 0, .int a2, .int a3] x) fun x1 =>
  rX0_act d (506, [some (.ref 0), some (.int a1), some (.int a2), some (.int a3), none, none, none], [], x1) := (mj_run_to (cd := cdX0) (rt := 0) (tab := tX0_act) (cal := kX0 d) zX0_act 67 (481, [some (.ref 0), some (.int a1), some (.int a2), some (.int a3), none, none, none], [], x)).trans rfl
set_option maxRecDepth 100000 in
set_option maxHeartbeats 4000000 in
theorem bX0_act_490 (d : Nat) (a1 : Int32) (a2 : Int32) (a3 : Int32) (x : mj_X) : rX0_act d (490, [some (.ref 0), some (.int a1), some (.int a2), some (.int a3), none, none, none], [], x) = mj_rV (kX0 d 87 [.ref 0, .int a2, .int a3] x) fun x1 =>
  rX0_act d (506, [some (.ref 0), some (.int a1), some (.int a2), some (.int a3), none, none, none], [], x1) := (mj_run_to (cd := cdX0) (rt := 0) (tab := tX0_act) (cal := kX0 d) zX0_act 67 (490, [some (.ref 0), some (.int a1), some (.int a2), some (.int a3), none, none, none], [], x)).trans rfl
set_option maxRecDepth 100000 in
set_option maxHeartbeats 4000000 in
theorem bX0_act_499 (d : Nat) (a1 : Int32) (a2 : Int32) (a3 : Int32) (x : mj_X) : rX0_act d (499, [some (.ref 0), some (.int a1), some (.int a2), some (.int a3), none, none, none], [], x) = mj_rV (kX0 d 93 [.ref 0, .int a1, .int a2, .int a3] x) fun x1 =>
  rX0_act d (506, [some (.ref 0), some (.int a1), some (.int a2), some (.int a3), none, none, none], [], x1) := (mj_run_to (cd := cdX0) (rt := 0) (tab := tX0_act) (cal := kX0 d) zX0_act 67 (499, [some (.ref 0), some (.int a1), some (.int a2), some (.int a3), none, none, none], [], x)).trans rfl
set_option maxRecDepth 100000 in
set_option maxHeartbeats 4000000 in
theorem bX0_act_506 (d : Nat) (a1 : Int32) (a2 : Int32) (a3 : Int32) (o4 : Option Value) (o5 : Option Value) (o6 : Option Value) (x : mj_X) : rX0_act d (506, [some (.ref 0), some (.int a1), some (.int a2), some (.int a3), o4, o5, o6], [], x) = some (none, (mj_wI x 0 61 ((x.1 0 61) - (1 : Int32)))) := (mj_run_to (cd := cdX0) (rt := 0) (tab := tX0_act) (cal := kX0 d) zX0_act 67 (506, [some (.ref 0), some (.int a1), some (.int a2), some (.int a3), o4, o5, o6], [], x)).trans rfl
noncomputable abbrev rX0_value_2 (d : Nat) : mj_S → mj_R := mj_run cdX0 0 tX0_value_2 (kX0 d)
def zX0_value_2 (p : Nat) : Bool := bif Nat.blt p 176 then (bif Nat.blt p 104 then (bif Nat.blt p 85 then (bif Nat.beq p 64 then true else false) else (bif Nat.beq p 85 then true else false)) else (bif Nat.blt p 152 then (bif Nat.beq p 104 then true else false) else (bif Nat.beq p 152 then true else false))) else (bif Nat.blt p 192 then (bif Nat.blt p 188 then (bif Nat.beq p 176 then true else false) else (bif Nat.beq p 188 then true else false)) else (bif Nat.blt p 246 then (bif Nat.beq p 192 then true else false) else (bif Nat.beq p 246 then true else false)))
set_option maxRecDepth 100000 in
set_option maxHeartbeats 4000000 in
theorem eX0_value_2 (d : Nat) (a1 : Int32) (a2 : Int32) (x : mj_X) : kX0 (d + 1) 35 [.ref 0, .int a1, .int a2] x = mj_g a1 4000 (mj_g a1 4000 (mj_g a1 4000 (mj_lk (x.1 1 a1.toNatClampNeg) (225) [(7, 43), (9, 83), (34, 155), (48, 167)] fun off => mj_j 21 off fun t => rX0_value_2 d (t, [some (.ref 0), some (.int a1), some (.int a2), some (.int (x.1 2 a1.toNatClampNeg)), some (.int (x.1 3 a1.toNatClampNeg)), none], [], x)))) := (mj_run_to (cd := cdX0) (rt := 0) (tab := tX0_value_2) (cal := kX0 d) zX0_value_2 35 (0, [some (.ref 0), some (.int a1), some (.int a2), none, none, none], [], x)).trans rfl
set_option maxRecDepth 100000 in
set_option maxHeartbeats 4000000 in
theorem bX0_value_2_64 (d : Nat) (a1 : Int32) (a2 : Int32) (a3 : Int32) (a4 : Int32) (x : mj_X) : rX0_value_2 d (64, [some (.ref 0), some (.int a1), some (.int a2), some (.int a3), some (.int a4), none], [], x) = mj_rV (kX0 d 35 [.ref 0, .int a4, .int (1 : Int32)] x) fun x1 =>
  
  if a2 = 0 then rX0_value_2 d (85, [some (.ref 0), some (.int a1), some (.int a2), some (.int a3), some (.int a4), none], [], x1)
  else mj_g a1 4000 (mj_rV (kX0 d 36 [.ref 0, .int (x1.1 4 a1.toNatClampNeg)] x1) fun x2 =>
   rX0_value_2 d (85, [some (.ref 0), some (.int a1), some (.int a2), some (.int a3), some (.int a4), none], [], x2)) := (mj_run_to (cd := cdX0) (rt := 0) (tab := tX0_value_2) (cal := kX0 d) zX0_value_2 35 (64, [some (.ref 0), some (.int a1), some (.int a2), some (.int a3), some (.int a4), none], [], x)).trans rfl
set_option maxRecDepth 100000 in
set_option maxHeartbeats 4000000 in
theorem bX0_value_2_85 (d : Nat) (a1 : Int32) (a2 : Int32) (a3 : Int32) (a4 : Int32) (x : mj_X) : rX0_value_2 d (85, [some (.ref 0), some (.int a1), some (.int a2), some (.int a3), some (.int a4), none], [], x) = mj_g a1 4000 (mj_g a3 4000 (mj_rV (kX0 d 39 [.ref 0, .int (x.1 4 a1.toNatClampNeg), .int (x.1 35 a3.toNatClampNeg)] x) fun x1 =>
  some (none, x1))) := (mj_run_to (cd := cdX0) (rt := 0) (tab := tX0_value_2) (cal := kX0 d) zX0_value_2 35 (85, [some (.ref 0), some (.int a1), some (.int a2), some (.int a3), some (.int a4), none], [], x)).trans rfl
set_option maxRecDepth 100000 in
set_option maxHeartbeats 4000000 in
theorem bX0_value_2_104 (d : Nat) (a1 : Int32) (a2 : Int32) (a3 : Int32) (a4 : Int32) (x : mj_X) : rX0_value_2 d (104, [some (.ref 0), some (.int a1), some (.int a2), some (.int a3), some (.int a4), none], [], x) = mj_g a3 4000 (mj_rV (kX0 d 35 [.ref 0, .int (x.1 2 a3.toNatClampNeg), .int (1 : Int32)] x) fun x1 =>
  mj_g a3 4000 (mj_rV (kX0 d 35 [.ref 0, .int (x1.1 3 a3.toNatClampNeg), .int (1 : Int32)] x1) fun x2 =>
  mj_rV (kX0 d 35 [.ref 0, .int a4, .int (1 : Int32)] x2) fun x3 =>
  mj_rV (kX0 d 43 [.ref 0, .int a3] x3) fun x4 =>
  
  if a2 = 0 then rX0_value_2 d (152, [some (.ref 0), some (.int a1), some (.int a2), some (.int a3), some (.int a4), none], [], x4)
  else mj_g a1 4000 (mj_rV (kX0 d 44 [.ref 0, .int (x4.1 4 a1.toNatClampNeg)] x4) fun x5 =>
   rX0_value_2 d (152, [some (.ref 0), some (.int a1), some (.int a2), some (.int a3), some (.int a4), none], [], x5)))) := (mj_run_to (cd := cdX0) (rt := 0) (tab := tX0_value_2) (cal := kX0 d) zX0_value_2 35 (104, [some (.ref 0), some (.int a1), some (.int a2), some (.int a3), some (.int a4), none], [], x)).trans rfl
set_option maxRecDepth 100000 in
set_option maxHeartbeats 4000000 in
theorem bX0_value_2_152 (d : Nat) (a1 : Int32) (a2 : Int32) (a3 : Int32) (a4 : Int32) (x : mj_X) : rX0_value_2 d (152, [some (.ref 0), some (.int a1), some (.int a2), some (.int a3), some (.int a4), none], [], x) = mj_g a3 4000 (mj_g (x.1 2 a3.toNatClampNeg) 4000 (mj_rI (kX0 d 45 [.int (x.1 4 (x.1 2 a3.toNatClampNeg).toNatClampNeg)] x) fun v2 x1 =>
  mj_rV (kX0 d 37 [.ref 0, .int ((79 : Int32) + v2)] x1) fun x3 =>
  some (none, x3))) := (mj_run_to (cd := cdX0) (rt := 0) (tab := tX0_value_2) (cal := kX0 d) zX0_value_2 35 (152, [some (.ref 0), some (.int a1), some (.int a2), some (.int a3), some (.int a4), none], [], x)).trans rfl
set_option maxRecDepth 100000 in
set_option maxHeartbeats 4000000 in
theorem bX0_value_2_176 (d : Nat) (a1 : Int32) (a2 : Int32) (a3 : Int32) (a4 : Int32) (x : mj_X) : rX0_value_2 d (176, [some (.ref 0), some (.int a1), some (.int a2), some (.int a3), some (.int a4), none], [], x) = mj_rV (kX0 d 46 [.ref 0, .int a1, .int a3, .int a4, .int a2] x) fun x1 =>
  some (none, x1) := (mj_run_to (cd := cdX0) (rt := 0) (tab := tX0_value_2) (cal := kX0 d) zX0_value_2 35 (176, [some (.ref 0), some (.int a1), some (.int a2), some (.int a3), some (.int a4), none], [], x)).trans rfl
set_option maxRecDepth 100000 in
set_option maxHeartbeats 4000000 in
theorem bX0_value_2_188 (d : Nat) (a1 : Int32) (a2 : Int32) (a3 : Int32) (a4 : Int32) (x : mj_X) : rX0_value_2 d (188, [some (.ref 0), some (.int a1), some (.int a2), some (.int a3), some (.int a4), none], [], x) = rX0_value_2 d (192, [some (.ref 0), some (.int a1), some (.int a2), some (.int a3), some (.int a4), some (.int a4)], [], x) := (mj_run_to (cd := cdX0) (rt := 0) (tab := tX0_value_2) (cal := kX0 d) zX0_value_2 35 (188, [some (.ref 0), some (.int a1), some (.int a2), some (.int a3), some (.int a4), none], [], x)).trans rfl
set_option maxRecDepth 100000 in
set_option maxHeartbeats 4000000 in
theorem bX0_value_2_192 (d : Nat) (a1 : Int32) (a2 : Int32) (a3 : Int32) (a4 : Int32) (a5 : Int32) (x : mj_X) : rX0_value_2 d (192, [some (.ref 0), some (.int a1), some (.int a2), some (.int a3), some (.int a4), some (.int a5)], [], x) = 
  if a5 = (-1 : Int32) then mj_rV (kX0 d 54 [.ref 0, .int (5 : Int32), .long a3.toInt64] x) fun x1 =>
   
   if a2 = 0 then mj_g a1 4000 (mj_rV (kX0 d 55 [.ref 0, .int (x1.1 4 a1.toNatClampNeg)] x1) fun x2 =>
    some (none, x2))
   else some (none, x1)
  else mj_g a5 4000 (mj_rV (kX0 d 35 [.ref 0, .int (x.1 2 a5.toNatClampNeg), .int (1 : Int32)] x) fun x3 =>
   mj_g a5 4000 (rX0_value_2 d (192, [some (.ref 0), some (.int a1), some (.int a2), some (.int a3), some (.int a4), some (.int (x3.1 3 a5.toNatClampNeg))], [], x3))) := (mj_run_to (cd := cdX0) (rt := 0) (tab := tX0_value_2) (cal := kX0 d) zX0_value_2 35 (192, [some (.ref 0), some (.int a1), some (.int a2), some (.int a3), some (.int a4), some (.int a5)], [], x)).trans rfl
set_option maxRecDepth 100000 in
set_option maxHeartbeats 4000000 in
theorem bX0_value_2_246 (d : Nat) (a1 : Int32) (a2 : Int32) (a3 : Int32) (a4 : Int32) (x : mj_X) : rX0_value_2 d (246, [some (.ref 0), some (.int a1), some (.int a2), some (.int a3), some (.int a4), none], [], x) = mj_g a1 4000 (mj_rI (kX0 d 2 [.long (x.1 1 a1.toNatClampNeg).toInt64, .long (35 : Int64), .long (45 : Int64)] x) fun v2 x1 =>
  
  if v2 = 0 then mj_rV (kX0 d 57 [.ref 0, .int a1, .int a3, .int a4] x1) fun x3 =>
   
   if a2 = 0 then mj_g a1 4000 (mj_rV (kX0 d 55 [.ref 0, .int (x3.1 4 a1.toNatClampNeg)] x3) fun x4 =>
    some (none, x4))
   else some (none, x3)
  else mj_rV (kX0 d 56 [.ref 0, .int a1, .int a3, .int a4, .int a2] x1) fun x5 =>
   some (none, x5)) := (mj_run_to (cd := cdX0) (rt := 0) (tab := tX0_value_2) (cal := kX0 d) zX0_value_2 35 (246, [some (.ref 0), some (.int a1), some (.int a2), some (.int a3), some (.int a4), none], [], x)).trans rfl
noncomputable abbrev rX0_dup (d : Nat) : mj_S → mj_R := mj_run cdX0 0 tX0_dup (kX0 d)
def zX0_dup (p : Nat) : Bool := false
set_option maxRecDepth 100000 in
set_option maxHeartbeats 4000000 in
theorem eX0_dup (d : Nat) (a1 : Int32) (x : mj_X) : kX0 (d + 1) 36 [.ref 0, .int a1] x = mj_rI (kX0 d 27 [.int a1] x) fun v2 x1 =>
  
  if v2 = 0 then mj_rV (kX0 d 37 [.ref 0, .int (89 : Int32)] x1) fun x3 =>
   some (none, x3)
  else mj_rV (kX0 d 37 [.ref 0, .int (92 : Int32)] x1) fun x4 =>
   some (none, x4) := (mj_run_to (cd := cdX0) (rt := 0) (tab := tX0_dup) (cal := kX0 d) zX0_dup 13 (0, [some (.ref 0), some (.int a1)], [], x)).trans rfl
noncomputable abbrev rX0_code (d : Nat) : mj_S → mj_R := mj_run cdX0 0 tX0_code (kX0 d)
def zX0_code (p : Nat) : Bool := bif Nat.blt p 141 then (bif Nat.beq p 68 then true else false) else (bif Nat.beq p 141 then true else false)
set_option maxRecDepth 100000 in
set_option maxHeartbeats 4000000 in
theorem eX0_code (d : Nat) (a1 : Int32) (x : mj_X) : kX0 (d + 1) 37 [.ref 0, .int a1] x = 
  if (x.1 0 30) = 0 then rX0_code d (141, [some (.ref 0), some (.int a1)], [], x)
  else 
   if (x.1 0 29) = 0 then 
    if (x.1 0 47) = (-1 : Int32) then rX0_code d (141, [some (.ref 0), some (.int a1)], [], x)
    else mj_g (x.1 0 7) 41 (
     if (x.1 0 46) ≤ (x.1 23 (x.1 0 7).toNatClampNeg) then rX0_code d (68, [some (.ref 0), some (.int a1)], [], x)
     else mj_g (((2 : Int32) * (x.1 0 46)) - (2 : Int32)) 40000 (
      if (x.1 24 (((2 : Int32) * (x.1 0 46)) - (2 : Int32)).toNatClampNeg) = (x.1 0 28) then rX0_code d (68, [some (.ref 0), some (.int a1)], [], (mj_wI x 0 46 ((x.1 0 46) - (1 : Int32))))
      else rX0_code d (68, [some (.ref 0), some (.int a1)], [], x)))
   else rX0_code d (141, [some (.ref 0), some (.int a1)], [], x) := (mj_run_to (cd := cdX0) (rt := 0) (tab := tX0_code) (cal := kX0 d) zX0_code 46 (0, [some (.ref 0), some (.int a1)], [], x)).trans rfl
set_option maxRecDepth 100000 in
set_option maxHeartbeats 4000000 in
theorem bX0_code_68 (d : Nat) (a1 : Int32) (x : mj_X) : rX0_code d (68, [some (.ref 0), some (.int a1)], [], x) = 
  if (x.1 0 46) = (20000 : Int32) then some (none, (mj_wI x 0 29 (1 : Int32)))
  else mj_g ((2 : Int32) * (x.1 0 46)) 40000 (mj_g (((2 : Int32) * (x.1 0 46)) + (1 : Int32)) 40000 (rX0_code d (141, [some (.ref 0), some (.int a1)], [], (mj_wI (mj_wI (mj_wI (mj_wI (mj_wI x 24 ((2 : Int32) * (x.1 0 46)).toNatClampNeg (x.1 0 28)) 24 (((2 : Int32) * (x.1 0 46)) + (1 : Int32)).toNatClampNeg (x.1 0 47)) 0 46 ((x.1 0 46) + (1 : Int32))) 0 48 ((x.1 0 48) + (1 : Int32))) 0 47 (-1 : Int32))))) := (mj_run_to (cd := cdX0) (rt := 0) (tab := tX0_code) (cal := kX0 d) zX0_code 46 (68, [some (.ref 0), some (.int a1)], [], x)).trans rfl
set_option maxRecDepth 100000 in
set_option maxHeartbeats 4000000 in
theorem bX0_code_141 (d : Nat) (a1 : Int32) (x : mj_X) : rX0_code d (141, [some (.ref 0), some (.int a1)], [], x) = mj_rV (kX0 d 38 [.ref 0, .int a1] x) fun x1 =>
  some (none, x1) := (mj_run_to (cd := cdX0) (rt := 0) (tab := tX0_code) (cal := kX0 d) zX0_code 46 (141, [some (.ref 0), some (.int a1)], [], x)).trans rfl
noncomputable abbrev rX0_emit (d : Nat) : mj_S → mj_R := mj_run cdX0 0 tX0_emit (kX0 d)
def zX0_emit (p : Nat) : Bool := false
set_option maxRecDepth 100000 in
set_option maxHeartbeats 4000000 in
theorem eX0_emit (d : Nat) (a1 : Int32) (x : mj_X) : kX0 (d + 1) 38 [.ref 0, .int a1] x = 
  if (x.1 0 30) = 0 then some (none, x)
  else 
   if (x.1 0 29) = 0 then 
    if (65535 : Int32) ≤ (x.1 0 28) then some (none, (mj_wI x 0 29 (1 : Int32)))
    else mj_g (x.1 0 7) 41 (
     if ((x.1 12 (x.1 0 7).toNatClampNeg) + (x.1 0 28)) < (90000 : Int32) then mj_g (x.1 0 28) 65551 (some (none, (mj_wI (mj_wI x 0 28 ((x.1 0 28) + (1 : Int32))) 28 (x.1 0 28).toNatClampNeg a1.toInt8.toInt32.toInt8.toInt32)))
     else some (none, (mj_wI x 0 29 (1 : Int32))))
   else some (none, x) := (mj_run_to (cd := cdX0) (rt := 0) (tab := tX0_emit) (cal := kX0 d) zX0_emit 45 (0, [some (.ref 0), some (.int a1)], [], x)).trans rfl
noncomputable abbrev rX0_store (d : Nat) : mj_S → mj_R := mj_run cdX0 0 tX0_store (kX0 d)
def zX0_store (p : Nat) : Bool := false
set_option maxRecDepth 100000 in
set_option maxHeartbeats 4000000 in
theorem eX0_store (d : Nat) (a1 : Int32) (a2 : Int32) (x : mj_X) : kX0 (d + 1) 39 [.ref 0, .int a1, .int a2] x = mj_rV (kX0 d 40 [.ref 0, .int (54 : Int32), .int (59 : Int32), .int a1, .int a2] x) fun x1 =>
  some (none, x1) := (mj_run_to (cd := cdX0) (rt := 0) (tab := tX0_store) (cal := kX0 d) zX0_store 9 (0, [some (.ref 0), some (.int a1), some (.int a2)], [], x)).trans rfl
noncomputable abbrev rX0_access (d : Nat) : mj_S → mj_R := mj_run cdX0 0 tX0_access (kX0 d)
def zX0_access (p : Nat) : Bool := false
set_option maxRecDepth 100000 in
set_option maxHeartbeats 4000000 in
theorem eX0_access (d : Nat) (a1 : Int32) (a2 : Int32) (a3 : Int32) (a4 : Int32) (x : mj_X) : kX0 (d + 1) 40 [.ref 0, .int a1, .int a2, .int a3, .int a4] x = mj_rI (kX0 d 41 [.int a3] x) fun v2 x1 =>
  
  if (3 : Int32) < a4 then 
   if (256 : Int32) ≤ a4 then mj_rV (kX0 d 37 [.ref 0, .int (196 : Int32)] x1) fun x3 =>
    mj_rV (kX0 d 38 [.ref 0, .int (a1 + v2)] x3) fun x4 =>
    mj_rV (kX0 d 42 [.ref 0, .int a4] x4) fun x5 =>
    some (none, x5)
   else mj_rV (kX0 d 37 [.ref 0, .int (a1 + v2)] x1) fun x6 =>
    mj_rV (kX0 d 38 [.ref 0, .int a4] x6) fun x7 =>
    some (none, x7)
  else mj_rV (kX0 d 37 [.ref 0, .int ((a2 + ((4 : Int32) * v2)) + a4)] x1) fun x8 =>
   some (none, x8) := (mj_run_to (cd := cdX0) (rt := 0) (tab := tX0_access) (cal := kX0 d) zX0_access 44 (0, [some (.ref 0), some (.int a1), some (.int a2), some (.int a3), some (.int a4), none], [], x)).trans rfl
noncomputable abbrev rX0_letterOf (d : Nat) : mj_S → mj_R := mj_run cdX0 1 tX0_letterOf (kX0 d)
def zX0_letterOf (p : Nat) : Bool := false
set_option maxRecDepth 100000 in
set_option maxHeartbeats 4000000 in
theorem eX0_letterOf (d : Nat) (a0 : Int32) (x : mj_X) : kX0 (d + 1) 41 [.int a0] x = 
  if a0 < (5 : Int32) then some (some (.int (a0 - (1 : Int32))), x)
  else some (some (.int (4 : Int32)), x) := (mj_run_to (cd := cdX0) (rt := 1) (tab := tX0_letterOf) (cal := kX0 d) zX0_letterOf 12 (0, [some (.int a0)], [], x)).trans rfl
noncomputable abbrev rX0_two (d : Nat) : mj_S → mj_R := mj_run cdX0 0 tX0_two (kX0 d)
def zX0_two (p : Nat) : Bool := false
set_option maxRecDepth 100000 in
set_option maxHeartbeats 4000000 in
theorem eX0_two (d : Nat) (a1 : Int32) (x : mj_X) : kX0 (d + 1) 42 [.ref 0, .int a1] x = mj_rV (kX0 d 38 [.ref 0, .int (a1 >>> ((8 : Int32) &&& 31))] x) fun x1 =>
  mj_rV (kX0 d 38 [.ref 0, .int a1] x1) fun x2 =>
  some (none, x2) := (mj_run_to (cd := cdX0) (rt := 0) (tab := tX0_two) (cal := kX0 d) zX0_two 11 (0, [some (.ref 0), some (.int a1)], [], x)).trans rfl
noncomputable abbrev rX0_cutByte (d : Nat) : mj_S → mj_R := mj_run cdX0 0 tX0_cutByte (kX0 d)
def zX0_cutByte (p : Nat) : Bool := false
set_option maxRecDepth 100000 in
set_option maxHeartbeats 4000000 in
theorem eX0_cutByte (d : Nat) (a1 : Int32) (x : mj_X) : kX0 (d + 1) 43 [.ref 0, .int a1] x = mj_g a1 4000 (mj_g (x.1 2 a1.toNatClampNeg) 4000 (
  if (x.1 4 (x.1 2 a1.toNatClampNeg).toNatClampNeg) = (5 : Int32) then mj_rV (kX0 d 37 [.ref 0, .int (145 : Int32)] x) fun x1 =>
   some (none, x1)
  else some (none, x))) := (mj_run_to (cd := cdX0) (rt := 0) (tab := tX0_cutByte) (cal := kX0 d) zX0_cutByte 16 (0, [some (.ref 0), some (.int a1)], [], x)).trans rfl
noncomputable abbrev rX0_dupUnder (d : Nat) : mj_S → mj_R := mj_run cdX0 0 tX0_dupUnder (kX0 d)
def zX0_dupUnder (p : Nat) : Bool := false
set_option maxRecDepth 100000 in
set_option maxHeartbeats 4000000 in
theorem eX0_dupUnder (d : Nat) (a1 : Int32) (x : mj_X) : kX0 (d + 1) 44 [.ref 0, .int a1] x = mj_rI (kX0 d 27 [.int a1] x) fun v2 x1 =>
  
  if v2 = 0 then mj_rV (kX0 d 37 [.ref 0, .int (91 : Int32)] x1) fun x3 =>
   some (none, x3)
  else mj_rV (kX0 d 37 [.ref 0, .int (94 : Int32)] x1) fun x4 =>
   some (none, x4) := (mj_run_to (cd := cdX0) (rt := 0) (tab := tX0_dupUnder) (cal := kX0 d) zX0_dupUnder 13 (0, [some (.ref 0), some (.int a1)], [], x)).trans rfl
noncomputable abbrev rX0_arrayLetter (d : Nat) : mj_S → mj_R := mj_run cdX0 1 tX0_arrayLetter (kX0 d)
def zX0_arrayLetter (p : Nat) : Bool := false
set_option maxRecDepth 100000 in
set_option maxHeartbeats 4000000 in
theorem eX0_arrayLetter (d : Nat) (a0 : Int32) (x : mj_X) : kX0 (d + 1) 45 [.int a0] x = 
  if a0 = (5 : Int32) then some (some (.int (5 : Int32)), x)
  else 
   if a0 = (6 : Int32) then some (some (.int (0 : Int32)), x)
   else 
    if a0 = (7 : Int32) then some (some (.int (1 : Int32)), x)
    else some (some (.int (3 : Int32)), x) := (mj_run_to (cd := cdX0) (rt := 1) (tab := tX0_arrayLetter) (cal := kX0 d) zX0_arrayLetter 22 (0, [some (.int a0)], [], x)).trans rfl
noncomputable abbrev rX0_step (d : Nat) : mj_S → mj_R := mj_run cdX0 0 tX0_step (kX0 d)
def zX0_step (p : Nat) : Bool := bif Nat.blt p 97 then (bif Nat.blt p 33 then (bif Nat.beq p 21 then true else false) else (bif Nat.blt p 82 then (bif Nat.beq p 33 then true else false) else (bif Nat.beq p 82 then true else false))) else (bif Nat.blt p 205 then (bif Nat.blt p 142 then (bif Nat.beq p 97 then true else false) else (bif Nat.beq p 142 then true else false)) else (bif Nat.blt p 243 then (bif Nat.beq p 205 then true else false) else (bif Nat.beq p 243 then true else false)))
set_option maxRecDepth 100000 in
set_option maxHeartbeats 4000000 in
theorem eX0_step (d : Nat) (a1 : Int32) (a2 : Int32) (a3 : Int32) (a4 : Int32) (x : mj_X) : kX0 (d + 1) 46 [.ref 0, .int a1, .int a2, .int a3, .int a4] x = mj_g a1 4000 (
  if (a3 - a3 / (2 : Int32) * (2 : Int32)) = 0 then rX0_step d (21, [some (.ref 0), some (.int a1), some (.int a2), some (.int a3), some (.int a4), some (.int (x.1 4 a1.toNatClampNeg)), none, none, none], [.int (10 : Int32)], x)
  else rX0_step d (21, [some (.ref 0), some (.int a1), some (.int a2), some (.int a3), some (.int a4), some (.int (x.1 4 a1.toNatClampNeg)), none, none, none], [.int (11 : Int32)], x)) := (mj_run_to (cd := cdX0) (rt := 0) (tab := tX0_step) (cal := kX0 d) zX0_step 58 (0, [some (.ref 0), some (.int a1), some (.int a2), some (.int a3), some (.int a4), none, none, none, none], [], x)).trans rfl
set_option maxRecDepth 100000 in
set_option maxHeartbeats 4000000 in
theorem bX0_step_21 (d : Nat) (a1 : Int32) (a2 : Int32) (a3 : Int32) (a4 : Int32) (a5 : Int32) (s0 : Int32) (x : mj_X) : rX0_step d (21, [some (.ref 0), some (.int a1), some (.int a2), some (.int a3), some (.int a4), some (.int a5), none, none, none], [.int s0], x) = 
  if a3 < (2 : Int32) then rX0_step d (33, [some (.ref 0), some (.int a1), some (.int a2), some (.int a3), some (.int a4), some (.int a5), some (.int s0), none, none], [.int (0 : Int32)], x)
  else rX0_step d (33, [some (.ref 0), some (.int a1), some (.int a2), some (.int a3), some (.int a4), some (.int a5), some (.int s0), none, none], [.int (1 : Int32)], x) := (mj_run_to (cd := cdX0) (rt := 0) (tab := tX0_step) (cal := kX0 d) zX0_step 58 (21, [some (.ref 0), some (.int a1), some (.int a2), some (.int a3), some (.int a4), some (.int a5), none, none, none], [.int s0], x)).trans rfl
set_option maxRecDepth 100000 in
set_option maxHeartbeats 4000000 in
theorem bX0_step_33 (d : Nat) (a1 : Int32) (a2 : Int32) (a3 : Int32) (a4 : Int32) (a5 : Int32) (a6 : Int32) (s0 : Int32) (x : mj_X) : rX0_step d (33, [some (.ref 0), some (.int a1), some (.int a2), some (.int a3), some (.int a4), some (.int a5), some (.int a6), none, none], [.int s0], x) = mj_g a2 4000 (
  if (x.1 1 a2.toNatClampNeg) = (6 : Int32) then mj_g a2 4000 (mj_g (x.1 2 a2.toNatClampNeg) 4000 (
   if a5 = (1 : Int32) then 
    if a4 = 0 then rX0_step d (82, [some (.ref 0), some (.int a1), some (.int a2), some (.int a3), some (.int a4), some (.int a5), some (.int a6), some (.int s0), some (.int (x.1 35 (x.1 2 a2.toNatClampNeg).toNatClampNeg))], [], x)
    else 
     if s0 = 0 then rX0_step d (82, [some (.ref 0), some (.int a1), some (.int a2), some (.int a3), some (.int a4), some (.int a5), some (.int a6), some (.int s0), some (.int (x.1 35 (x.1 2 a2.toNatClampNeg).toNatClampNeg))], [], x)
     else mj_rV (kX0 d 47 [.ref 0, .int (1 : Int32), .int (x.1 35 (x.1 2 a2.toNatClampNeg).toNatClampNeg)] x) fun x1 =>
      rX0_step d (82, [some (.ref 0), some (.int a1), some (.int a2), some (.int a3), some (.int a4), some (.int a5), some (.int a6), some (.int s0), some (.int (x.1 35 (x.1 2 a2.toNatClampNeg).toNatClampNeg))], [], x1)
   else mj_rV (kX0 d 47 [.ref 0, .int a5, .int (x.1 35 (x.1 2 a2.toNatClampNeg).toNatClampNeg)] x) fun x2 =>
    
    if a4 = 0 then rX0_step d (142, [some (.ref 0), some (.int a1), some (.int a2), some (.int a3), some (.int a4), some (.int a5), some (.int a6), some (.int s0), some (.int (x.1 35 (x.1 2 a2.toNatClampNeg).toNatClampNeg))], [], x2)
    else 
     if s0 = 0 then rX0_step d (142, [some (.ref 0), some (.int a1), some (.int a2), some (.int a3), some (.int a4), some (.int a5), some (.int a6), some (.int s0), some (.int (x.1 35 (x.1 2 a2.toNatClampNeg).toNatClampNeg))], [], x2)
     else mj_rV (kX0 d 36 [.ref 0, .int a5] x2) fun x3 =>
      rX0_step d (142, [some (.ref 0), some (.int a1), some (.int a2), some (.int a3), some (.int a4), some (.int a5), some (.int a6), some (.int s0), some (.int (x.1 35 (x.1 2 a2.toNatClampNeg).toNatClampNeg))], [], x3)))
  else mj_rV (kX0 d 53 [.ref 0, .int a2] x) fun x4 =>
   
   if a4 = 0 then rX0_step d (205, [some (.ref 0), some (.int a1), some (.int a2), some (.int a3), some (.int a4), some (.int a5), some (.int a6), some (.int s0), none], [], x4)
   else 
    if s0 = 0 then rX0_step d (205, [some (.ref 0), some (.int a1), some (.int a2), some (.int a3), some (.int a4), some (.int a5), some (.int a6), some (.int s0), none], [], x4)
    else mj_rV (kX0 d 44 [.ref 0, .int a5] x4) fun x5 =>
     rX0_step d (205, [some (.ref 0), some (.int a1), some (.int a2), some (.int a3), some (.int a4), some (.int a5), some (.int a6), some (.int s0), none], [], x5)) := (mj_run_to (cd := cdX0) (rt := 0) (tab := tX0_step) (cal := kX0 d) zX0_step 58 (33, [some (.ref 0), some (.int a1), some (.int a2), some (.int a3), some (.int a4), some (.int a5), some (.int a6), none, none], [.int s0], x)).trans rfl
set_option maxRecDepth 100000 in
set_option maxHeartbeats 4000000 in
theorem bX0_step_82 (d : Nat) (a1 : Int32) (a2 : Int32) (a3 : Int32) (a4 : Int32) (a5 : Int32) (a6 : Int32) (a7 : Int32) (a8 : Int32) (x : mj_X) : rX0_step d (82, [some (.ref 0), some (.int a1), some (.int a2), some (.int a3), some (.int a4), some (.int a5), some (.int a6), some (.int a7), some (.int a8)], [], x) = 
  if a6 = (10 : Int32) then rX0_step d (97, [some (.ref 0), some (.int a1), some (.int a2), some (.int a3), some (.int a4), some (.int a5), some (.int a6), some (.int a7), some (.int a8)], [.int (1 : Int32), .int a8, .ref 0], x)
  else rX0_step d (97, [some (.ref 0), some (.int a1), some (.int a2), some (.int a3), some (.int a4), some (.int a5), some (.int a6), some (.int a7), some (.int a8)], [.int (-1 : Int32), .int a8, .ref 0], x) := (mj_run_to (cd := cdX0) (rt := 0) (tab := tX0_step) (cal := kX0 d) zX0_step 58 (82, [some (.ref 0), some (.int a1), some (.int a2), some (.int a3), some (.int a4), some (.int a5), some (.int a6), some (.int a7), some (.int a8)], [], x)).trans rfl
set_option maxRecDepth 100000 in
set_option maxHeartbeats 4000000 in
theorem bX0_step_97 (d : Nat) (a1 : Int32) (a2 : Int32) (a3 : Int32) (a4 : Int32) (a5 : Int32) (a6 : Int32) (a7 : Int32) (a8 : Int32) (s1 : Int32) (s2 : Int32) (x : mj_X) : rX0_step d (97, [some (.ref 0), some (.int a1), some (.int a2), some (.int a3), some (.int a4), some (.int a5), some (.int a6), some (.int a7), some (.int a8)], [.int s2, .int s1, .ref 0], x) = mj_rV (kX0 d 48 [.ref 0, .int s1, .int s2] x) fun x1 =>
  
  if a4 = 0 then some (none, x1)
  else 
   if a7 = 0 then mj_rV (kX0 d 47 [.ref 0, .int (1 : Int32), .int a8] x1) fun x2 =>
    some (none, x2)
   else some (none, x1) := (mj_run_to (cd := cdX0) (rt := 0) (tab := tX0_step) (cal := kX0 d) zX0_step 58 (97, [some (.ref 0), some (.int a1), some (.int a2), some (.int a3), some (.int a4), some (.int a5), some (.int a6), some (.int a7), some (.int a8)], [.int s2, .int s1, .ref 0], x)).trans rfl
set_option maxRecDepth 100000 in
set_option maxHeartbeats 4000000 in
theorem bX0_step_142 (d : Nat) (a1 : Int32) (a2 : Int32) (a3 : Int32) (a4 : Int32) (a5 : Int32) (a6 : Int32) (a7 : Int32) (a8 : Int32) (x : mj_X) : rX0_step d (142, [some (.ref 0), some (.int a1), some (.int a2), some (.int a3), some (.int a4), some (.int a5), some (.int a6), some (.int a7), some (.int a8)], [], x) = mj_rV (kX0 d 49 [.ref 0, .int a5] x) fun x1 =>
  mj_rI (kX0 d 52 [.int a6, .int a5] x1) fun v3 x2 =>
  mj_rV (kX0 d 37 [.ref 0, .int v3] x2) fun x4 =>
  
  if a4 = 0 then mj_rV (kX0 d 39 [.ref 0, .int a5, .int a8] x4) fun x5 =>
   some (none, x5)
  else 
   if a7 = 0 then mj_rV (kX0 d 36 [.ref 0, .int a5] x4) fun x6 =>
    mj_rV (kX0 d 39 [.ref 0, .int a5, .int a8] x6) fun x7 =>
    some (none, x7)
   else mj_rV (kX0 d 39 [.ref 0, .int a5, .int a8] x4) fun x8 =>
    some (none, x8) := (mj_run_to (cd := cdX0) (rt := 0) (tab := tX0_step) (cal := kX0 d) zX0_step 58 (142, [some (.ref 0), some (.int a1), some (.int a2), some (.int a3), some (.int a4), some (.int a5), some (.int a6), some (.int a7), some (.int a8)], [], x)).trans rfl
set_option maxRecDepth 100000 in
set_option maxHeartbeats 4000000 in
theorem bX0_step_205 (d : Nat) (a1 : Int32) (a2 : Int32) (a3 : Int32) (a4 : Int32) (a5 : Int32) (a6 : Int32) (a7 : Int32) (x : mj_X) : rX0_step d (205, [some (.ref 0), some (.int a1), some (.int a2), some (.int a3), some (.int a4), some (.int a5), some (.int a6), some (.int a7), none], [], x) = mj_rV (kX0 d 49 [.ref 0, .int a5] x) fun x1 =>
  mj_rI (kX0 d 52 [.int a6, .int a5] x1) fun v3 x2 =>
  mj_rV (kX0 d 37 [.ref 0, .int v3] x2) fun x4 =>
  mj_rV (kX0 d 43 [.ref 0, .int a2] x4) fun x5 =>
  
  if a4 = 0 then rX0_step d (243, [some (.ref 0), some (.int a1), some (.int a2), some (.int a3), some (.int a4), some (.int a5), some (.int a6), some (.int a7), none], [], x5)
  else 
   if a7 = 0 then mj_rV (kX0 d 44 [.ref 0, .int a5] x5) fun x6 =>
    rX0_step d (243, [some (.ref 0), some (.int a1), some (.int a2), some (.int a3), some (.int a4), some (.int a5), some (.int a6), some (.int a7), none], [], x6)
   else rX0_step d (243, [some (.ref 0), some (.int a1), some (.int a2), some (.int a3), some (.int a4), some (.int a5), some (.int a6), some (.int a7), none], [], x5) := (mj_run_to (cd := cdX0) (rt := 0) (tab := tX0_step) (cal := kX0 d) zX0_step 58 (205, [some (.ref 0), some (.int a1), some (.int a2), some (.int a3), some (.int a4), some (.int a5), some (.int a6), some (.int a7), none], [], x)).trans rfl
set_option maxRecDepth 100000 in
set_option maxHeartbeats 4000000 in
theorem bX0_step_243 (d : Nat) (a1 : Int32) (a2 : Int32) (a3 : Int32) (a4 : Int32) (a5 : Int32) (a6 : Int32) (a7 : Int32) (x : mj_X) : rX0_step d (243, [some (.ref 0), some (.int a1), some (.int a2), some (.int a3), some (.int a4), some (.int a5), some (.int a6), some (.int a7), none], [], x) = mj_g a2 4000 (mj_g (x.1 2 a2.toNatClampNeg) 4000 (mj_rI (kX0 d 45 [.int (x.1 4 (x.1 2 a2.toNatClampNeg).toNatClampNeg)] x) fun v2 x1 =>
  mj_rV (kX0 d 37 [.ref 0, .int ((79 : Int32) + v2)] x1) fun x3 =>
  some (none, x3))) := (mj_run_to (cd := cdX0) (rt := 0) (tab := tX0_step) (cal := kX0 d) zX0_step 58 (243, [some (.ref 0), some (.int a1), some (.int a2), some (.int a3), some (.int a4), some (.int a5), some (.int a6), some (.int a7), none], [], x)).trans rfl
noncomputable abbrev rX0_load (d : Nat) : mj_S → mj_R := mj_run cdX0 0 tX0_load (kX0 d)
def zX0_load (p : Nat) : Bool := false
set_option maxRecDepth 100000 in
set_option maxHeartbeats 4000000 in
theorem eX0_load (d : Nat) (a1 : Int32) (a2 : Int32) (x : mj_X) : kX0 (d + 1) 47 [.ref 0, .int a1, .int a2] x = mj_rV (kX0 d 40 [.ref 0, .int (21 : Int32), .int (26 : Int32), .int a1, .int a2] x) fun x1 =>
  some (none, x1) := (mj_run_to (cd := cdX0) (rt := 0) (tab := tX0_load) (cal := kX0 d) zX0_load 9 (0, [some (.ref 0), some (.int a1), some (.int a2)], [], x)).trans rfl
noncomputable abbrev rX0_grow (d : Nat) : mj_S → mj_R := mj_run cdX0 0 tX0_grow (kX0 d)
def zX0_grow (p : Nat) : Bool := bif Nat.beq p 41 then true else false
set_option maxRecDepth 100000 in
set_option maxHeartbeats 4000000 in
theorem eX0_grow (d : Nat) (a1 : Int32) (a2 : Int32) (x : mj_X) : kX0 (d + 1) 48 [.ref 0, .int a1, .int a2] x = 
  if (256 : Int32) ≤ a1 then rX0_grow d (41, [some (.ref 0), some (.int a1), some (.int a2)], [], x)
  else mj_rI (kX0 d 2 [.long a2.toInt64, .long (-128 : Int64), .long (127 : Int64)] x) fun v2 x1 =>
   
   if v2 = 0 then rX0_grow d (41, [some (.ref 0), some (.int a1), some (.int a2)], [], x1)
   else mj_rV (kX0 d 37 [.ref 0, .int (132 : Int32)] x1) fun x3 =>
    mj_rV (kX0 d 38 [.ref 0, .int a1] x3) fun x4 =>
    mj_rV (kX0 d 38 [.ref 0, .int a2] x4) fun x5 =>
    some (none, x5) := (mj_run_to (cd := cdX0) (rt := 0) (tab := tX0_grow) (cal := kX0 d) zX0_grow 24 (0, [some (.ref 0), some (.int a1), some (.int a2)], [], x)).trans rfl
set_option maxRecDepth 100000 in
set_option maxHeartbeats 4000000 in
theorem bX0_grow_41 (d : Nat) (a1 : Int32) (a2 : Int32) (x : mj_X) : rX0_grow d (41, [some (.ref 0), some (.int a1), some (.int a2)], [], x) = mj_rV (kX0 d 37 [.ref 0, .int (196 : Int32)] x) fun x1 =>
  mj_rV (kX0 d 38 [.ref 0, .int (132 : Int32)] x1) fun x2 =>
  mj_rV (kX0 d 42 [.ref 0, .int a1] x2) fun x3 =>
  mj_rV (kX0 d 42 [.ref 0, .int a2] x3) fun x4 =>
  some (none, x4) := (mj_run_to (cd := cdX0) (rt := 0) (tab := tX0_grow) (cal := kX0 d) zX0_grow 24 (41, [some (.ref 0), some (.int a1), some (.int a2)], [], x)).trans rfl
noncomputable abbrev rX0_one (d : Nat) : mj_S → mj_R := mj_run cdX0 0 tX0_one (kX0 d)
def zX0_one (p : Nat) : Bool := false
set_option maxRecDepth 100000 in
set_option maxHeartbeats 4000000 in
theorem eX0_one (d : Nat) (a1 : Int32) (x : mj_X) : kX0 (d + 1) 49 [.ref 0, .int a1] x = 
  if a1 = (3 : Int32) then mj_rV (kX0 d 50 [.ref 0, .int a1, .long (1065353216 : Int64)] x) fun x1 =>
   some (none, x1)
  else 
   if a1 = (4 : Int32) then mj_rV (kX0 d 50 [.ref 0, .int a1, .long (4607182418800017408 : Int64)] x) fun x2 =>
    some (none, x2)
   else mj_rV (kX0 d 50 [.ref 0, .int a1, .long (1 : Int64)] x) fun x3 =>
    some (none, x3) := (mj_run_to (cd := cdX0) (rt := 0) (tab := tX0_one) (cal := kX0 d) zX0_one 21 (0, [some (.ref 0), some (.int a1)], [], x)).trans rfl
noncomputable abbrev rX0_constant (d : Nat) : mj_S → mj_R := mj_run cdX0 0 tX0_constant (kX0 d)
def zX0_constant (p : Nat) : Bool := bif Nat.blt p 200 then (bif Nat.blt p 151 then (bif Nat.beq p 111 then true else false) else (bif Nat.beq p 151 then true else false)) else (bif Nat.blt p 218 then (bif Nat.beq p 200 then true else false) else (bif Nat.beq p 218 then true else false))
set_option maxRecDepth 100000 in
set_option maxHeartbeats 4000000 in
theorem eX0_constant (d : Nat) (a1 : Int32) (a2 : Int64) (x : mj_X) : kX0 (d + 1) 50 [.ref 0, .int a1, .long a2] x = 
  if (x.1 0 30) = 0 then some (none, x)
  else 
   if a1 = (1 : Int32) then mj_rI (kX0 d 2 [.long a2, .long (-1 : Int64), .long (5 : Int64)] x) fun v2 x1 =>
    
    if v2 = 0 then mj_rI (kX0 d 2 [.long a2, .long (-128 : Int64), .long (127 : Int64)] x1) fun v4 x3 =>
     
     if v4 = 0 then mj_rI (kX0 d 2 [.long a2, .long (-32768 : Int64), .long (32767 : Int64)] x3) fun v6 x5 =>
      
      if v6 = 0 then rX0_constant d (218, [some (.ref 0), some (.int a1), some (.long a2), none, none], [], x5)
      else mj_rV (kX0 d 37 [.ref 0, .int (17 : Int32)] x5) fun x7 =>
       mj_rV (kX0 d 42 [.ref 0, .int a2.toInt32] x7) fun x8 =>
       some (none, x8)
     else mj_rV (kX0 d 37 [.ref 0, .int (16 : Int32)] x3) fun x9 =>
      mj_rV (kX0 d 38 [.ref 0, .int a2.toInt32] x9) fun x10 =>
      some (none, x10)
    else mj_rV (kX0 d 37 [.ref 0, .int ((3 : Int32) + a2.toInt32)] x1) fun x11 =>
     some (none, x11)
   else 
    if a1 = (2 : Int32) then mj_rI (kX0 d 2 [.long a2, .long (0 : Int64), .long (1 : Int64)] x) fun v13 x12 =>
     
     if v13 = 0 then rX0_constant d (111, [some (.ref 0), some (.int a1), some (.long a2), none, none], [], x12)
     else mj_rV (kX0 d 37 [.ref 0, .int ((9 : Int32) + a2.toInt32)] x12) fun x14 =>
      some (none, x14)
    else rX0_constant d (111, [some (.ref 0), some (.int a1), some (.long a2), none, none], [], x) := (mj_run_to (cd := cdX0) (rt := 0) (tab := tX0_constant) (cal := kX0 d) zX0_constant 65 (0, [some (.ref 0), some (.int a1), some (.long a2), none, none], [], x)).trans rfl
set_option maxRecDepth 100000 in
set_option maxHeartbeats 4000000 in
theorem bX0_constant_111 (d : Nat) (a1 : Int32) (a2 : Int64) (x : mj_X) : rX0_constant d (111, [some (.ref 0), some (.int a1), some (.long a2), none, none], [], x) = 
  if a1 = (3 : Int32) then 
   if (lg_cmp a2 (0 : Int64)) = 0 then rX0_constant d (151, [some (.ref 0), some (.int a1), some (.long a2), none, none], [.int (0 : Int32)], x)
   else 
    if (lg_cmp a2 (1065353216 : Int64)) = 0 then rX0_constant d (151, [some (.ref 0), some (.int a1), some (.long a2), none, none], [.int (1 : Int32)], x)
    else 
     if (lg_cmp a2 (1073741824 : Int64)) = 0 then rX0_constant d (151, [some (.ref 0), some (.int a1), some (.long a2), none, none], [.int (2 : Int32)], x)
     else rX0_constant d (151, [some (.ref 0), some (.int a1), some (.long a2), none, none], [.int (-1 : Int32)], x)
  else 
   if a1 = (4 : Int32) then 
    if (lg_cmp a2 (0 : Int64)) = 0 then rX0_constant d (200, [some (.ref 0), some (.int a1), some (.long a2), none, none], [.int (0 : Int32)], x)
    else 
     if (lg_cmp a2 (4607182418800017408 : Int64)) = 0 then rX0_constant d (200, [some (.ref 0), some (.int a1), some (.long a2), none, none], [.int (1 : Int32)], x)
     else rX0_constant d (200, [some (.ref 0), some (.int a1), some (.long a2), none, none], [.int (-1 : Int32)], x)
   else rX0_constant d (218, [some (.ref 0), some (.int a1), some (.long a2), none, none], [], x) := (mj_run_to (cd := cdX0) (rt := 0) (tab := tX0_constant) (cal := kX0 d) zX0_constant 65 (111, [some (.ref 0), some (.int a1), some (.long a2), none, none], [], x)).trans rfl
set_option maxRecDepth 100000 in
set_option maxHeartbeats 4000000 in
theorem bX0_constant_151 (d : Nat) (a1 : Int32) (a2 : Int64) (s0 : Int32) (x : mj_X) : rX0_constant d (151, [some (.ref 0), some (.int a1), some (.long a2), none, none], [.int s0], x) = 
  if s0 = (-1 : Int32) then rX0_constant d (218, [some (.ref 0), some (.int a1), some (.long a2), none, some (.int s0)], [], x)
  else mj_rV (kX0 d 37 [.ref 0, .int ((11 : Int32) + s0)] x) fun x1 =>
   some (none, x1) := (mj_run_to (cd := cdX0) (rt := 0) (tab := tX0_constant) (cal := kX0 d) zX0_constant 65 (151, [some (.ref 0), some (.int a1), some (.long a2), none, none], [.int s0], x)).trans rfl
set_option maxRecDepth 100000 in
set_option maxHeartbeats 4000000 in
theorem bX0_constant_200 (d : Nat) (a1 : Int32) (a2 : Int64) (s0 : Int32) (x : mj_X) : rX0_constant d (200, [some (.ref 0), some (.int a1), some (.long a2), none, none], [.int s0], x) = 
  if s0 = (-1 : Int32) then rX0_constant d (218, [some (.ref 0), some (.int a1), some (.long a2), none, some (.int s0)], [], x)
  else mj_rV (kX0 d 37 [.ref 0, .int ((14 : Int32) + s0)] x) fun x1 =>
   some (none, x1) := (mj_run_to (cd := cdX0) (rt := 0) (tab := tX0_constant) (cal := kX0 d) zX0_constant 65 (200, [some (.ref 0), some (.int a1), some (.long a2), none, none], [.int s0], x)).trans rfl
set_option maxRecDepth 100000 in
set_option maxHeartbeats 4000000 in
theorem bX0_constant_218 (d : Nat) (a1 : Int32) (a2 : Int64) (o4 : Option Value) (x : mj_X) : rX0_constant d (218, [some (.ref 0), some (.int a1), some (.long a2), none, o4], [], x) = mj_rI (kX0 d 51 [.ref 0, .int a1, .long a2] x) fun v2 x1 =>
  mj_rI (kX0 d 27 [.int a1] x1) fun v4 x3 =>
  
  if v4 = 0 then 
   if (256 : Int32) ≤ v2 then mj_rV (kX0 d 37 [.ref 0, .int (19 : Int32)] x3) fun x5 =>
    mj_rV (kX0 d 42 [.ref 0, .int v2] x5) fun x6 =>
    some (none, x6)
   else mj_rV (kX0 d 37 [.ref 0, .int (18 : Int32)] x3) fun x7 =>
    mj_rV (kX0 d 38 [.ref 0, .int v2] x7) fun x8 =>
    some (none, x8)
  else mj_rV (kX0 d 37 [.ref 0, .int (20 : Int32)] x3) fun x9 =>
   mj_rV (kX0 d 42 [.ref 0, .int v2] x9) fun x10 =>
   some (none, x10) := (mj_run_to (cd := cdX0) (rt := 0) (tab := tX0_constant) (cal := kX0 d) zX0_constant 65 (218, [some (.ref 0), some (.int a1), some (.long a2), none, o4], [], x)).trans rfl
