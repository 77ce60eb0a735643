noncomputable abbrev rX1_member (d : Nat) : mj_S → mj_R := mj_run cdX1 1 tX1_member (kX1 d)
def zX1_member (p : Nat) : Bool := bif Nat.blt p 56 then (bif Nat.beq p 25 then true else false) else (bif Nat.beq p 56 then true else false)
set_option maxRecDepth 100000 in
set_option maxHeartbeats 4000000 in
theorem eX1_member (d : Nat) (a1 : Int32) (a2 : Int32) (a3 : Int32) (x : mj_X) : kX1 (d + 1) 23 [.ref 0, .int a1, .int a2, .int a3] x = 
  if a1 < 0 then some (some (.int (-1 : Int32)), x)
  else 
   if (8 : Int32) < a1 then some (some (.int (-1 : Int32)), x)
   else 
    if a2 = (-1 : Int32) then rX1_member d (25, [some (.ref 0), some (.int a1), some (.int a2), some (.int a3), none, none, none, none], [], x)
    else mj_rI (kX1 d 12 [.ref 0, .int a2, .int (86 : Int32)] x) fun v2 x1 =>
     
     if v2 = 0 then some (some (.int (-1 : Int32)), x1)
     else rX1_member d (25, [some (.ref 0), some (.int a1), some (.int a2), some (.int a3), none, none, none, none], [], x1) := (mj_run_to (cd := cdX1) (rt := 1) (tab := tX1_member) (cal := kX1 d) zX1_member 178 (0, [some (.ref 0), some (.int a1), some (.int a2), some (.int a3), none, none, none, none], [], x)).trans rfl
set_option maxRecDepth 100000 in
set_option maxHeartbeats 4000000 in
theorem bX1_member_25 (d : Nat) (a1 : Int32) (a2 : Int32) (a3 : Int32) (x : mj_X) : rX1_member d (25, [some (.ref 0), some (.int a1), some (.int a2), some (.int a3), none, none, none, none], [], x) = mj_rI (kX1 d 15 [.ref 0, .int a3] x) fun v2 x1 =>
  
  if v2 = 0 then some (some (.int (-1 : Int32)), x1)
  else rX1_member d (56, [some (.ref 0), some (.int a1), some (.int a2), some (.int a3), some (.int (0 : Int32)), some (.int a2), none, none], [], (mj_wI (mj_wI (mj_wI x1 0 30 a1) 0 27 (0 : Int32)) 0 29 (0 : Int32))) := (mj_run_to (cd := cdX1) (rt := 1) (tab := tX1_member) (cal := kX1 d) zX1_member 178 (25, [some (.ref 0), some (.int a1), some (.int a2), some (.int a3), none, none, none, none], [], x)).trans rfl
set_option maxRecDepth 100000 in
set_option maxHeartbeats 4000000 in
theorem bX1_member_56 (d : Nat) (a1 : Int32) (a2 : Int32) (a3 : Int32) (a4 : Int32) (a5 : Int32) (x : mj_X) : rX1_member d (56, [some (.ref 0), some (.int a1), some (.int a2), some (.int a3), some (.int a4), some (.int a5), none, none], [], x) = 
  if a5 = (-1 : Int32) then mj_rI (kX1 d 26 [.ref 0, .int a3] x) fun v2 x1 =>
   mj_rV (kX1 d 30 [.ref 0, .int (0 : Int32)] x1) fun x3 =>
   
   if v2 = 0 then some (some (.int (-2 : Int32)), x3)
   else mj_rI (kX1 d 31 [.ref 0, .int a3] x3) fun v5 x4 =>
    
    if v5 = 0 then some (some (.int (-3 : Int32)), x4)
    else 
     if (x4.1 0 7) = (40 : Int32) then some (some (.int (-4 : Int32)), x4)
     else 
      if a4 ≤ (255 : Int32) then mj_rI (kX1 d 33 [.ref 0, .int a2, .int a3, .int a4] x4) fun v7 x6 =>
       
       if 0 ≤ v7 then mj_g (x6.1 0 7) 40 (mj_g (x6.1 0 7) 40 (mj_g (x6.1 0 7) 40 (mj_g (x6.1 0 7) 40 (mj_g (x6.1 0 7) 40 (mj_gb (x6.1 0 33) (mj_g (x6.1 0 7) 40 (mj_g (x6.1 0 7) 41 (mj_g ((x6.1 0 7) + (1 : Int32)) 41 (mj_g (x6.1 0 7) 41 (mj_g ((x6.1 0 7) + (1 : Int32)) 41 (mj_g (x6.1 0 7) 41 (mj_g ((x6.1 0 7) + (1 : Int32)) 41 (mj_g (x6.1 0 7) 41 (mj_g ((x6.1 0 7) + (1 : Int32)) 41 (mj_g a3 4000 (
        if a2 = (-1 : Int32) then some (some (.int (x6.1 0 7)), (mj_wI (mj_wI (mj_wI (mj_wI (mj_wI (mj_wI (mj_wI (mj_wI (mj_wI (mj_wI (mj_wI (mj_wI x6 9 (x6.1 0 7).toNatClampNeg a1) 10 (x6.1 0 7).toNatClampNeg a2) 11 (x6.1 0 7).toNatClampNeg a3) 13 (x6.1 0 7).toNatClampNeg (x6.1 0 39)) 14 (x6.1 0 7).toNatClampNeg (x6.1 0 37)) 15 (x6.1 0 7).toNatClampNeg (x6.1 0 33)) 12 ((x6.1 0 7) + (1 : Int32)).toNatClampNeg ((x6.1 12 (x6.1 0 7).toNatClampNeg) + (x6.1 0 32))) 16 ((x6.1 0 7) + (1 : Int32)).toNatClampNeg ((x6.1 16 (x6.1 0 7).toNatClampNeg) + (x6.1 0 42))) 17 ((x6.1 0 7) + (1 : Int32)).toNatClampNeg ((x6.1 17 (x6.1 0 7).toNatClampNeg) + (x6.1 0 44))) 18 ((x6.1 0 7) + (1 : Int32)).toNatClampNeg ((x6.1 18 (x6.1 0 7).toNatClampNeg) + (x6.1 0 45))) 0 7 ((x6.1 0 7) + (1 : Int32))) 7 a3.toNatClampNeg (1 : Int32)))
        else mj_g a2 4000 (some (some (.int (x6.1 0 7)), (mj_wI (mj_wI (mj_wI (mj_wI (mj_wI (mj_wI (mj_wI (mj_wI (mj_wI (mj_wI (mj_wI (mj_wI (mj_wI x6 9 (x6.1 0 7).toNatClampNeg a1) 10 (x6.1 0 7).toNatClampNeg a2) 11 (x6.1 0 7).toNatClampNeg a3) 13 (x6.1 0 7).toNatClampNeg (x6.1 0 39)) 14 (x6.1 0 7).toNatClampNeg (x6.1 0 37)) 15 (x6.1 0 7).toNatClampNeg (x6.1 0 33)) 12 ((x6.1 0 7) + (1 : Int32)).toNatClampNeg ((x6.1 12 (x6.1 0 7).toNatClampNeg) + (x6.1 0 32))) 16 ((x6.1 0 7) + (1 : Int32)).toNatClampNeg ((x6.1 16 (x6.1 0 7).toNatClampNeg) + (x6.1 0 42))) 17 ((x6.1 0 7) + (1 : Int32)).toNatClampNeg ((x6.1 17 (x6.1 0 7).toNatClampNeg) + (x6.1 0 44))) 18 ((x6.1 0 7) + (1 : Int32)).toNatClampNeg ((x6.1 18 (x6.1 0 7).toNatClampNeg) + (x6.1 0 45))) 0 7 ((x6.1 0 7) + (1 : Int32))) 7 a3.toNatClampNeg (1 : Int32)) 7 a2.toNatClampNeg (1 : Int32))))))))))))))))))))
       else some (some (.int v7), x6)
      else some (some (.int (-4 : Int32)), x4)
  else mj_g a5 4000 (mj_rV (kX1 d 24 [.ref 0, .int (x.1 3 a5.toNatClampNeg)] x) fun x8 =>
   mj_g a5 4000 (mj_g (x8.1 3 a5.toNatClampNeg) 4000 (mj_rI (kX1 d 25 [.int (x8.1 5 (x8.1 3 a5.toNatClampNeg).toNatClampNeg)] x8) fun v10 x9 =>
   mj_g a5 4000 (rX1_member d (56, [some (.ref 0), some (.int a1), some (.int a2), some (.int a3), some (.int (a4 + v10)), some (.int (x9.1 4 a5.toNatClampNeg)), none, none], [], x9))))) := (mj_run_to (cd := cdX1) (rt := 1) (tab := tX1_member) (cal := kX1 d) zX1_member 178 (56, [some (.ref 0), some (.int a1), some (.int a2), some (.int a3), some (.int a4), some (.int a5), none, none], [], x)).trans rfl
noncomputable abbrev rX1_writeMember (d : Nat) : mj_S → mj_R := mj_run cdX1 1 tX1_writeMember (kX1 d)
def zX1_writeMember (p : Nat) : Bool := bif Nat.beq p 78 then true else false
set_option maxRecDepth 100000 in
set_option maxHeartbeats 4000000 in
theorem eX1_writeMember (d : Nat) (a1 : Int32) (a2 : Int32) (a3 : Int32) (x : mj_X) : kX1 (d + 1) 33 [.ref 0, .int a1, .int a2, .int a3] x = mj_g (x.1 0 7) 41 (mj_rV (kX1 d 34 [.ref 0, .int a1, .int a2, .int a3] (mj_wI (mj_wI (mj_wI (mj_wI x 0 31 (x.1 12 (x.1 0 7).toNatClampNeg)) 0 34 (0 : Int32)) 0 40 (0 : Int32)) 0 33 (0 : Int32))) fun x1 =>
  
  if (x1.1 0 34) = 0 then mj_rI (kX1 d 99 [.ref 0] x1) fun v3 x2 =>
   
   if v3 = 0 then mj_rV (kX1 d 34 [.ref 0, .int a1, .int a2, .int a3] (mj_wI (mj_wI x2 0 33 (1 : Int32)) 0 40 (0 : Int32))) fun x4 =>
    
    if (x4.1 0 34) = 0 then mj_rI (kX1 d 99 [.ref 0] x4) fun v6 x5 =>
     rX1_writeMember d (78, [some (.ref 0), some (.int a1), some (.int a2), some (.int a3), none], [], x5)
    else rX1_writeMember d (78, [some (.ref 0), some (.int a1), some (.int a2), some (.int a3), none], [], x4)
   else rX1_writeMember d (78, [some (.ref 0), some (.int a1), some (.int a2), some (.int a3), none], [], x2)
  else rX1_writeMember d (78, [some (.ref 0), some (.int a1), some (.int a2), some (.int a3), none], [], x1)) := (mj_run_to (cd := cdX1) (rt := 1) (tab := tX1_writeMember) (cal := kX1 d) zX1_writeMember 50 (0, [some (.ref 0), some (.int a1), some (.int a2), some (.int a3), none], [], x)).trans rfl
set_option maxRecDepth 100000 in
set_option maxHeartbeats 4000000 in
theorem bX1_writeMember_78 (d : Nat) (a1 : Int32) (a2 : Int32) (a3 : Int32) (x : mj_X) : rX1_writeMember d (78, [some (.ref 0), some (.int a1), some (.int a2), some (.int a3), none], [], x) = 
  if (x.1 0 34) = 0 then 
   if (90000 : Int32) < ((x.1 0 31) + (x.1 0 32)) then some (some (.int (-4 : Int32)), x)
   else mj_g (x.1 0 7) 41 (
    if (20000 : Int32) < ((x.1 17 (x.1 0 7).toNatClampNeg) + (x.1 0 44)) then some (some (.int (-4 : Int32)), x)
    else mj_g (x.1 0 7) 41 (
     if ((x.1 18 (x.1 0 7).toNatClampNeg) + (x.1 0 45)) ≤ (20000 : Int32) then 
      if (x.1 0 35) = 0 then some (some (.int (0 : Int32)), x)
      else some (some (.int (-5 : Int32)), x)
     else some (some (.int (-4 : Int32)), x)))
  else some (some (.int (-4 : Int32)), x) := (mj_run_to (cd := cdX1) (rt := 1) (tab := tX1_writeMember) (cal := kX1 d) zX1_writeMember 50 (78, [some (.ref 0), some (.int a1), some (.int a2), some (.int a3), none], [], x)).trans rfl
noncomputable abbrev rX1_writeAll (d : Nat) : mj_S → mj_R := mj_run cdX1 0 tX1_writeAll (kX1 d)
def zX1_writeAll (p : Nat) : Bool := bif Nat.beq p 93 then true else false
set_option maxRecDepth 100000 in
set_option maxHeartbeats 4000000 in
theorem eX1_writeAll (d : Nat) (a1 : Int32) (a2 : Int32) (a3 : Int32) (x : mj_X) : kX1 (d + 1) 34 [.ref 0, .int a1, .int a2, .int a3] x = rX1_writeAll d (93, [some (.ref 0), some (.int a1), some (.int a2), some (.int a3), some (.int a1)], [], (mj_wI (mj_wI (mj_wI (mj_wI (mj_wI (mj_wI (mj_wI (mj_wI (mj_wI (mj_wI (mj_wI (mj_wI (mj_wI (mj_wI (mj_wI (mj_wI (mj_wI (mj_wI x 0 41 (0 : Int32)) 0 32 (0 : Int32)) 0 35 (1 : Int32)) 0 36 (0 : Int32)) 0 37 (0 : Int32)) 0 38 (0 : Int32)) 0 39 (0 : Int32)) 0 42 (0 : Int32)) 0 43 (1 : Int32)) 0 44 (0 : Int32)) 0 45 (0 : Int32)) 0 46 (-1 : Int32)) 0 50 (0 : Int32)) 0 57 (0 : Int32)) 0 55 (0 : Int32)) 0 72 (0 : Int32)) 0 58 (0 : Int32)) 0 59 (-1 : Int32))) := (mj_run_to (cd := cdX1) (rt := 0) (tab := tX1_writeAll) (cal := kX1 d) zX1_writeAll 59 (0, [some (.ref 0), some (.int a1), some (.int a2), some (.int a3), none], [], x)).trans rfl
set_option maxRecDepth 100000 in
set_option maxHeartbeats 4000000 in
theorem bX1_writeAll_93 (d : Nat) (a1 : Int32) (a2 : Int32) (a3 : Int32) (a4 : Int32) (x : mj_X) : rX1_writeAll d (93, [some (.ref 0), some (.int a1), some (.int a2), some (.int a3), some (.int a4)], [], x) = 
  if a4 = (-1 : Int32) then mj_rV (kX1 d 37 [.ref 0, .int a2] x) fun x1 =>
   
   if (x1.1 0 35) = 0 then some (none, x1)
   else 
    if (x1.1 0 30) = 0 then mj_rV (kX1 d 42 [.ref 0, .int (177 : Int32), .int (0 : Int32), .int (0 : Int32)] x1) fun x2 =>
     some (none, (mj_wI x2 0 35 (0 : Int32)))
    else some (none, x1)
  else mj_g a4 4000 (mj_rV (kX1 d 35 [.ref 0, .int (x.1 3 a4.toNatClampNeg)] x) fun x3 =>
   mj_g a4 4000 (rX1_writeAll d (93, [some (.ref 0), some (.int a1), some (.int a2), some (.int a3), some (.int (x3.1 4 a4.toNatClampNeg))], [], x3))) := (mj_run_to (cd := cdX1) (rt := 0) (tab := tX1_writeAll) (cal := kX1 d) zX1_writeAll 59 (93, [some (.ref 0), some (.int a1), some (.int a2), some (.int a3), some (.int a4)], [], x)).trans rfl
noncomputable abbrev rX1_take (d : Nat) : mj_S → mj_R := mj_run cdX1 0 tX1_take (kX1 d)
def zX1_take (p : Nat) : Bool := false
set_option maxRecDepth 100000 in
set_option maxHeartbeats 4000000 in
theorem eX1_take (d : Nat) (a1 : Int32) (x : mj_X) : kX1 (d + 1) 35 [.ref 0, .int a1] x = mj_g a1 4000 (mj_rI (kX1 d 36 [.ref 0, .int (x.1 5 a1.toNatClampNeg)] x) fun v2 x1 =>
  mj_g a1 4000 (some (none, (mj_wI x1 48 a1.toNatClampNeg v2)))) := (mj_run_to (cd := cdX1) (rt := 0) (tab := tX1_take) (cal := kX1 d) zX1_take 13 (0, [some (.ref 0), some (.int a1)], [], x)).trans rfl
noncomputable abbrev rX1_anew (d : Nat) : mj_S → mj_R := mj_run cdX1 1 tX1_anew (kX1 d)
def zX1_anew (p : Nat) : Bool := false
set_option maxRecDepth 100000 in
set_option maxHeartbeats 4000000 in
theorem eX1_anew (d : Nat) (a1 : Int32) (x : mj_X) : kX1 (d + 1) 36 [.ref 0, .int a1] x = mj_rI (kX1 d 25 [.int a1] x) fun v2 x1 =>
  mj_rI (kX1 d 19 [.int (x1.1 0 39), .int ((x.1 0 38) + v2)] (mj_wI x1 0 38 ((x.1 0 38) + v2))) fun v4 x3 =>
  some (some (.int (x.1 0 38)), (mj_wI x3 0 39 v4)) := (mj_run_to (cd := cdX1) (rt := 1) (tab := tX1_anew) (cal := kX1 d) zX1_anew 21 (0, [some (.ref 0), some (.int a1), none], [], x)).trans rfl
noncomputable abbrev rX1_block (d : Nat) : mj_S → mj_R := mj_run cdX1 0 tX1_block (kX1 d)
def zX1_block (p : Nat) : Bool := false
set_option maxRecDepth 100000 in
set_option maxHeartbeats 4000000 in
theorem eX1_block (d : Nat) (a1 : Int32) (x : mj_X) : kX1 (d + 1) 37 [.ref 0, .int a1] x = mj_rV (kX1 d 38 [.ref 0, .int a1] x) fun x1 =>
  some (none, (mj_wI x1 0 38 (x.1 0 38))) := (mj_run_to (cd := cdX1) (rt := 0) (tab := tX1_block) (cal := kX1 d) zX1_block 12 (0, [some (.ref 0), some (.int a1), none], [], x)).trans rfl
noncomputable abbrev rX1_statement (d : Nat) : mj_S → mj_R := mj_run cdX1 0 tX1_statement (kX1 d)
def zX1_statement (p : Nat) : Bool := bif Nat.blt p 308 then (bif Nat.blt p 242 then (bif Nat.blt p 221 then (bif Nat.blt p 192 then (bif Nat.beq p 184 then true else false) else (bif Nat.beq p 192 then true else false)) else (bif Nat.blt p 234 then (bif Nat.beq p 221 then true else false) else (bif Nat.beq p 234 then true else false))) else (bif Nat.blt p 279 then (bif Nat.blt p 270 then (bif Nat.beq p 242 then true else false) else (bif Nat.beq p 270 then true else false)) else (bif Nat.blt p 294 then (bif Nat.beq p 279 then true else false) else (bif Nat.beq p 294 then true else false)))) else (bif Nat.blt p 370 then (bif Nat.blt p 330 then (bif Nat.blt p 322 then (bif Nat.beq p 308 then true else false) else (bif Nat.beq p 322 then true else false)) else (bif Nat.blt p 361 then (bif Nat.beq p 330 then true else false) else (bif Nat.beq p 361 then true else false))) else (bif Nat.blt p 389 then (bif Nat.blt p 380 then (bif Nat.beq p 370 then true else false) else (bif Nat.beq p 380 then true else false)) else (bif Nat.blt p 398 then (bif Nat.beq p 389 then true else false) else (bif Nat.blt p 404 then (bif Nat.beq p 398 then true else false) else (bif Nat.beq p 404 then true else false)))))
set_option maxRecDepth 100000 in
set_option maxHeartbeats 4000000 in
theorem eX1_statement (d : Nat) (a1 : Int32) (x : mj_X) : kX1 (d + 1) 38 [.ref 0, .int a1] x = 
  if (x.1 0 35) = 0 then some (none, x)
  else 
   if (x.1 0 34) = 0 then 
    if (60000 : Int32) < ((x.1 0 40) + (1 : Int32)) then some (none, (mj_wI (mj_wI x 0 40 ((x.1 0 40) + (1 : Int32))) 0 34 (1 : Int32)))
    else 
     if (x.1 0 41) = (200 : Int32) then some (none, (mj_wI (mj_wI x 0 40 ((x.1 0 40) + (1 : Int32))) 0 34 (1 : Int32)))
     else mj_g a1 4000 (mj_g a1 4000 (mj_g a1 4000 (mj_sw (x.1 2 a1.toNatClampNeg) 60 (318) [104, 112, 141, 154, 162, 190, 318, 199, 199, 199, 318, 214, 228, 242, 250, 281, 318, 318, 318, 290, 300, 309] fun off => mj_j 80 off fun t => rX1_statement d (t, [some (.ref 0), some (.int a1), some (.int (x.1 3 a1.toNatClampNeg)), some (.int (x.1 4 a1.toNatClampNeg)), none], [], (mj_wI (mj_wI x 0 40 ((x.1 0 40) + (1 : Int32))) 0 41 ((x.1 0 41) + (1 : Int32)))))))
   else some (none, x) := (mj_run_to (cd := cdX1) (rt := 0) (tab := tX1_statement) (cal := kX1 d) zX1_statement 69 (0, [some (.ref 0), some (.int a1), none, none, none], [], x)).trans rfl
set_option maxRecDepth 100000 in
set_option maxHeartbeats 4000000 in
theorem bX1_statement_184 (d : Nat) (a1 : Int32) (a2 : Int32) (a3 : Int32) (x : mj_X) : rX1_statement d (184, [some (.ref 0), some (.int a1), some (.int a2), some (.int a3), none], [], x) = mj_rV (kX1 d 39 [.ref 0, .int a2] x) fun x1 =>
  rX1_statement d (404, [some (.ref 0), some (.int a1), some (.int a2), some (.int a3), none], [], x1) := (mj_run_to (cd := cdX1) (rt := 0) (tab := tX1_statement) (cal := kX1 d) zX1_statement 69 (184, [some (.ref 0), some (.int a1), some (.int a2), some (.int a3), none], [], x)).trans rfl
set_option maxRecDepth 100000 in
set_option maxHeartbeats 4000000 in
theorem bX1_statement_192 (d : Nat) (a1 : Int32) (a2 : Int32) (a3 : Int32) (x : mj_X) : rX1_statement d (192, [some (.ref 0), some (.int a1), some (.int a2), some (.int a3), none], [], x) = mj_rV (kX1 d 40 [.ref 0, .int a3] x) fun x1 =>
  mj_rV (kX1 d 35 [.ref 0, .int a2] x1) fun x2 =>
  mj_g a2 4000 (mj_g a2 4000 (mj_rV (kX1 d 71 [.ref 0, .int (x2.1 48 a2.toNatClampNeg), .int (x2.1 5 a2.toNatClampNeg)] x2) fun x3 =>
  rX1_statement d (404, [some (.ref 0), some (.int a1), some (.int a2), some (.int a3), none], [], x3))) := (mj_run_to (cd := cdX1) (rt := 0) (tab := tX1_statement) (cal := kX1 d) zX1_statement 69 (192, [some (.ref 0), some (.int a1), some (.int a2), some (.int a3), none], [], x)).trans rfl
set_option maxRecDepth 100000 in
set_option maxHeartbeats 4000000 in
theorem bX1_statement_221 (d : Nat) (a1 : Int32) (a2 : Int32) (a3 : Int32) (x : mj_X) : rX1_statement d (221, [some (.ref 0), some (.int a1), some (.int a2), some (.int a3), none], [], x) = mj_rV (kX1 d 38 [.ref 0, .int a2] x) fun x1 =>
  mj_rV (kX1 d 38 [.ref 0, .int a3] x1) fun x2 =>
  rX1_statement d (404, [some (.ref 0), some (.int a1), some (.int a2), some (.int a3), none], [], x2) := (mj_run_to (cd := cdX1) (rt := 0) (tab := tX1_statement) (cal := kX1 d) zX1_statement 69 (221, [some (.ref 0), some (.int a1), some (.int a2), some (.int a3), none], [], x)).trans rfl
set_option maxRecDepth 100000 in
set_option maxHeartbeats 4000000 in
theorem bX1_statement_234 (d : Nat) (a1 : Int32) (a2 : Int32) (a3 : Int32) (x : mj_X) : rX1_statement d (234, [some (.ref 0), some (.int a1), some (.int a2), some (.int a3), none], [], x) = mj_rV (kX1 d 37 [.ref 0, .int a2] x) fun x1 =>
  rX1_statement d (404, [some (.ref 0), some (.int a1), some (.int a2), some (.int a3), none], [], x1) := (mj_run_to (cd := cdX1) (rt := 0) (tab := tX1_statement) (cal := kX1 d) zX1_statement 69 (234, [some (.ref 0), some (.int a1), some (.int a2), some (.int a3), none], [], x)).trans rfl
set_option maxRecDepth 100000 in
set_option maxHeartbeats 4000000 in
theorem bX1_statement_242 (d : Nat) (a1 : Int32) (a2 : Int32) (a3 : Int32) (x : mj_X) : rX1_statement d (242, [some (.ref 0), some (.int a1), some (.int a2), some (.int a3), none], [], x) = mj_rI (kX1 d 45 [.ref 0] x) fun v2 x1 =>
  mj_rV (kX1 d 46 [.ref 0, .int a2, .int (0 : Int32), .int v2] x1) fun x3 =>
  mj_rV (kX1 d 37 [.ref 0, .int a3] x3) fun x4 =>
  mj_rV (kX1 d 51 [.ref 0, .int v2] x4) fun x5 =>
  rX1_statement d (404, [some (.ref 0), some (.int a1), some (.int a2), some (.int a3), some (.int v2)], [], x5) := (mj_run_to (cd := cdX1) (rt := 0) (tab := tX1_statement) (cal := kX1 d) zX1_statement 69 (242, [some (.ref 0), some (.int a1), some (.int a2), some (.int a3), none], [], x)).trans rfl
set_option maxRecDepth 100000 in
set_option maxHeartbeats 4000000 in
theorem bX1_statement_270 (d : Nat) (a1 : Int32) (a2 : Int32) (a3 : Int32) (x : mj_X) : rX1_statement d (270, [some (.ref 0), some (.int a1), some (.int a2), some (.int a3), none], [], x) = mj_rV (kX1 d 79 [.ref 0, .int a2, .int a3] x) fun x1 =>
  rX1_statement d (404, [some (.ref 0), some (.int a1), some (.int a2), some (.int a3), none], [], x1) := (mj_run_to (cd := cdX1) (rt := 0) (tab := tX1_statement) (cal := kX1 d) zX1_statement 69 (270, [some (.ref 0), some (.int a1), some (.int a2), some (.int a3), none], [], x)).trans rfl
set_option maxRecDepth 100000 in
set_option maxHeartbeats 4000000 in
theorem bX1_statement_279 (d : Nat) (a1 : Int32) (a2 : Int32) (a3 : Int32) (x : mj_X) : rX1_statement d (279, [some (.ref 0), some (.int a1), some (.int a2), some (.int a3), none], [], x) = mj_g a1 4000 (mj_rV (kX1 d 80 [.ref 0, .int (x.1 2 a1.toNatClampNeg), .int a2, .int a3] x) fun x1 =>
  rX1_statement d (404, [some (.ref 0), some (.int a1), some (.int a2), some (.int a3), none], [], x1)) := (mj_run_to (cd := cdX1) (rt := 0) (tab := tX1_statement) (cal := kX1 d) zX1_statement 69 (279, [some (.ref 0), some (.int a1), some (.int a2), some (.int a3), none], [], x)).trans rfl
set_option maxRecDepth 100000 in
set_option maxHeartbeats 4000000 in
theorem bX1_statement_294 (d : Nat) (a1 : Int32) (a2 : Int32) (a3 : Int32) (x : mj_X) : rX1_statement d (294, [some (.ref 0), some (.int a1), some (.int a2), some (.int a3), none], [], x) = mj_rI (kX1 d 83 [.ref 0, .int a2, .int (0 : Int32)] x) fun v2 x1 =>
  mj_rV (kX1 d 84 [.ref 0, .int v2, .int (1 : Int32)] x1) fun x3 =>
  rX1_statement d (404, [some (.ref 0), some (.int a1), some (.int a2), some (.int a3), none], [], x3) := (mj_run_to (cd := cdX1) (rt := 0) (tab := tX1_statement) (cal := kX1 d) zX1_statement 69 (294, [some (.ref 0), some (.int a1), some (.int a2), some (.int a3), none], [], x)).trans rfl
set_option maxRecDepth 100000 in
set_option maxHeartbeats 4000000 in
theorem bX1_statement_308 (d : Nat) (a1 : Int32) (a2 : Int32) (a3 : Int32) (x : mj_X) : rX1_statement d (308, [some (.ref 0), some (.int a1), some (.int a2), some (.int a3), none], [], x) = mj_rI (kX1 d 83 [.ref 0, .int a2, .int (1 : Int32)] x) fun v2 x1 =>
  mj_rV (kX1 d 84 [.ref 0, .int v2, .int (0 : Int32)] x1) fun x3 =>
  rX1_statement d (404, [some (.ref 0), some (.int a1), some (.int a2), some (.int a3), none], [], x3) := (mj_run_to (cd := cdX1) (rt := 0) (tab := tX1_statement) (cal := kX1 d) zX1_statement 69 (308, [some (.ref 0), some (.int a1), some (.int a2), some (.int a3), none], [], x)).trans rfl
set_option maxRecDepth 100000 in
set_option maxHeartbeats 4000000 in
theorem bX1_statement_322 (d : Nat) (a1 : Int32) (a2 : Int32) (a3 : Int32) (x : mj_X) : rX1_statement d (322, [some (.ref 0), some (.int a1), some (.int a2), some (.int a3), none], [], x) = mj_rV (kX1 d 89 [.ref 0, .int a2] x) fun x1 =>
  rX1_statement d (404, [some (.ref 0), some (.int a1), some (.int a2), some (.int a3), none], [], x1) := (mj_run_to (cd := cdX1) (rt := 0) (tab := tX1_statement) (cal := kX1 d) zX1_statement 69 (322, [some (.ref 0), some (.int a1), some (.int a2), some (.int a3), none], [], x)).trans rfl
set_option maxRecDepth 100000 in
set_option maxHeartbeats 4000000 in
theorem bX1_statement_330 (d : Nat) (a1 : Int32) (a2 : Int32) (a3 : Int32) (x : mj_X) : rX1_statement d (330, [some (.ref 0), some (.int a1), some (.int a2), some (.int a3), none], [], x) = mj_rV (kX1 d 40 [.ref 0, .int a2] x) fun x1 =>
  mj_rV (kX1 d 78 [.ref 0, .int (71 : Int32), .int (0 : Int32), .int (1 : Int32), .int (1 : Int32)] x1) fun x2 =>
  mj_rV (kX1 d 42 [.ref 0, .int (191 : Int32), .int (1 : Int32), .int (0 : Int32)] x2) fun x3 =>
  rX1_statement d (404, [some (.ref 0), some (.int a1), some (.int a2), some (.int a3), none], [], (mj_wI x3 0 35 (0 : Int32))) := (mj_run_to (cd := cdX1) (rt := 0) (tab := tX1_statement) (cal := kX1 d) zX1_statement 69 (330, [some (.ref 0), some (.int a1), some (.int a2), some (.int a3), none], [], x)).trans rfl
set_option maxRecDepth 100000 in
set_option maxHeartbeats 4000000 in
theorem bX1_statement_361 (d : Nat) (a1 : Int32) (a2 : Int32) (a3 : Int32) (x : mj_X) : rX1_statement d (361, [some (.ref 0), some (.int a1), some (.int a2), some (.int a3), none], [], x) = mj_rV (kX1 d 91 [.ref 0, .int a2, .int a3] x) fun x1 =>
  rX1_statement d (404, [some (.ref 0), some (.int a1), some (.int a2), some (.int a3), none], [], x1) := (mj_run_to (cd := cdX1) (rt := 0) (tab := tX1_statement) (cal := kX1 d) zX1_statement 69 (361, [some (.ref 0), some (.int a1), some (.int a2), some (.int a3), none], [], x)).trans rfl
set_option maxRecDepth 100000 in
set_option maxHeartbeats 4000000 in
theorem bX1_statement_370 (d : Nat) (a1 : Int32) (a2 : Int32) (a3 : Int32) (x : mj_X) : rX1_statement d (370, [some (.ref 0), some (.int a1), some (.int a2), some (.int a3), none], [], x) = mj_rV (kX1 d 94 [.ref 0, .int (3 : Int32), .int a2, .int a3] x) fun x1 =>
  rX1_statement d (404, [some (.ref 0), some (.int a1), some (.int a2), some (.int a3), none], [], x1) := (mj_run_to (cd := cdX1) (rt := 0) (tab := tX1_statement) (cal := kX1 d) zX1_statement 69 (370, [some (.ref 0), some (.int a1), some (.int a2), some (.int a3), none], [], x)).trans rfl
set_option maxRecDepth 100000 in
set_option maxHeartbeats 4000000 in
theorem bX1_statement_380 (d : Nat) (a1 : Int32) (a2 : Int32) (a3 : Int32) (x : mj_X) : rX1_statement d (380, [some (.ref 0), some (.int a1), some (.int a2), some (.int a3), none], [], x) = mj_rV (kX1 d 95 [.ref 0, .int a2, .int a3] x) fun x1 =>
  rX1_statement d (404, [some (.ref 0), some (.int a1), some (.int a2), some (.int a3), none], [], x1) := (mj_run_to (cd := cdX1) (rt := 0) (tab := tX1_statement) (cal := kX1 d) zX1_statement 69 (380, [some (.ref 0), some (.int a1), some (.int a2), some (.int a3), none], [], x)).trans rfl
set_option maxRecDepth 100000 in
set_option maxHeartbeats 4000000 in
theorem bX1_statement_389 (d : Nat) (a1 : Int32) (a2 : Int32) (a3 : Int32) (x : mj_X) : rX1_statement d (389, [some (.ref 0), some (.int a1), some (.int a2), some (.int a3), none], [], x) = mj_rV (kX1 d 96 [.ref 0, .int a2, .int a3] x) fun x1 =>
  rX1_statement d (404, [some (.ref 0), some (.int a1), some (.int a2), some (.int a3), none], [], x1) := (mj_run_to (cd := cdX1) (rt := 0) (tab := tX1_statement) (cal := kX1 d) zX1_statement 69 (389, [some (.ref 0), some (.int a1), some (.int a2), some (.int a3), none], [], x)).trans rfl
set_option maxRecDepth 100000 in
set_option maxHeartbeats 4000000 in
theorem bX1_statement_398 (d : Nat) (a1 : Int32) (a2 : Int32) (a3 : Int32) (x : mj_X) : rX1_statement d (398, [some (.ref 0), some (.int a1), some (.int a2), some (.int a3), none], [], x) = mj_rV (kX1 d 98 [.ref 0, .int a2, .int a3] x) fun x1 =>
  rX1_statement d (404, [some (.ref 0), some (.int a1), some (.int a2), some (.int a3), none], [], x1) := (mj_run_to (cd := cdX1) (rt := 0) (tab := tX1_statement) (cal := kX1 d) zX1_statement 69 (398, [some (.ref 0), some (.int a1), some (.int a2), some (.int a3), none], [], x)).trans rfl
set_option maxRecDepth 100000 in
set_option maxHeartbeats 4000000 in
theorem bX1_statement_404 (d : Nat) (a1 : Int32) (a2 : Int32) (a3 : Int32) (o4 : Option Value) (x : mj_X) : rX1_statement d (404, [some (.ref 0), some (.int a1), some (.int a2), some (.int a3), o4], [], x) = some (none, (mj_wI x 0 41 ((x.1 0 41) - (1 : Int32)))) := (mj_run_to (cd := cdX1) (rt := 0) (tab := tX1_statement) (cal := kX1 d) zX1_statement 69 (404, [some (.ref 0), some (.int a1), some (.int a2), some (.int a3), o4], [], x)).trans rfl
noncomputable abbrev rX1_alone (d : Nat) : mj_S → mj_R := mj_run cdX1 0 tX1_alone (kX1 d)
def zX1_alone (p : Nat) : Bool := bif Nat.beq p 116 then true else false
set_option maxRecDepth 100000 in
set_option maxHeartbeats 4000000 in
theorem eX1_alone (d : Nat) (a1 : Int32) (x : mj_X) : kX1 (d + 1) 39 [.ref 0, .int a1] x = mj_g a1 4000 (mj_g a1 4000 (mj_g a1 4000 (
  if (x.1 2 a1.toNatClampNeg) = (7 : Int32) then mj_rV (kX1 d 40 [.ref 0, .int (x.1 4 a1.toNatClampNeg)] x) fun x1 =>
   mj_g (x.1 3 a1.toNatClampNeg) 4000 (mj_g (x.1 3 a1.toNatClampNeg) 4000 (mj_rV (kX1 d 71 [.ref 0, .int (x1.1 48 (x.1 3 a1.toNatClampNeg).toNatClampNeg), .int (x1.1 5 (x.1 3 a1.toNatClampNeg).toNatClampNeg)] x1) fun x2 =>
   some (none, x2)))
  else 
   if (x.1 2 a1.toNatClampNeg) = (9 : Int32) then mj_rV (kX1 d 74 [.ref 0, .int (x.1 3 a1.toNatClampNeg), .int (x.1 4 a1.toNatClampNeg), .int (0 : Int32)] x) fun x3 =>
    some (none, x3)
   else 
    if (x.1 2 a1.toNatClampNeg) = (34 : Int32) then mj_rV (kX1 d 77 [.ref 0, .int (x.1 3 a1.toNatClampNeg), .int (x.1 4 a1.toNatClampNeg), .int (0 : Int32)] x) fun x4 =>
     some (none, x4)
    else 
     if (x.1 2 a1.toNatClampNeg) < (35 : Int32) then rX1_alone d (116, [some (.ref 0), some (.int a1), some (.int (x.1 3 a1.toNatClampNeg)), some (.int (x.1 4 a1.toNatClampNeg)), some (.int (x.1 2 a1.toNatClampNeg)), none], [], x)
     else 
      if (45 : Int32) < (x.1 2 a1.toNatClampNeg) then rX1_alone d (116, [some (.ref 0), some (.int a1), some (.int (x.1 3 a1.toNatClampNeg)), some (.int (x.1 4 a1.toNatClampNeg)), some (.int (x.1 2 a1.toNatClampNeg)), none], [], x)
      else mj_rV (kX1 d 55 [.ref 0, .int (x.1 3 a1.toNatClampNeg), .int ((x.1 2 a1.toNatClampNeg) - (25 : Int32)), .int (x.1 4 a1.toNatClampNeg), .int (0 : Int32)] x) fun x5 =>
       some (none, x5)))) := (mj_run_to (cd := cdX1) (rt := 0) (tab := tX1_alone) (cal := kX1 d) zX1_alone 73 (0, [some (.ref 0), some (.int a1), none, none, none, none], [], x)).trans rfl
set_option maxRecDepth 100000 in
set_option maxHeartbeats 4000000 in
theorem bX1_alone_116 (d : Nat) (a1 : Int32) (a2 : Int32) (a3 : Int32) (a4 : Int32) (x : mj_X) : rX1_alone d (116, [some (.ref 0), some (.int a1), some (.int a2), some (.int a3), some (.int a4), none], [], x) = mj_rV (kX1 d 40 [.ref 0, .int a1] x) fun x1 =>
  mj_g a1 4000 (mj_rI (kX1 d 25 [.int (x1.1 5 a1.toNatClampNeg)] x1) fun v3 x2 =>
  
  if v3 ≤ 0 then some (none, x2)
  else 
   if v3 = (2 : Int32) then mj_rV (kX1 d 42 [.ref 0, .int (88 : Int32), .int v3, .int (0 : Int32)] x2) fun x4 =>
    some (none, x4)
   else mj_rV (kX1 d 42 [.ref 0, .int (87 : Int32), .int v3, .int (0 : Int32)] x2) fun x5 =>
    some (none, x5)) := (mj_run_to (cd := cdX1) (rt := 0) (tab := tX1_alone) (cal := kX1 d) zX1_alone 73 (116, [some (.ref 0), some (.int a1), some (.int a2), some (.int a3), some (.int a4), none], [], x)).trans rfl
noncomputable abbrev rX1_value (d : Nat) : mj_S → mj_R := mj_run cdX1 0 tX1_value (kX1 d)
def zX1_value (p : Nat) : Bool := bif Nat.blt p 485 then (bif Nat.blt p 405 then (bif Nat.blt p 168 then (bif Nat.blt p 141 then (bif Nat.beq p 74 then true else false) else (bif Nat.beq p 141 then true else false)) else (bif Nat.blt p 388 then (bif Nat.beq p 168 then true else false) else (bif Nat.blt p 396 then (bif Nat.beq p 388 then true else false) else (bif Nat.beq p 396 then true else false)))) else (bif Nat.blt p 422 then (bif Nat.blt p 413 then (bif Nat.beq p 405 then true else false) else (bif Nat.beq p 413 then true else false)) else (bif Nat.blt p 432 then (bif Nat.beq p 422 then true else false) else (bif Nat.blt p 451 then (bif Nat.beq p 432 then true else false) else (bif Nat.beq p 451 then true else false))))) else (bif Nat.blt p 588 then (bif Nat.blt p 519 then (bif Nat.blt p 509 then (bif Nat.beq p 485 then true else false) else (bif Nat.beq p 509 then true else false)) else (bif Nat.blt p 560 then (bif Nat.beq p 519 then true else false) else (bif Nat.blt p 579 then (bif Nat.beq p 560 then true else false) else (bif Nat.beq p 579 then true else false)))) else (bif Nat.blt p 654 then (bif Nat.blt p 598 then (bif Nat.beq p 588 then true else false) else (bif Nat.blt p 647 then (bif Nat.beq p 598 then true else false) else (bif Nat.beq p 647 then true else false))) else (bif Nat.blt p 671 then (bif Nat.beq p 654 then true else false) else (bif Nat.blt p 677 then (bif Nat.beq p 671 then true else false) else (bif Nat.beq p 677 then true else false)))))
set_option maxRecDepth 100000 in
set_option maxHeartbeats 4000000 in
theorem eX1_value (d : Nat) (a1 : Int32) (x : mj_X) : kX1 (d + 1) 40 [.ref 0, .int a1] x = 
  if (x.1 0 35) = 0 then some (none, x)
  else 
   if (x.1 0 34) = 0 then mj_g a1 4000 (mj_g a1 4000 (mj_g a1 4000 (
    if (x.1 2 a1.toNatClampNeg) < (10 : Int32) then rX1_value d (74, [some (.ref 0), some (.int a1), some (.int (x.1 3 a1.toNatClampNeg)), some (.int (x.1 4 a1.toNatClampNeg)), some (.int (x.1 2 a1.toNatClampNeg)), none, none], [], x)
    else 
     if (20 : Int32) < (x.1 2 a1.toNatClampNeg) then rX1_value d (74, [some (.ref 0), some (.int a1), some (.int (x.1 3 a1.toNatClampNeg)), some (.int (x.1 4 a1.toNatClampNeg)), some (.int (x.1 2 a1.toNatClampNeg)), none, none], [], x)
     else mj_rV (kX1 d 40 [.ref 0, .int (x.1 3 a1.toNatClampNeg)] x) fun x1 =>
      mj_rV (kX1 d 40 [.ref 0, .int (x.1 4 a1.toNatClampNeg)] x1) fun x2 =>
      mj_g (x.1 3 a1.toNatClampNeg) 4000 (mj_rV (kX1 d 41 [.ref 0, .int (x.1 2 a1.toNatClampNeg), .int (x2.1 5 (x.1 3 a1.toNatClampNeg).toNatClampNeg)] x2) fun x3 =>
      some (none, x3)))))
   else some (none, x) := (mj_run_to (cd := cdX1) (rt := 0) (tab := tX1_value) (cal := kX1 d) zX1_value 47 (0, [some (.ref 0), some (.int a1), none, none, none, none, none], [], x)).trans rfl
set_option maxRecDepth 100000 in
set_option maxHeartbeats 4000000 in
theorem bX1_value_74 (d : Nat) (a1 : Int32) (a2 : Int32) (a3 : Int32) (a4 : Int32) (x : mj_X) : rX1_value d (74, [some (.ref 0), some (.int a1), some (.int a2), some (.int a3), some (.int a4), none, none], [], x) = 
  if a4 < (23 : Int32) then rX1_value d (141, [some (.ref 0), some (.int a1), some (.int a2), some (.int a3), some (.int a4), none, none], [], x)
  else 
   if (31 : Int32) < a4 then rX1_value d (141, [some (.ref 0), some (.int a1), some (.int a2), some (.int a3), some (.int a4), none, none], [], x)
   else mj_rI (kX1 d 45 [.ref 0] x) fun v2 x1 =>
    mj_rI (kX1 d 45 [.ref 0] x1) fun v4 x3 =>
    mj_rV (kX1 d 46 [.ref 0, .int a1, .int (0 : Int32), .int v2] x3) fun x5 =>
    mj_rV (kX1 d 42 [.ref 0, .int (4 : Int32), .int (0 : Int32), .int (1 : Int32)] x5) fun x6 =>
    mj_rV (kX1 d 47 [.ref 0, .int v4] x6) fun x7 =>
    mj_rV (kX1 d 51 [.ref 0, .int v2] x7) fun x8 =>
    mj_rV (kX1 d 42 [.ref 0, .int (3 : Int32), .int (0 : Int32), .int (1 : Int32)] x8) fun x9 =>
    mj_rV (kX1 d 51 [.ref 0, .int v4] x9) fun x10 =>
    some (none, x10) := (mj_run_to (cd := cdX1) (rt := 0) (tab := tX1_value) (cal := kX1 d) zX1_value 47 (74, [some (.ref 0), some (.int a1), some (.int a2), some (.int a3), some (.int a4), none, none], [], x)).trans rfl
set_option maxRecDepth 100000 in
set_option maxHeartbeats 4000000 in
theorem bX1_value_141 (d : Nat) (a1 : Int32) (a2 : Int32) (a3 : Int32) (a4 : Int32) (x : mj_X) : rX1_value d (141, [some (.ref 0), some (.int a1), some (.int a2), some (.int a3), some (.int a4), none, none], [], x) = 
  if a4 < (35 : Int32) then rX1_value d (168, [some (.ref 0), some (.int a1), some (.int a2), some (.int a3), some (.int a4), none, none], [], x)
  else 
   if (45 : Int32) < a4 then rX1_value d (168, [some (.ref 0), some (.int a1), some (.int a2), some (.int a3), some (.int a4), none, none], [], x)
   else mj_rV (kX1 d 55 [.ref 0, .int a2, .int (a4 - (25 : Int32)), .int a3, .int (1 : Int32)] x) fun x1 =>
    some (none, x1) := (mj_run_to (cd := cdX1) (rt := 0) (tab := tX1_value) (cal := kX1 d) zX1_value 47 (141, [some (.ref 0), some (.int a1), some (.int a2), some (.int a3), some (.int a4), none, none], [], x)).trans rfl
set_option maxRecDepth 100000 in
set_option maxHeartbeats 4000000 in
theorem bX1_value_168 (d : Nat) (a1 : Int32) (a2 : Int32) (a3 : Int32) (a4 : Int32) (x : mj_X) : rX1_value d (168, [some (.ref 0), some (.int a1), some (.int a2), some (.int a3), some (.int a4), none, none], [], x) = mj_sw a4 1 (501) [218, 226, 235, 243, 501, 262, 281, 315, 339, 501, 501, 501, 501, 501, 501, 501, 501, 501, 501, 501, 349, 390, 501, 501, 501, 501, 501, 501, 501, 501, 501, 409, 501, 418, 501, 501, 501, 501, 501, 501, 501, 501, 501, 501, 501, 428, 484, 501, 501, 501, 252] fun off => mj_j 170 off fun t => rX1_value d (t, [some (.ref 0), some (.int a1), some (.int a2), some (.int a3), some (.int a4), none, none], [], x) := (mj_run_to (cd := cdX1) (rt := 0) (tab := tX1_value) (cal := kX1 d) zX1_value 47 (168, [some (.ref 0), some (.int a1), some (.int a2), some (.int a3), some (.int a4), none, none], [], x)).trans rfl
set_option maxRecDepth 100000 in
set_option maxHeartbeats 4000000 in
theorem bX1_value_388 (d : Nat) (a1 : Int32) (a2 : Int32) (a3 : Int32) (a4 : Int32) (x : mj_X) : rX1_value d (388, [some (.ref 0), some (.int a1), some (.int a2), some (.int a3), some (.int a4), none, none], [], x) = mj_rV (kX1 d 62 [.ref 0, .int a2] x) fun x1 =>
  some (none, x1) := (mj_run_to (cd := cdX1) (rt := 0) (tab := tX1_value) (cal := kX1 d) zX1_value 47 (388, [some (.ref 0), some (.int a1), some (.int a2), some (.int a3), some (.int a4), none, none], [], x)).trans rfl
set_option maxRecDepth 100000 in
set_option maxHeartbeats 4000000 in
theorem bX1_value_396 (d : Nat) (a1 : Int32) (a2 : Int32) (a3 : Int32) (a4 : Int32) (x : mj_X) : rX1_value d (396, [some (.ref 0), some (.int a1), some (.int a2), some (.int a3), some (.int a4), none, none], [], x) = mj_rV (kX1 d 65 [.ref 0, .int a2, .int a3] x) fun x1 =>
  some (none, x1) := (mj_run_to (cd := cdX1) (rt := 0) (tab := tX1_value) (cal := kX1 d) zX1_value 47 (396, [some (.ref 0), some (.int a1), some (.int a2), some (.int a3), some (.int a4), none, none], [], x)).trans rfl
set_option maxRecDepth 100000 in
set_option maxHeartbeats 4000000 in
theorem bX1_value_405 (d : Nat) (a1 : Int32) (a2 : Int32) (a3 : Int32) (a4 : Int32) (x : mj_X) : rX1_value d (405, [some (.ref 0), some (.int a1), some (.int a2), some (.int a3), some (.int a4), none, none], [], x) = mj_rV (kX1 d 66 [.ref 0, .int a2] x) fun x1 =>
  some (none, x1) := (mj_run_to (cd := cdX1) (rt := 0) (tab := tX1_value) (cal := kX1 d) zX1_value 47 (405, [some (.ref 0), some (.int a1), some (.int a2), some (.int a3), some (.int a4), none, none], [], x)).trans rfl
set_option maxRecDepth 100000 in
set_option maxHeartbeats 4000000 in
theorem bX1_value_413 (d : Nat) (a1 : Int32) (a2 : Int32) (a3 : Int32) (a4 : Int32) (x : mj_X) : rX1_value d (413, [some (.ref 0), some (.int a1), some (.int a2), some (.int a3), some (.int a4), none, none], [], x) = mj_rV (kX1 d 68 [.ref 0, .int a2, .int a3] x) fun x1 =>
  some (none, x1) := (mj_run_to (cd := cdX1) (rt := 0) (tab := tX1_value) (cal := kX1 d) zX1_value 47 (413, [some (.ref 0), some (.int a1), some (.int a2), some (.int a3), some (.int a4), none, none], [], x)).trans rfl
set_option maxRecDepth 100000 in
set_option maxHeartbeats 4000000 in
theorem bX1_value_422 (d : Nat) (a1 : Int32) (a2 : Int32) (a3 : Int32) (a4 : Int32) (x : mj_X) : rX1_value d (422, [some (.ref 0), some (.int a1), some (.int a2), some (.int a3), some (.int a4), none, none], [], x) = mj_rV (kX1 d 42 [.ref 0, .int (1 : Int32), .int (0 : Int32), .int (1 : Int32)] x) fun x1 =>
  some (none, x1) := (mj_run_to (cd := cdX1) (rt := 0) (tab := tX1_value) (cal := kX1 d) zX1_value 47 (422, [some (.ref 0), some (.int a1), some (.int a2), some (.int a3), some (.int a4), none, none], [], x)).trans rfl
set_option maxRecDepth 100000 in
set_option maxHeartbeats 4000000 in
theorem bX1_value_432 (d : Nat) (a1 : Int32) (a2 : Int32) (a3 : Int32) (a4 : Int32) (x : mj_X) : rX1_value d (432, [some (.ref 0), some (.int a1), some (.int a2), some (.int a3), some (.int a4), none, none], [], x) = mj_g a2 4000 (mj_g a2 4000 (mj_rV (kX1 d 57 [.ref 0, .int (x.1 48 a2.toNatClampNeg), .int (x.1 5 a2.toNatClampNeg)] x) fun x1 =>
  some (none, x1))) := (mj_run_to (cd := cdX1) (rt := 0) (tab := tX1_value) (cal := kX1 d) zX1_value 47 (432, [some (.ref 0), some (.int a1), some (.int a2), some (.int a3), some (.int a4), none, none], [], x)).trans rfl
set_option maxRecDepth 100000 in
set_option maxHeartbeats 4000000 in
theorem bX1_value_451 (d : Nat) (a1 : Int32) (a2 : Int32) (a3 : Int32) (a4 : Int32) (x : mj_X) : rX1_value d (451, [some (.ref 0), some (.int a1), some (.int a2), some (.int a3), some (.int a4), none, none], [], x) = mj_rV (kX1 d 40 [.ref 0, .int a3] x) fun x1 =>
  mj_g a2 4000 (mj_rV (kX1 d 70 [.ref 0, .int (x1.1 5 a2.toNatClampNeg)] x1) fun x2 =>
  mj_g a2 4000 (mj_g a2 4000 (mj_rV (kX1 d 71 [.ref 0, .int (x2.1 48 a2.toNatClampNeg), .int (x2.1 5 a2.toNatClampNeg)] x2) fun x3 =>
  some (none, x3)))) := (mj_run_to (cd := cdX1) (rt := 0) (tab := tX1_value) (cal := kX1 d) zX1_value 47 (451, [some (.ref 0), some (.int a1), some (.int a2), some (.int a3), some (.int a4), none, none], [], x)).trans rfl
set_option maxRecDepth 100000 in
set_option maxHeartbeats 4000000 in
theorem bX1_value_485 (d : Nat) (a1 : Int32) (a2 : Int32) (a3 : Int32) (a4 : Int32) (x : mj_X) : rX1_value d (485, [some (.ref 0), some (.int a1), some (.int a2), some (.int a3), some (.int a4), none, none], [], x) = mj_rV (kX1 d 40 [.ref 0, .int a2] x) fun x1 =>
  mj_rV (kX1 d 40 [.ref 0, .int a3] x1) fun x2 =>
  mj_g a2 4000 (mj_rV (kX1 d 72 [.ref 0, .int (x2.1 5 a2.toNatClampNeg), .int (0 : Int32)] x2) fun x3 =>
  some (none, x3)) := (mj_run_to (cd := cdX1) (rt := 0) (tab := tX1_value) (cal := kX1 d) zX1_value 47 (485, [some (.ref 0), some (.int a1), some (.int a2), some (.int a3), some (.int a4), none, none], [], x)).trans rfl
set_option maxRecDepth 100000 in
set_option maxHeartbeats 4000000 in
theorem bX1_value_509 (d : Nat) (a1 : Int32) (a2 : Int32) (a3 : Int32) (a4 : Int32) (x : mj_X) : rX1_value d (509, [some (.ref 0), some (.int a1), some (.int a2), some (.int a3), some (.int a4), none, none], [], x) = mj_rV (kX1 d 74 [.ref 0, .int a2, .int a3, .int (1 : Int32)] x) fun x1 =>
  some (none, x1) := (mj_run_to (cd := cdX1) (rt := 0) (tab := tX1_value) (cal := kX1 d) zX1_value 47 (509, [some (.ref 0), some (.int a1), some (.int a2), some (.int a3), some (.int a4), none, none], [], x)).trans rfl
set_option maxRecDepth 100000 in
set_option maxHeartbeats 4000000 in
theorem bX1_value_519 (d : Nat) (a1 : Int32) (a2 : Int32) (a3 : Int32) (a4 : Int32) (x : mj_X) : rX1_value d (519, [some (.ref 0), some (.int a1), some (.int a2), some (.int a3), some (.int a4), none, none], [], x) = mj_rV (kX1 d 40 [.ref 0, .int a2] x) fun x1 =>
  mj_g a2 4000 (mj_g a2 4000 (mj_rI (kX1 d 25 [.int (x1.1 5 a2.toNatClampNeg)] x1) fun v3 x2 =>
  mj_g a2 4000 (mj_rI (kX1 d 25 [.int (x2.1 5 a2.toNatClampNeg)] x2) fun v5 x4 =>
  mj_rV (kX1 d 42 [.ref 0, .int (((116 : Int32) + (x1.1 5 a2.toNatClampNeg)) - (1 : Int32)), .int v3, .int v5] x4) fun x6 =>
  some (none, x6)))) := (mj_run_to (cd := cdX1) (rt := 0) (tab := tX1_value) (cal := kX1 d) zX1_value 47 (519, [some (.ref 0), some (.int a1), some (.int a2), some (.int a3), some (.int a4), none, none], [], x)).trans rfl
set_option maxRecDepth 100000 in
set_option maxHeartbeats 4000000 in
theorem bX1_value_560 (d : Nat) (a1 : Int32) (a2 : Int32) (a3 : Int32) (a4 : Int32) (x : mj_X) : rX1_value d (560, [some (.ref 0), some (.int a1), some (.int a2), some (.int a3), some (.int a4), none, none], [], x) = mj_rV (kX1 d 40 [.ref 0, .int a3] x) fun x1 =>
  mj_g a3 4000 (mj_rV (kX1 d 75 [.ref 0, .int (x1.1 5 a3.toNatClampNeg), .int a2] x1) fun x2 =>
  some (none, x2)) := (mj_run_to (cd := cdX1) (rt := 0) (tab := tX1_value) (cal := kX1 d) zX1_value 47 (560, [some (.ref 0), some (.int a1), some (.int a2), some (.int a3), some (.int a4), none, none], [], x)).trans rfl
set_option maxRecDepth 100000 in
set_option maxHeartbeats 4000000 in
theorem bX1_value_579 (d : Nat) (a1 : Int32) (a2 : Int32) (a3 : Int32) (a4 : Int32) (x : mj_X) : rX1_value d (579, [some (.ref 0), some (.int a1), some (.int a2), some (.int a3), some (.int a4), none, none], [], x) = mj_rV (kX1 d 76 [.ref 0, .int a2, .int a3] x) fun x1 =>
  some (none, x1) := (mj_run_to (cd := cdX1) (rt := 0) (tab := tX1_value) (cal := kX1 d) zX1_value 47 (579, [some (.ref 0), some (.int a1), some (.int a2), some (.int a3), some (.int a4), none, none], [], x)).trans rfl
set_option maxRecDepth 100000 in
set_option maxHeartbeats 4000000 in
theorem bX1_value_588 (d : Nat) (a1 : Int32) (a2 : Int32) (a3 : Int32) (a4 : Int32) (x : mj_X) : rX1_value d (588, [some (.ref 0), some (.int a1), some (.int a2), some (.int a3), some (.int a4), none, none], [], x) = mj_rV (kX1 d 77 [.ref 0, .int a2, .int a3, .int (1 : Int32)] x) fun x1 =>
  some (none, x1) := (mj_run_to (cd := cdX1) (rt := 0) (tab := tX1_value) (cal := kX1 d) zX1_value 47 (588, [some (.ref 0), some (.int a1), some (.int a2), some (.int a3), some (.int a4), none, none], [], x)).trans rfl
set_option maxRecDepth 100000 in
set_option maxHeartbeats 4000000 in
theorem bX1_value_598 (d : Nat) (a1 : Int32) (a2 : Int32) (a3 : Int32) (a4 : Int32) (x : mj_X) : rX1_value d (598, [some (.ref 0), some (.int a1), some (.int a2), some (.int a3), some (.int a4), none, none], [], x) = mj_rV (kX1 d 40 [.ref 0, .int a3] x) fun x1 =>
  mj_rV (kX1 d 42 [.ref 0, .int (188 : Int32), .int (1 : Int32), .int (1 : Int32)] x1) fun x2 =>
  
  if a2 = (5 : Int32) then rX1_value d (647, [some (.ref 0), some (.int a1), some (.int a2), some (.int a3), some (.int a4), none, none], [.int (8 : Int32), .ref 0], x2)
  else 
   if a2 = (6 : Int32) then rX1_value d (647, [some (.ref 0), some (.int a1), some (.int a2), some (.int a3), some (.int a4), none, none], [.int (10 : Int32), .ref 0], x2)
   else 
    if a2 = (7 : Int32) then rX1_value d (647, [some (.ref 0), some (.int a1), some (.int a2), some (.int a3), some (.int a4), none, none], [.int (11 : Int32), .ref 0], x2)
    else rX1_value d (647, [some (.ref 0), some (.int a1), some (.int a2), some (.int a3), some (.int a4), none, none], [.int (7 : Int32), .ref 0], x2) := (mj_run_to (cd := cdX1) (rt := 0) (tab := tX1_value) (cal := kX1 d) zX1_value 47 (598, [some (.ref 0), some (.int a1), some (.int a2), some (.int a3), some (.int a4), none, none], [], x)).trans rfl
set_option maxRecDepth 100000 in
set_option maxHeartbeats 4000000 in
theorem bX1_value_647 (d : Nat) (a1 : Int32) (a2 : Int32) (a3 : Int32) (a4 : Int32) (s1 : Int32) (x : mj_X) : rX1_value d (647, [some (.ref 0), some (.int a1), some (.int a2), some (.int a3), some (.int a4), none, none], [.int s1, .ref 0], x) = mj_rV (kX1 d 49 [.ref 0, .int s1, .int (1 : Int32)] x) fun x1 =>
  some (none, x1) := (mj_run_to (cd := cdX1) (rt := 0) (tab := tX1_value) (cal := kX1 d) zX1_value 47 (647, [some (.ref 0), some (.int a1), some (.int a2), some (.int a3), some (.int a4), none, none], [.int s1, .ref 0], x)).trans rfl
set_option maxRecDepth 100000 in
set_option maxHeartbeats 4000000 in
theorem bX1_value_654 (d : Nat) (a1 : Int32) (a2 : Int32) (a3 : Int32) (a4 : Int32) (x : mj_X) : rX1_value d (654, [some (.ref 0), some (.int a1), some (.int a2), some (.int a3), some (.int a4), none, none], [], x) = mj_rV (kX1 d 40 [.ref 0, .int a2] x) fun x1 =>
  mj_rV (kX1 d 42 [.ref 0, .int (190 : Int32), .int (1 : Int32), .int (1 : Int32)] x1) fun x2 =>
  some (none, x2) := (mj_run_to (cd := cdX1) (rt := 0) (tab := tX1_value) (cal := kX1 d) zX1_value 47 (654, [some (.ref 0), some (.int a1), some (.int a2), some (.int a3), some (.int a4), none, none], [], x)).trans rfl
set_option maxRecDepth 100000 in
set_option maxHeartbeats 4000000 in
theorem bX1_value_671 (d : Nat) (a1 : Int32) (a2 : Int32) (a3 : Int32) (a4 : Int32) (x : mj_X) : rX1_value d (671, [some (.ref 0), some (.int a1), some (.int a2), some (.int a3), some (.int a4), none, none], [], x) = rX1_value d (677, [some (.ref 0), some (.int a1), some (.int a2), some (.int a3), some (.int a4), some (.int (0 : Int32)), some (.int a3)], [], x) := (mj_run_to (cd := cdX1) (rt := 0) (tab := tX1_value) (cal := kX1 d) zX1_value 47 (671, [some (.ref 0), some (.int a1), some (.int a2), some (.int a3), some (.int a4), none, none], [], x)).trans rfl
set_option maxRecDepth 100000 in
set_option maxHeartbeats 4000000 in
theorem bX1_value_677 (d : Nat) (a1 : Int32) (a2 : Int32) (a3 : Int32) (a4 : Int32) (a5 : Int32) (a6 : Int32) (x : mj_X) : rX1_value d (677, [some (.ref 0), some (.int a1), some (.int a2), some (.int a3), some (.int a4), some (.int a5), some (.int a6)], [], x) = 
  if a6 = (-1 : Int32) then mj_g a1 4000 (mj_rI (kX1 d 25 [.int (x.1 5 a1.toNatClampNeg)] x) fun v2 x1 =>
   mj_rV (kX1 d 78 [.ref 0, .int (5 : Int32), .int a2, .int a5, .int v2] x1) fun x3 =>
   some (none, x3))
  else mj_g a6 4000 (mj_rV (kX1 d 40 [.ref 0, .int (x.1 3 a6.toNatClampNeg)] x) fun x4 =>
   mj_g a6 4000 (mj_g (x4.1 3 a6.toNatClampNeg) 4000 (mj_rI (kX1 d 25 [.int (x4.1 5 (x4.1 3 a6.toNatClampNeg).toNatClampNeg)] x4) fun v6 x5 =>
   mj_g a6 4000 (rX1_value d (677, [some (.ref 0), some (.int a1), some (.int a2), some (.int a3), some (.int a4), some (.int (a5 + v6)), some (.int (x5.1 4 a6.toNatClampNeg))], [], x5))))) := (mj_run_to (cd := cdX1) (rt := 0) (tab := tX1_value) (cal := kX1 d) zX1_value 47 (677, [some (.ref 0), some (.int a1), some (.int a2), some (.int a3), some (.int a4), some (.int a5), some (.int a6)], [], x)).trans rfl
noncomputable abbrev rX1_operate (d : Nat) : mj_S → mj_R := mj_run cdX1 0 tX1_operate (kX1 d)
def zX1_operate (p : Nat) : Bool := false
set_option maxRecDepth 100000 in
set_option maxHeartbeats 4000000 in
theorem eX1_operate (d : Nat) (a1 : Int32) (a2 : Int32) (x : mj_X) : kX1 (d + 1) 41 [.ref 0, .int a1, .int a2] x = mj_rI (kX1 d 25 [.int a2] x) fun v2 x1 =>
  
  if (14 : Int32) < a1 then 
   if (17 : Int32) < a1 then mj_rV (kX1 d 42 [.ref 0, .int ((((120 : Int32) + ((2 : Int32) * (a1 - (18 : Int32)))) + a2) - (1 : Int32)), .int (v2 + (1 : Int32)), .int v2] x1) fun x3 =>
    some (none, x3)
   else mj_rV (kX1 d 42 [.ref 0, .int ((((126 : Int32) + ((2 : Int32) * (a1 - (15 : Int32)))) + a2) - (1 : Int32)), .int ((2 : Int32) * v2), .int v2] x1) fun x4 =>
    some (none, x4)
  else mj_rV (kX1 d 42 [.ref 0, .int ((((96 : Int32) + ((4 : Int32) * (a1 - (10 : Int32)))) + a2) - (1 : Int32)), .int ((2 : Int32) * v2), .int v2] x1) fun x5 =>
   some (none, x5) := (mj_run_to (cd := cdX1) (rt := 0) (tab := tX1_operate) (cal := kX1 d) zX1_operate 67 (0, [some (.ref 0), some (.int a1), some (.int a2), none], [], x)).trans rfl
noncomputable abbrev rX1_code (d : Nat) : mj_S → mj_R := mj_run cdX1 0 tX1_code (kX1 d)
def zX1_code (p : Nat) : Bool := bif Nat.beq p 35 then true else false
set_option maxRecDepth 100000 in
set_option maxHeartbeats 4000000 in
theorem eX1_code (d : Nat) (a1 : Int32) (a2 : Int32) (a3 : Int32) (x : mj_X) : kX1 (d + 1) 42 [.ref 0, .int a1, .int a2, .int a3] x = 
  if (x.1 0 35) = 0 then some (none, x)
  else 
   if (x.1 0 34) = 0 then 
    if (x.1 0 46) < 0 then rX1_code d (35, [some (.ref 0), some (.int a1), some (.int a2), some (.int a3)], [], x)
    else mj_rV (kX1 d 43 [.ref 0, .int (x.1 0 46)] x) fun x1 =>
     rX1_code d (35, [some (.ref 0), some (.int a1), some (.int a2), some (.int a3)], [], (mj_wI x1 0 46 (-1 : Int32)))
   else some (none, x) := (mj_run_to (cd := cdX1) (rt := 0) (tab := tX1_code) (cal := kX1 d) zX1_code 22 (0, [some (.ref 0), some (.int a1), some (.int a2), some (.int a3)], [], x)).trans rfl
set_option maxRecDepth 100000 in
set_option maxHeartbeats 4000000 in
theorem bX1_code_35 (d : Nat) (a1 : Int32) (a2 : Int32) (a3 : Int32) (x : mj_X) : rX1_code d (35, [some (.ref 0), some (.int a1), some (.int a2), some (.int a3)], [], x) = mj_rV (kX1 d 44 [.ref 0, .int a1] x) fun x1 =>
  mj_rI (kX1 d 19 [.int (x1.1 0 37), .int ((x1.1 0 36) + (a3 - a2))] (mj_wI x1 0 36 ((x1.1 0 36) + (a3 - a2)))) fun v3 x2 =>
  some (none, (mj_wI x2 0 37 v3)) := (mj_run_to (cd := cdX1) (rt := 0) (tab := tX1_code) (cal := kX1 d) zX1_code 22 (35, [some (.ref 0), some (.int a1), some (.int a2), some (.int a3)], [], x)).trans rfl
noncomputable abbrev rX1_line (d : Nat) : mj_S → mj_R := mj_run cdX1 0 tX1_line (kX1 d)
def zX1_line (p : Nat) : Bool := bif Nat.beq p 49 then true else false
set_option maxRecDepth 100000 in
set_option maxHeartbeats 4000000 in
theorem eX1_line (d : Nat) (a1 : Int32) (x : mj_X) : kX1 (d + 1) 43 [.ref 0, .int a1] x = mj_g (x.1 0 7) 41 (
  if (x.1 0 45) ≤ 0 then rX1_line d (49, [some (.ref 0), some (.int a1), some (.int ((2 : Int32) * ((x.1 18 (x.1 0 7).toNatClampNeg) + (x.1 0 45))))], [], x)
  else mj_g (((2 : Int32) * ((x.1 18 (x.1 0 7).toNatClampNeg) + (x.1 0 45))) - (2 : Int32)) 40200 (
   if (x.1 25 (((2 : Int32) * ((x.1 18 (x.1 0 7).toNatClampNeg) + (x.1 0 45))) - (2 : Int32)).toNatClampNeg) = (x.1 0 32) then mj_g (((2 : Int32) * ((x.1 18 (x.1 0 7).toNatClampNeg) + (x.1 0 45))) - (1 : Int32)) 40200 (some (none, (mj_wI x 25 (((2 : Int32) * ((x.1 18 (x.1 0 7).toNatClampNeg) + (x.1 0 45))) - (1 : Int32)).toNatClampNeg a1)))
   else rX1_line d (49, [some (.ref 0), some (.int a1), some (.int ((2 : Int32) * ((x.1 18 (x.1 0 7).toNatClampNeg) + (x.1 0 45))))], [], x))) := (mj_run_to (cd := cdX1) (rt := 0) (tab := tX1_line) (cal := kX1 d) zX1_line 36 (0, [some (.ref 0), some (.int a1), none], [], x)).trans rfl
set_option maxRecDepth 100000 in
set_option maxHeartbeats 4000000 in
theorem bX1_line_49 (d : Nat) (a1 : Int32) (a2 : Int32) (x : mj_X) : rX1_line d (49, [some (.ref 0), some (.int a1), some (.int a2)], [], x) = mj_g (x.1 0 7) 41 (
  if ((x.1 18 (x.1 0 7).toNatClampNeg) + (x.1 0 45)) < (20000 : Int32) then mj_g a2 40200 (mj_g (a2 + (1 : Int32)) 40200 (some (none, (mj_wI (mj_wI (mj_wI x 25 a2.toNatClampNeg (x.1 0 32)) 25 (a2 + (1 : Int32)).toNatClampNeg a1) 0 45 ((x.1 0 45) + (1 : Int32))))))
  else some (none, (mj_wI x 0 34 (1 : Int32)))) := (mj_run_to (cd := cdX1) (rt := 0) (tab := tX1_line) (cal := kX1 d) zX1_line 36 (49, [some (.ref 0), some (.int a1), some (.int a2)], [], x)).trans rfl
