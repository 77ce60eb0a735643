noncomputable abbrev rX1_range (d : Nat) : mj_S → mj_R := mj_run cdX1 0 tX1_range (kX1 d)
def zX1_range (p : Nat) : Bool := false
set_option maxRecDepth 100000 in
set_option maxHeartbeats 4000000 in
theorem eX1_range (d : Nat) (a1 : Int32) (a2 : Int32) (a3 : Int32) (a4 : Int32) (x : mj_X) : kX1 (d + 1) 93 [.ref 0, .int a1, .int a2, .int a3, .int a4] x = mj_g (x.1 0 7) 41 (
  if ((x.1 17 (x.1 0 7).toNatClampNeg) + (x.1 0 44)) < (20000 : Int32) then mj_g (x.1 0 7) 41 (mj_g ((4 : Int32) * ((x.1 17 (x.1 0 7).toNatClampNeg) + (x.1 0 44))) 80400 (mj_g (((4 : Int32) * ((x.1 17 (x.1 0 7).toNatClampNeg) + (x.1 0 44))) + (1 : Int32)) 80400 (mj_g (((4 : Int32) * ((x.1 17 (x.1 0 7).toNatClampNeg) + (x.1 0 44))) + (2 : Int32)) 80400 (mj_g (((4 : Int32) * ((x.1 17 (x.1 0 7).toNatClampNeg) + (x.1 0 44))) + (3 : Int32)) 80400 (some (none, (mj_wI (mj_wI (mj_wI (mj_wI (mj_wI x 24 ((4 : Int32) * ((x.1 17 (x.1 0 7).toNatClampNeg) + (x.1 0 44))).toNatClampNeg a1) 24 (((4 : Int32) * ((x.1 17 (x.1 0 7).toNatClampNeg) + (x.1 0 44))) + (1 : Int32)).toNatClampNeg a2) 24 (((4 : Int32) * ((x.1 17 (x.1 0 7).toNatClampNeg) + (x.1 0 44))) + (2 : Int32)).toNatClampNeg a3) 24 (((4 : Int32) * ((x.1 17 (x.1 0 7).toNatClampNeg) + (x.1 0 44))) + (3 : Int32)).toNatClampNeg a4) 0 44 ((x.1 0 44) + (1 : Int32)))))))))
  else some (none, (mj_wI x 0 34 (1 : Int32)))) := (mj_run_to (cd := cdX1) (rt := 0) (tab := tX1_range) (cal := kX1 d) zX1_range 60 (0, [some (.ref 0), some (.int a1), some (.int a2), some (.int a3), some (.int a4), none], [], x)).trans rfl
noncomputable abbrev rX1_ended (d : Nat) : mj_S → mj_R := mj_run cdX1 0 tX1_ended (kX1 d)
def zX1_ended (p : Nat) : Bool := bif Nat.blt p 153 then (bif Nat.beq p 68 then true else false) else (bif Nat.blt p 181 then (bif Nat.beq p 153 then true else false) else (bif Nat.beq p 181 then true else false))
set_option maxRecDepth 100000 in
set_option maxHeartbeats 4000000 in
theorem eX1_ended (d : Nat) (a1 : Int32) (a2 : Int32) (a3 : Int32) (x : mj_X) : kX1 (d + 1) 94 [.ref 0, .int a1, .int a2, .int a3] x = mj_rI (kX1 d 81 [.ref 0, .int a1] x) fun v2 x1 =>
  mj_g v2 4000 (mj_rI (kX1 d 45 [.ref 0] (mj_wI x1 65 v2.toNatClampNeg a3)) fun v4 x3 =>
  mj_rV (kX1 d 37 [.ref 0, .int a2] x3) fun x5 =>
  mj_rV (kX1 d 86 [.ref 0, .int v2] x5) fun x6 =>
  mj_rV (kX1 d 82 [.ref 0, .int v2] x6) fun x7 =>
  
  if (x7.1 0 35) = 0 then rX1_ended d (68, [some (.ref 0), some (.int a1), some (.int a2), some (.int a3), some (.int v2), some (.int v4), none, none, none], [], x7)
  else mj_g v2 4000 (mj_rV (kX1 d 87 [.ref 0, .int v2] (mj_wI x7 0 38 (x7.1 66 v2.toNatClampNeg))) fun x8 =>
   mj_rV (kX1 d 47 [.ref 0, .int v4] x8) fun x9 =>
   rX1_ended d (68, [some (.ref 0), some (.int a1), some (.int a2), some (.int a3), some (.int v2), some (.int v4), none, none, none], [], x9))) := (mj_run_to (cd := cdX1) (rt := 0) (tab := tX1_ended) (cal := kX1 d) zX1_ended 51 (0, [some (.ref 0), some (.int a1), some (.int a2), some (.int a3), none, none, none, none, none], [], x)).trans rfl
set_option maxRecDepth 100000 in
set_option maxHeartbeats 4000000 in
theorem bX1_ended_68 (d : Nat) (a1 : Int32) (a2 : Int32) (a3 : Int32) (a4 : Int32) (a5 : Int32) (x : mj_X) : rX1_ended d (68, [some (.ref 0), some (.int a1), some (.int a2), some (.int a3), some (.int a4), some (.int a5), none, none, none], [], x) = mj_g a4 4000 (mj_g a4 4000 (
  if (x.1 68 a4.toNatClampNeg) < 0 then rX1_ended d (181, [some (.ref 0), some (.int a1), some (.int a2), some (.int a3), some (.int a4), some (.int a5), none, none, none], [], (mj_wI x 0 38 (x.1 66 a4.toNatClampNeg)))
  else 
   if (x.1 0 34) = 0 then mj_rV (kX1 d 92 [.ref 0, .int a4, .int (0 : Int32)] (mj_wI x 0 38 (x.1 66 a4.toNatClampNeg))) fun x1 =>
    mj_rI (kX1 d 36 [.ref 0, .int (5 : Int32)] x1) fun v3 x2 =>
    mj_rV (kX1 d 71 [.ref 0, .int v3, .int (5 : Int32)] x2) fun x4 =>
    mj_rV (kX1 d 87 [.ref 0, .int a4] x4) fun x5 =>
    
    if a1 = (4 : Int32) then mj_rV (kX1 d 93 [.ref 0, .int (x4.1 0 32), .int (x5.1 0 32), .int (x2.1 0 32), .int (0 : Int32)] x5) fun x6 =>
     rX1_ended d (153, [some (.ref 0), some (.int a1), some (.int a2), some (.int a3), some (.int a4), some (.int a5), some (.int v3), some (.int (x2.1 0 32)), some (.int (x4.1 0 32))], [], x6)
    else rX1_ended d (153, [some (.ref 0), some (.int a1), some (.int a2), some (.int a3), some (.int a4), some (.int a5), some (.int v3), some (.int (x2.1 0 32)), some (.int (x4.1 0 32))], [], x5)
   else rX1_ended d (181, [some (.ref 0), some (.int a1), some (.int a2), some (.int a3), some (.int a4), some (.int a5), none, none, none], [], (mj_wI x 0 38 (x.1 66 a4.toNatClampNeg))))) := (mj_run_to (cd := cdX1) (rt := 0) (tab := tX1_ended) (cal := kX1 d) zX1_ended 51 (68, [some (.ref 0), some (.int a1), some (.int a2), some (.int a3), some (.int a4), some (.int a5), none, none, none], [], x)).trans rfl
set_option maxRecDepth 100000 in
set_option maxHeartbeats 4000000 in
theorem bX1_ended_153 (d : Nat) (a1 : Int32) (a2 : Int32) (a3 : Int32) (a4 : Int32) (a5 : Int32) (a6 : Int32) (a7 : Int32) (a8 : Int32) (x : mj_X) : rX1_ended d (153, [some (.ref 0), some (.int a1), some (.int a2), some (.int a3), some (.int a4), some (.int a5), some (.int a6), some (.int a7), some (.int a8)], [], x) = 
  if (x.1 0 35) = 0 then rX1_ended d (181, [some (.ref 0), some (.int a1), some (.int a2), some (.int a3), some (.int a4), some (.int a5), some (.int a6), some (.int a7), some (.int a8)], [], x)
  else mj_rV (kX1 d 57 [.ref 0, .int a6, .int (5 : Int32)] x) fun x1 =>
   mj_rV (kX1 d 42 [.ref 0, .int (191 : Int32), .int (1 : Int32), .int (0 : Int32)] x1) fun x2 =>
   rX1_ended d (181, [some (.ref 0), some (.int a1), some (.int a2), some (.int a3), some (.int a4), some (.int a5), some (.int a6), some (.int a7), some (.int a8)], [], (mj_wI x2 0 35 (0 : Int32))) := (mj_run_to (cd := cdX1) (rt := 0) (tab := tX1_ended) (cal := kX1 d) zX1_ended 51 (153, [some (.ref 0), some (.int a1), some (.int a2), some (.int a3), some (.int a4), some (.int a5), some (.int a6), some (.int a7), some (.int a8)], [], x)).trans rfl
set_option maxRecDepth 100000 in
set_option maxHeartbeats 4000000 in
theorem bX1_ended_181 (d : Nat) (a1 : Int32) (a2 : Int32) (a3 : Int32) (a4 : Int32) (a5 : Int32) (o6 : Option Value) (o7 : Option Value) (o8 : Option Value) (x : mj_X) : rX1_ended d (181, [some (.ref 0), some (.int a1), some (.int a2), some (.int a3), some (.int a4), some (.int a5), o6, o7, o8], [], x) = mj_g a4 4000 (mj_rV (kX1 d 51 [.ref 0, .int a5] (mj_wI (mj_wI x 0 38 (x.1 66 a4.toNatClampNeg)) 0 58 a4)) fun x1 =>
  some (none, x1)) := (mj_run_to (cd := cdX1) (rt := 0) (tab := tX1_ended) (cal := kX1 d) zX1_ended 51 (181, [some (.ref 0), some (.int a1), some (.int a2), some (.int a3), some (.int a4), some (.int a5), o6, o7, o8], [], x)).trans rfl
noncomputable abbrev rX1_locked (d : Nat) : mj_S → mj_R := mj_run cdX1 0 tX1_locked (kX1 d)
def zX1_locked (p : Nat) : Bool := false
set_option maxRecDepth 100000 in
set_option maxHeartbeats 4000000 in
theorem eX1_locked (d : Nat) (a1 : Int32) (a2 : Int32) (x : mj_X) : kX1 (d + 1) 95 [.ref 0, .int a1, .int a2] x = mj_rV (kX1 d 40 [.ref 0, .int a1] x) fun x1 =>
  mj_rV (kX1 d 42 [.ref 0, .int (89 : Int32), .int (1 : Int32), .int (2 : Int32)] x1) fun x2 =>
  mj_rI (kX1 d 36 [.ref 0, .int (5 : Int32)] x2) fun v4 x3 =>
  mj_rV (kX1 d 71 [.ref 0, .int v4, .int (5 : Int32)] x3) fun x5 =>
  mj_rV (kX1 d 42 [.ref 0, .int (194 : Int32), .int (1 : Int32), .int (0 : Int32)] x5) fun x6 =>
  mj_rV (kX1 d 94 [.ref 0, .int (4 : Int32), .int a2, .int v4] x6) fun x7 =>
  some (none, (mj_wI x7 0 38 (x.1 0 38))) := (mj_run_to (cd := cdX1) (rt := 0) (tab := tX1_locked) (cal := kX1 d) zX1_locked 35 (0, [some (.ref 0), some (.int a1), some (.int a2), none, none], [], x)).trans rfl
noncomputable abbrev rX1_switched (d : Nat) : mj_S → mj_R := mj_run cdX1 0 tX1_switched (kX1 d)
def zX1_switched (p : Nat) : Bool := bif Nat.blt p 112 then (bif Nat.beq p 35 then true else false) else (bif Nat.beq p 112 then true else false)
set_option maxRecDepth 100000 in
set_option maxHeartbeats 4000000 in
theorem eX1_switched (d : Nat) (a1 : Int32) (a2 : Int32) (x : mj_X) : kX1 (d + 1) 96 [.ref 0, .int a1, .int a2] x = mj_rV (kX1 d 40 [.ref 0, .int a1] x) fun x1 =>
  mj_rI (kX1 d 81 [.ref 0, .int (1 : Int32)] x1) fun v3 x2 =>
  mj_rI (kX1 d 45 [.ref 0] x2) fun v5 x4 =>
  mj_g v3 4000 (rX1_switched d (35, [some (.ref 0), some (.int a1), some (.int a2), some (.int v3), some (.int v5), some (.int (0 : Int32)), some (.int v5), some (.int a2), none], [], (mj_wI x4 63 v3.toNatClampNeg v5))) := (mj_run_to (cd := cdX1) (rt := 0) (tab := tX1_switched) (cal := kX1 d) zX1_switched 51 (0, [some (.ref 0), some (.int a1), some (.int a2), none, none, none, none, none, none], [], x)).trans rfl
set_option maxRecDepth 100000 in
set_option maxHeartbeats 4000000 in
theorem bX1_switched_35 (d : Nat) (a1 : Int32) (a2 : Int32) (a3 : Int32) (a4 : Int32) (a5 : Int32) (a6 : Int32) (a7 : Int32) (o8 : Option Value) (x : mj_X) : rX1_switched d (35, [some (.ref 0), some (.int a1), some (.int a2), some (.int a3), some (.int a4), some (.int a5), some (.int a6), some (.int a7), o8], [], x) = 
  if a7 = (-1 : Int32) then mj_rV (kX1 d 97 [.ref 0, .int a2, .int a5, .int a6] x) fun x1 =>
   rX1_switched d (112, [some (.ref 0), some (.int a1), some (.int a2), some (.int a3), some (.int a4), some (.int a5), some (.int a6), some (.int a2), o8], [], x1)
  else mj_g a7 4000 (mj_rI (kX1 d 45 [.ref 0] x) fun v3 x2 =>
   mj_g (x.1 3 a7.toNatClampNeg) 4000 (mj_g (x.1 3 a7.toNatClampNeg) 4000 (
   if (x2.1 2 (x.1 3 a7.toNatClampNeg).toNatClampNeg) = (84 : Int32) then mj_g (x.1 3 a7.toNatClampNeg) 4000 (mj_g a7 4000 (rX1_switched d (35, [some (.ref 0), some (.int a1), some (.int a2), some (.int a3), some (.int a4), some (.int a5), some (.int ((mj_wI x2 74 (x.1 3 a7.toNatClampNeg).toNatClampNeg v3).1 74 (x.1 3 a7.toNatClampNeg).toNatClampNeg)), some (.int (x2.1 4 a7.toNatClampNeg)), some (.int (x.1 3 a7.toNatClampNeg))], [], (mj_wI x2 74 (x.1 3 a7.toNatClampNeg).toNatClampNeg v3))))
   else mj_g a7 4000 (rX1_switched d (35, [some (.ref 0), some (.int a1), some (.int a2), some (.int a3), some (.int a4), some (.int (a5 + (1 : Int32))), some (.int a6), some (.int (x2.1 4 a7.toNatClampNeg)), some (.int (x.1 3 a7.toNatClampNeg))], [], (mj_wI x2 74 (x.1 3 a7.toNatClampNeg).toNatClampNeg v3)))))) := (mj_run_to (cd := cdX1) (rt := 0) (tab := tX1_switched) (cal := kX1 d) zX1_switched 51 (35, [some (.ref 0), some (.int a1), some (.int a2), some (.int a3), some (.int a4), some (.int a5), some (.int a6), some (.int a7), o8], [], x)).trans rfl
set_option maxRecDepth 100000 in
set_option maxHeartbeats 4000000 in
theorem bX1_switched_112 (d : Nat) (a1 : Int32) (a2 : Int32) (a3 : Int32) (a4 : Int32) (a5 : Int32) (a6 : Int32) (a7 : Int32) (o8 : Option Value) (x : mj_X) : rX1_switched d (112, [some (.ref 0), some (.int a1), some (.int a2), some (.int a3), some (.int a4), some (.int a5), some (.int a6), some (.int a7), o8], [], x) = 
  if a7 = (-1 : Int32) then mj_rV (kX1 d 82 [.ref 0, .int a3] x) fun x1 =>
   mj_rV (kX1 d 51 [.ref 0, .int a4] (mj_wI x1 0 58 a3)) fun x2 =>
   some (none, x2)
  else mj_g a7 4000 (mj_g (x.1 3 a7.toNatClampNeg) 4000 (mj_rV (kX1 d 51 [.ref 0, .int (x.1 74 (x.1 3 a7.toNatClampNeg).toNatClampNeg)] x) fun x3 =>
   mj_g a7 4000 (mj_g (x3.1 3 a7.toNatClampNeg) 4000 (mj_rV (kX1 d 37 [.ref 0, .int (x3.1 4 (x3.1 3 a7.toNatClampNeg).toNatClampNeg)] x3) fun x4 =>
   mj_g a7 4000 (rX1_switched d (112, [some (.ref 0), some (.int a1), some (.int a2), some (.int a3), some (.int a4), some (.int a5), some (.int a6), some (.int (x4.1 4 a7.toNatClampNeg)), o8], [], x4)))))) := (mj_run_to (cd := cdX1) (rt := 0) (tab := tX1_switched) (cal := kX1 d) zX1_switched 51 (112, [some (.ref 0), some (.int a1), some (.int a2), some (.int a3), some (.int a4), some (.int a5), some (.int a6), some (.int a7), o8], [], x)).trans rfl
noncomputable abbrev rX1_table (d : Nat) : mj_S → mj_R := mj_run cdX1 0 tX1_table (kX1 d)
def zX1_table (p : Nat) : Bool := bif Nat.blt p 219 then (bif Nat.blt p 88 then (bif Nat.blt p 37 then (bif Nat.beq p 6 then true else false) else (bif Nat.beq p 37 then true else false)) else (bif Nat.blt p 149 then (bif Nat.beq p 88 then true else false) else (bif Nat.blt p 191 then (bif Nat.beq p 149 then true else false) else (bif Nat.beq p 191 then true else false)))) else (bif Nat.blt p 356 then (bif Nat.blt p 243 then (bif Nat.beq p 219 then true else false) else (bif Nat.blt p 312 then (bif Nat.beq p 243 then true else false) else (bif Nat.beq p 312 then true else false))) else (bif Nat.blt p 379 then (bif Nat.beq p 356 then true else false) else (bif Nat.blt p 432 then (bif Nat.beq p 379 then true else false) else (bif Nat.beq p 432 then true else false))))
set_option maxRecDepth 100000 in
set_option maxHeartbeats 4000000 in
theorem eX1_table (d : Nat) (a1 : Int32) (a2 : Int32) (a3 : Int32) (x : mj_X) : kX1 (d + 1) 97 [.ref 0, .int a1, .int a2, .int a3] x = rX1_table d (6, [some (.ref 0), some (.int a1), some (.int a2), some (.int a3), some (.int (0 : Int32)), some (.int a1), none, none, none, none, none, none, none, none], [], x) := (mj_run_to (cd := cdX1) (rt := 0) (tab := tX1_table) (cal := kX1 d) zX1_table 53 (0, [some (.ref 0), some (.int a1), some (.int a2), some (.int a3), none, none, none, none, none, none, none, none, none, none], [], x)).trans rfl
set_option maxRecDepth 100000 in
set_option maxHeartbeats 4000000 in
theorem bX1_table_6 (d : Nat) (a1 : Int32) (a2 : Int32) (a3 : Int32) (a4 : Int32) (a5 : Int32) (o6 : Option Value) (o7 : Option Value) (x : mj_X) : rX1_table d (6, [some (.ref 0), some (.int a1), some (.int a2), some (.int a3), some (.int a4), some (.int a5), o6, o7, none, none, none, none, none, none], [], x) = 
  if a5 = (-1 : Int32) then 
   if a2 ≤ 0 then rX1_table d (149, [some (.ref 0), some (.int a1), some (.int a2), some (.int a3), some (.int a4), some (.int a5), o6, o7, none, none, none, none, none, none], [.long (0 : Int64)], x)
   else mj_g (a2 - (1 : Int32)) 4000 (mj_g (x.1 75 (a2 - (1 : Int32)).toNatClampNeg) 4000 (mj_g (0 : Int32) 4000 (mj_g (x.1 75 (0 : Int32).toNatClampNeg) 4000 (rX1_table d (149, [some (.ref 0), some (.int a1), some (.int a2), some (.int a3), some (.int a4), some (.int a5), o6, o7, none, none, none, none, none, none], [.long (((x.1 3 (x.1 75 (a2 - (1 : Int32)).toNatClampNeg).toNatClampNeg).toInt64 - (x.1 3 (x.1 75 (0 : Int32).toNatClampNeg).toNatClampNeg).toInt64) + (1 : Int64))], x)))))
  else mj_g a5 4000 (mj_g (x.1 3 a5.toNatClampNeg) 4000 (
   if (x.1 2 (x.1 3 a5.toNatClampNeg).toNatClampNeg) = (83 : Int32) then rX1_table d (37, [some (.ref 0), some (.int a1), some (.int a2), some (.int a3), some (.int a4), some (.int a5), some (.int (x.1 3 a5.toNatClampNeg)), some (.int a4), none, none, none, none, none, none], [], x)
   else mj_g a5 4000 (rX1_table d (6, [some (.ref 0), some (.int a1), some (.int a2), some (.int a3), some (.int a4), some (.int (x.1 4 a5.toNatClampNeg)), some (.int (x.1 3 a5.toNatClampNeg)), o7, none, none, none, none, none, none], [], x)))) := (mj_run_to (cd := cdX1) (rt := 0) (tab := tX1_table) (cal := kX1 d) zX1_table 53 (6, [some (.ref 0), some (.int a1), some (.int a2), some (.int a3), some (.int a4), some (.int a5), o6, o7, none, none, none, none, none, none], [], x)).trans rfl
set_option maxRecDepth 100000 in
set_option maxHeartbeats 4000000 in
theorem bX1_table_37 (d : Nat) (a1 : Int32) (a2 : Int32) (a3 : Int32) (a4 : Int32) (a5 : Int32) (a6 : Int32) (a7 : Int32) (x : mj_X) : rX1_table d (37, [some (.ref 0), some (.int a1), some (.int a2), some (.int a3), some (.int a4), some (.int a5), some (.int a6), some (.int a7), none, none, none, none, none, none], [], x) = 
  if a7 ≤ 0 then rX1_table d (88, [some (.ref 0), some (.int a1), some (.int a2), some (.int a3), some (.int a4), some (.int a5), some (.int a6), some (.int a7), none, none, none, none, none, none], [], x)
  else mj_g (a7 - (1 : Int32)) 4000 (mj_g (x.1 75 (a7 - (1 : Int32)).toNatClampNeg) 4000 (mj_g a6 4000 (
   if (x.1 3 (x.1 75 (a7 - (1 : Int32)).toNatClampNeg).toNatClampNeg) ≤ (x.1 3 a6.toNatClampNeg) then rX1_table d (88, [some (.ref 0), some (.int a1), some (.int a2), some (.int a3), some (.int a4), some (.int a5), some (.int a6), some (.int a7), none, none, none, none, none, none], [], x)
   else mj_g (a7 - (1 : Int32)) 4000 (mj_g a7 4000 (rX1_table d (37, [some (.ref 0), some (.int a1), some (.int a2), some (.int a3), some (.int a4), some (.int a5), some (.int a6), some (.int (a7 + (-1 : Int32))), none, none, none, none, none, none], [], (mj_wI x 75 a7.toNatClampNeg (x.1 75 (a7 - (1 : Int32)).toNatClampNeg)))))))) := (mj_run_to (cd := cdX1) (rt := 0) (tab := tX1_table) (cal := kX1 d) zX1_table 53 (37, [some (.ref 0), some (.int a1), some (.int a2), some (.int a3), some (.int a4), some (.int a5), some (.int a6), some (.int a7), none, none, none, none, none, none], [], x)).trans rfl
set_option maxRecDepth 100000 in
set_option maxHeartbeats 4000000 in
theorem bX1_table_88 (d : Nat) (a1 : Int32) (a2 : Int32) (a3 : Int32) (a4 : Int32) (a5 : Int32) (a6 : Int32) (a7 : Int32) (x : mj_X) : rX1_table d (88, [some (.ref 0), some (.int a1), some (.int a2), some (.int a3), some (.int a4), some (.int a5), some (.int a6), some (.int a7), none, none, none, none, none, none], [], x) = mj_g a7 4000 (mj_g a5 4000 (rX1_table d (6, [some (.ref 0), some (.int a1), some (.int a2), some (.int a3), some (.int (a4 + (1 : Int32))), some (.int (x.1 4 a5.toNatClampNeg)), some (.int a6), some (.int a7), none, none, none, none, none, none], [], (mj_wI x 75 a7.toNatClampNeg a6)))) := (mj_run_to (cd := cdX1) (rt := 0) (tab := tX1_table) (cal := kX1 d) zX1_table 53 (88, [some (.ref 0), some (.int a1), some (.int a2), some (.int a3), some (.int a4), some (.int a5), some (.int a6), some (.int a7), none, none, none, none, none, none], [], x)).trans rfl
set_option maxRecDepth 100000 in
set_option maxHeartbeats 4000000 in
theorem bX1_table_149 (d : Nat) (a1 : Int32) (a2 : Int32) (a3 : Int32) (a4 : Int32) (a5 : Int32) (o6 : Option Value) (o7 : Option Value) (s0 : Int64) (x : mj_X) : rX1_table d (149, [some (.ref 0), some (.int a1), some (.int a2), some (.int a3), some (.int a4), some (.int a5), o6, o7, none, none, none, none, none, none], [.long s0], x) = 
  if a2 ≤ 0 then rX1_table d (191, [some (.ref 0), some (.int a1), some (.int a2), some (.int a3), some (.int a4), some (.long s0), none, o7, none, none, none, none, none, none], [.int (0 : Int32)], x)
  else 
   if 0 < (lg_cmp (((4 : Int64) + s0) + (9 : Int64)) (((3 : Int64) + ((2 : Int64) * a2.toInt64)) + ((3 : Int64) * a2.toInt64))) then rX1_table d (191, [some (.ref 0), some (.int a1), some (.int a2), some (.int a3), some (.int a4), some (.long s0), none, o7, none, none, none, none, none, none], [.int (0 : Int32)], x)
   else rX1_table d (191, [some (.ref 0), some (.int a1), some (.int a2), some (.int a3), some (.int a4), some (.long s0), none, o7, none, none, none, none, none, none], [.int (1 : Int32)], x) := (mj_run_to (cd := cdX1) (rt := 0) (tab := tX1_table) (cal := kX1 d) zX1_table 53 (149, [some (.ref 0), some (.int a1), some (.int a2), some (.int a3), some (.int a4), some (.int a5), o6, o7, none, none, none, none, none, none], [.long s0], x)).trans rfl
set_option maxRecDepth 100000 in
set_option maxHeartbeats 4000000 in
theorem bX1_table_191 (d : Nat) (a1 : Int32) (a2 : Int32) (a3 : Int32) (a4 : Int32) (a5 : Int64) (o7 : Option Value) (s0 : Int32) (x : mj_X) : rX1_table d (191, [some (.ref 0), some (.int a1), some (.int a2), some (.int a3), some (.int a4), some (.long a5), none, o7, none, none, none, none, none, none], [.int s0], x) = 
  if s0 = 0 then mj_rV (kX1 d 42 [.ref 0, .int (171 : Int32), .int (1 : Int32), .int (0 : Int32)] x) fun x1 =>
   rX1_table d (219, [some (.ref 0), some (.int a1), some (.int a2), some (.int a3), some (.int a4), some (.long a5), none, some (.int s0), some (.int (x.1 0 32)), none, none, none, none, none], [], x1)
  else mj_rV (kX1 d 42 [.ref 0, .int (170 : Int32), .int (1 : Int32), .int (0 : Int32)] x) fun x2 =>
   rX1_table d (219, [some (.ref 0), some (.int a1), some (.int a2), some (.int a3), some (.int a4), some (.long a5), none, some (.int s0), some (.int (x.1 0 32)), none, none, none, none, none], [], x2) := (mj_run_to (cd := cdX1) (rt := 0) (tab := tX1_table) (cal := kX1 d) zX1_table 53 (191, [some (.ref 0), some (.int a1), some (.int a2), some (.int a3), some (.int a4), some (.long a5), none, o7, none, none, none, none, none, none], [.int s0], x)).trans rfl
set_option maxRecDepth 100000 in
set_option maxHeartbeats 4000000 in
theorem bX1_table_219 (d : Nat) (a1 : Int32) (a2 : Int32) (a3 : Int32) (a4 : Int32) (a5 : Int64) (a7 : Int32) (a8 : Int32) (x : mj_X) : rX1_table d (219, [some (.ref 0), some (.int a1), some (.int a2), some (.int a3), some (.int a4), some (.long a5), none, some (.int a7), some (.int a8), none, none, none, none, none], [], x) = 
  if ((x.1 0 32) - (x.1 0 32) / (4 : Int32) * (4 : Int32)) = 0 then rX1_table d (243, [some (.ref 0), some (.int a1), some (.int a2), some (.int a3), some (.int a4), some (.long a5), none, some (.int a7), some (.int a8), none, none, none, none, none], [], x)
  else 
   if (x.1 0 34) = 0 then mj_rV (kX1 d 44 [.ref 0, .int (0 : Int32)] x) fun x1 =>
    rX1_table d (219, [some (.ref 0), some (.int a1), some (.int a2), some (.int a3), some (.int a4), some (.long a5), none, some (.int a7), some (.int a8), none, none, none, none, none], [], x1)
   else rX1_table d (243, [some (.ref 0), some (.int a1), some (.int a2), some (.int a3), some (.int a4), some (.long a5), none, some (.int a7), some (.int a8), none, none, none, none, none], [], x) := (mj_run_to (cd := cdX1) (rt := 0) (tab := tX1_table) (cal := kX1 d) zX1_table 53 (219, [some (.ref 0), some (.int a1), some (.int a2), some (.int a3), some (.int a4), some (.long a5), none, some (.int a7), some (.int a8), none, none, none, none, none], [], x)).trans rfl
set_option maxRecDepth 100000 in
set_option maxHeartbeats 4000000 in
theorem bX1_table_243 (d : Nat) (a1 : Int32) (a2 : Int32) (a3 : Int32) (a4 : Int32) (a5 : Int64) (a7 : Int32) (a8 : Int32) (x : mj_X) : rX1_table d (243, [some (.ref 0), some (.int a1), some (.int a2), some (.int a3), some (.int a4), some (.long a5), none, some (.int a7), some (.int a8), none, none, none, none, none], [], x) = mj_rV (kX1 d 50 [.ref 0, .int a3] x) fun x1 =>
  mj_rV (kX1 d 48 [.ref 0, .int a8, .int a3, .int (1 : Int32)] x1) fun x2 =>
  
  if a7 = 0 then mj_rV (kX1 d 49 [.ref 0, .int a2, .int (4 : Int32)] x2) fun x3 =>
   rX1_table d (432, [some (.ref 0), some (.int a1), some (.int a2), some (.int a3), some (.int a4), some (.long a5), none, some (.int a7), some (.int a8), some (.int (0 : Int32)), none, none, none, none], [], x3)
  else mj_g (0 : Int32) 4000 (mj_g (x2.1 75 (0 : Int32).toNatClampNeg) 4000 (mj_rV (kX1 d 49 [.ref 0, .int (x2.1 3 (x2.1 75 (0 : Int32).toNatClampNeg).toNatClampNeg), .int (4 : Int32)] x2) fun x4 =>
   mj_g (a2 - (1 : Int32)) 4000 (mj_g (x4.1 75 (a2 - (1 : Int32)).toNatClampNeg) 4000 (mj_rV (kX1 d 49 [.ref 0, .int (x4.1 3 (x4.1 75 (a2 - (1 : Int32)).toNatClampNeg).toNatClampNeg), .int (4 : Int32)] x4) fun x5 =>
   mj_g (0 : Int32) 4000 (mj_g (x5.1 75 (0 : Int32).toNatClampNeg) 4000 (rX1_table d (312, [some (.ref 0), some (.int a1), some (.int a2), some (.int a3), some (.int a4), some (.long a5), none, some (.int a7), some (.int a8), some (.int (0 : Int32)), some (.long (x5.1 3 (x5.1 75 (0 : Int32).toNatClampNeg).toNatClampNeg).toInt64), none, none, none], [], x5))))))) := (mj_run_to (cd := cdX1) (rt := 0) (tab := tX1_table) (cal := kX1 d) zX1_table 53 (243, [some (.ref 0), some (.int a1), some (.int a2), some (.int a3), some (.int a4), some (.long a5), none, some (.int a7), some (.int a8), none, none, none, none, none], [], x)).trans rfl
set_option maxRecDepth 100000 in
set_option maxHeartbeats 4000000 in
theorem bX1_table_312 (d : Nat) (a1 : Int32) (a2 : Int32) (a3 : Int32) (a4 : Int32) (a5 : Int64) (a7 : Int32) (a8 : Int32) (a9 : Int32) (a10 : Int64) (o12 : Option Value) (o13 : Option Value) (x : mj_X) : rX1_table d (312, [some (.ref 0), some (.int a1), some (.int a2), some (.int a3), some (.int a4), some (.long a5), none, some (.int a7), some (.int a8), some (.int a9), some (.long a10), none, o12, o13], [], x) = mj_g (a2 - (1 : Int32)) 4000 (mj_g (x.1 75 (a2 - (1 : Int32)).toNatClampNeg) 4000 (
  if 0 < (lg_cmp a10 (x.1 3 (x.1 75 (a2 - (1 : Int32)).toNatClampNeg).toNatClampNeg).toInt64) then some (none, (mj_wI x 0 35 (0 : Int32)))
  else mj_g a9 4000 (mj_g (x.1 75 a9.toNatClampNeg) 4000 (
   if (lg_cmp (x.1 3 (x.1 75 a9.toNatClampNeg).toNatClampNeg).toInt64 a10) = 0 then rX1_table d (356, [some (.ref 0), some (.int a1), some (.int a2), some (.int a3), some (.int a4), some (.long a5), none, some (.int a7), some (.int a8), some (.int a9), some (.long a10), none, o12, o13], [.int (1 : Int32)], x)
   else rX1_table d (356, [some (.ref 0), some (.int a1), some (.int a2), some (.int a3), some (.int a4), some (.long a5), none, some (.int a7), some (.int a8), some (.int a9), some (.long a10), none, o12, o13], [.int (0 : Int32)], x))))) := (mj_run_to (cd := cdX1) (rt := 0) (tab := tX1_table) (cal := kX1 d) zX1_table 53 (312, [some (.ref 0), some (.int a1), some (.int a2), some (.int a3), some (.int a4), some (.long a5), none, some (.int a7), some (.int a8), some (.int a9), some (.long a10), none, o12, o13], [], x)).trans rfl
set_option maxRecDepth 100000 in
set_option maxHeartbeats 4000000 in
theorem bX1_table_356 (d : Nat) (a1 : Int32) (a2 : Int32) (a3 : Int32) (a4 : Int32) (a5 : Int64) (a7 : Int32) (a8 : Int32) (a9 : Int32) (a10 : Int64) (o12 : Option Value) (o13 : Option Value) (s0 : Int32) (x : mj_X) : rX1_table d (356, [some (.ref 0), some (.int a1), some (.int a2), some (.int a3), some (.int a4), some (.long a5), none, some (.int a7), some (.int a8), some (.int a9), some (.long a10), none, o12, o13], [.int s0], x) = 
  if s0 = 0 then rX1_table d (379, [some (.ref 0), some (.int a1), some (.int a2), some (.int a3), some (.int a4), some (.long a5), none, some (.int a7), some (.int a8), some (.int a9), some (.long a10), none, some (.int s0), o13], [.int a3], x)
  else mj_g a9 4000 (mj_g (x.1 75 a9.toNatClampNeg) 4000 (rX1_table d (379, [some (.ref 0), some (.int a1), some (.int a2), some (.int a3), some (.int a4), some (.long a5), none, some (.int a7), some (.int a8), some (.int a9), some (.long a10), none, some (.int s0), o13], [.int (x.1 74 (x.1 75 a9.toNatClampNeg).toNatClampNeg)], x))) := (mj_run_to (cd := cdX1) (rt := 0) (tab := tX1_table) (cal := kX1 d) zX1_table 53 (356, [some (.ref 0), some (.int a1), some (.int a2), some (.int a3), some (.int a4), some (.long a5), none, some (.int a7), some (.int a8), some (.int a9), some (.long a10), none, o12, o13], [.int s0], x)).trans rfl
set_option maxRecDepth 100000 in
set_option maxHeartbeats 4000000 in
theorem bX1_table_379 (d : Nat) (a1 : Int32) (a2 : Int32) (a3 : Int32) (a4 : Int32) (a5 : Int64) (a7 : Int32) (a8 : Int32) (a9 : Int32) (a10 : Int64) (a12 : Int32) (o13 : Option Value) (s0 : Int32) (x : mj_X) : rX1_table d (379, [some (.ref 0), some (.int a1), some (.int a2), some (.int a3), some (.int a4), some (.long a5), none, some (.int a7), some (.int a8), some (.int a9), some (.long a10), none, some (.int a12), o13], [.int s0], x) = mj_rV (kX1 d 50 [.ref 0, .int s0] x) fun x1 =>
  mj_rV (kX1 d 48 [.ref 0, .int a8, .int s0, .int (1 : Int32)] x1) fun x2 =>
  
  if a12 = 0 then rX1_table d (312, [some (.ref 0), some (.int a1), some (.int a2), some (.int a3), some (.int a4), some (.long a5), none, some (.int a7), some (.int a8), some (.int (a9 + (0 : Int32))), some (.long (a10 + (1 : Int64))), none, some (.int a12), some (.int s0)], [], x2)
  else rX1_table d (312, [some (.ref 0), some (.int a1), some (.int a2), some (.int a3), some (.int a4), some (.long a5), none, some (.int a7), some (.int a8), some (.int (a9 + (1 : Int32))), some (.long (a10 + (1 : Int64))), none, some (.int a12), some (.int s0)], [], x2) := (mj_run_to (cd := cdX1) (rt := 0) (tab := tX1_table) (cal := kX1 d) zX1_table 53 (379, [some (.ref 0), some (.int a1), some (.int a2), some (.int a3), some (.int a4), some (.long a5), none, some (.int a7), some (.int a8), some (.int a9), some (.long a10), none, some (.int a12), o13], [.int s0], x)).trans rfl
set_option maxRecDepth 100000 in
set_option maxHeartbeats 4000000 in
theorem bX1_table_432 (d : Nat) (a1 : Int32) (a2 : Int32) (a3 : Int32) (a4 : Int32) (a5 : Int64) (a7 : Int32) (a8 : Int32) (a9 : Int32) (x : mj_X) : rX1_table d (432, [some (.ref 0), some (.int a1), some (.int a2), some (.int a3), some (.int a4), some (.long a5), none, some (.int a7), some (.int a8), some (.int a9), none, none, none, none], [], x) = 
  if a2 ≤ a9 then some (none, (mj_wI x 0 35 (0 : Int32)))
  else mj_g a9 4000 (mj_g (x.1 75 a9.toNatClampNeg) 4000 (mj_rV (kX1 d 49 [.ref 0, .int (x.1 3 (x.1 75 a9.toNatClampNeg).toNatClampNeg), .int (4 : Int32)] x) fun x1 =>
   mj_g a9 4000 (mj_g (x1.1 75 a9.toNatClampNeg) 4000 (mj_rV (kX1 d 50 [.ref 0, .int (x1.1 74 (x1.1 75 a9.toNatClampNeg).toNatClampNeg)] x1) fun x2 =>
   mj_g a9 4000 (mj_g (x2.1 75 a9.toNatClampNeg) 4000 (mj_rV (kX1 d 48 [.ref 0, .int a8, .int (x2.1 74 (x2.1 75 a9.toNatClampNeg).toNatClampNeg), .int (1 : Int32)] x2) fun x3 =>
   rX1_table d (432, [some (.ref 0), some (.int a1), some (.int a2), some (.int a3), some (.int a4), some (.long a5), none, some (.int a7), some (.int a8), some (.int (a9 + (1 : Int32))), none, none, none, none], [], x3))))))) := (mj_run_to (cd := cdX1) (rt := 0) (tab := tX1_table) (cal := kX1 d) zX1_table 53 (432, [some (.ref 0), some (.int a1), some (.int a2), some (.int a3), some (.int a4), some (.long a5), none, some (.int a7), some (.int a8), some (.int a9), none, none, none, none], [], x)).trans rfl
noncomputable abbrev rX1_lined (d : Nat) : mj_S → mj_R := mj_run cdX1 0 tX1_lined (kX1 d)
def zX1_lined (p : Nat) : Bool := bif Nat.beq p 35 then true else false
set_option maxRecDepth 100000 in
set_option maxHeartbeats 4000000 in
theorem eX1_lined (d : Nat) (a1 : Int32) (a2 : Int32) (x : mj_X) : kX1 (d + 1) 98 [.ref 0, .int a1, .int a2] x = mj_rV (kX1 d 38 [.ref 0, .int a2] (mj_wI x 0 46 a1)) fun x1 =>
  
  if (x1.1 0 32) ≤ (x.1 0 32) then rX1_lined d (35, [some (.ref 0), some (.int a1), some (.int a2), some (.int (x.1 0 46)), some (.int (x.1 0 32)), none], [.int (0 : Int32)], x1)
  else rX1_lined d (35, [some (.ref 0), some (.int a1), some (.int a2), some (.int (x.1 0 46)), some (.int (x.1 0 32)), none], [.int (1 : Int32)], x1) := (mj_run_to (cd := cdX1) (rt := 0) (tab := tX1_lined) (cal := kX1 d) zX1_lined 23 (0, [some (.ref 0), some (.int a1), some (.int a2), none, none, none], [], x)).trans rfl
set_option maxRecDepth 100000 in
set_option maxHeartbeats 4000000 in
theorem bX1_lined_35 (d : Nat) (a1 : Int32) (a2 : Int32) (a3 : Int32) (a4 : Int32) (s0 : Int32) (x : mj_X) : rX1_lined d (35, [some (.ref 0), some (.int a1), some (.int a2), some (.int a3), some (.int a4), none], [.int s0], x) = 
  if s0 = 0 then some (none, (mj_wI x 0 46 a3))
  else some (none, (mj_wI x 0 46 (-1 : Int32))) := (mj_run_to (cd := cdX1) (rt := 0) (tab := tX1_lined) (cal := kX1 d) zX1_lined 23 (35, [some (.ref 0), some (.int a1), some (.int a2), some (.int a3), some (.int a4), none], [.int s0], x)).trans rfl
noncomputable abbrev rX1_settles (d : Nat) : mj_S → mj_R := mj_run cdX1 5 tX1_settles (kX1 d)
def zX1_settles (p : Nat) : Bool := bif Nat.blt p 56 then (bif Nat.beq p 4 then true else false) else (bif Nat.blt p 115 then (bif Nat.beq p 56 then true else false) else (bif Nat.beq p 115 then true else false))
set_option maxRecDepth 100000 in
set_option maxHeartbeats 4000000 in
theorem eX1_settles (d : Nat)  (x : mj_X) : kX1 (d + 1) 99 [.ref 0] x = rX1_settles d (4, [some (.ref 0), some (.int (1 : Int32)), some (.int (0 : Int32)), none, none, none], [], x) := (mj_run_to (cd := cdX1) (rt := 5) (tab := tX1_settles) (cal := kX1 d) zX1_settles 54 (0, [some (.ref 0), none, none, none, none, none], [], x)).trans rfl
set_option maxRecDepth 100000 in
set_option maxHeartbeats 4000000 in
theorem bX1_settles_4 (d : Nat) (a1 : Int32) (a2 : Int32) (o3 : Option Value) (o4 : Option Value) (o5 : Option Value) (x : mj_X) : rX1_settles d (4, [some (.ref 0), some (.int a1), some (.int a2), o3, o4, o5], [], x) = 
  if (x.1 0 55) ≤ a2 then mj_gb a1 (some (some (.int a1), x))
  else mj_g a2 30000 (mj_g (x.1 54 a2.toNatClampNeg) 300000 (mj_g a2 30000 (mj_g a2 30000 (mj_g a2 30000 (
   if (x.1 55 a2.toNatClampNeg) = 0 then 
    if a1 = 0 then rX1_settles d (115, [some (.ref 0), some (.int a1), some (.int a2), some (.int ((x.1 49 (x.1 54 a2.toNatClampNeg).toNatClampNeg) - (x.1 53 a2.toNatClampNeg))), some (.int ((x.1 0 31) + (x.1 52 a2.toNatClampNeg))), o5], [.int (0 : Int32)], x)
    else 
     if ((x.1 49 (x.1 54 a2.toNatClampNeg).toNatClampNeg) - (x.1 53 a2.toNatClampNeg)) < (-32768 : Int32) then rX1_settles d (115, [some (.ref 0), some (.int a1), some (.int a2), some (.int ((x.1 49 (x.1 54 a2.toNatClampNeg).toNatClampNeg) - (x.1 53 a2.toNatClampNeg))), some (.int ((x.1 0 31) + (x.1 52 a2.toNatClampNeg))), o5], [.int (0 : Int32)], x)
     else 
      if (32767 : Int32) < ((x.1 49 (x.1 54 a2.toNatClampNeg).toNatClampNeg) - (x.1 53 a2.toNatClampNeg)) then rX1_settles d (115, [some (.ref 0), some (.int a1), some (.int a2), some (.int ((x.1 49 (x.1 54 a2.toNatClampNeg).toNatClampNeg) - (x.1 53 a2.toNatClampNeg))), some (.int ((x.1 0 31) + (x.1 52 a2.toNatClampNeg))), o5], [.int (0 : Int32)], x)
      else rX1_settles d (115, [some (.ref 0), some (.int a1), some (.int a2), some (.int ((x.1 49 (x.1 54 a2.toNatClampNeg).toNatClampNeg) - (x.1 53 a2.toNatClampNeg))), some (.int ((x.1 0 31) + (x.1 52 a2.toNatClampNeg))), o5], [.int (1 : Int32)], x)
   else rX1_settles d (56, [some (.ref 0), some (.int a1), some (.int a2), some (.int ((x.1 49 (x.1 54 a2.toNatClampNeg).toNatClampNeg) - (x.1 53 a2.toNatClampNeg))), some (.int ((x.1 0 31) + (x.1 52 a2.toNatClampNeg))), some (.int (0 : Int32))], [], x)))))) := (mj_run_to (cd := cdX1) (rt := 5) (tab := tX1_settles) (cal := kX1 d) zX1_settles 54 (4, [some (.ref 0), some (.int a1), some (.int a2), o3, o4, o5], [], x)).trans rfl
set_option maxRecDepth 100000 in
set_option maxHeartbeats 4000000 in
theorem bX1_settles_56 (d : Nat) (a1 : Int32) (a2 : Int32) (a3 : Int32) (a4 : Int32) (a5 : Int32) (x : mj_X) : rX1_settles d (56, [some (.ref 0), some (.int a1), some (.int a2), some (.int a3), some (.int a4), some (.int a5)], [], x) = 
  if (4 : Int32) ≤ a5 then rX1_settles d (4, [some (.ref 0), some (.int a1), some (.int (a2 + (1 : Int32))), some (.int a3), some (.int a4), some (.int a5)], [], x)
  else mj_g (a4 + a5) 160000 (rX1_settles d (56, [some (.ref 0), some (.int a1), some (.int a2), some (.int a3), some (.int a4), some (.int (a5 + (1 : Int32)))], [], (mj_wI x 19 (a4 + a5).toNatClampNeg (a3 >>> (((24 : Int32) - ((8 : Int32) * a5)) &&& 31)).toInt8.toInt32.toInt8.toInt32))) := (mj_run_to (cd := cdX1) (rt := 5) (tab := tX1_settles) (cal := kX1 d) zX1_settles 54 (56, [some (.ref 0), some (.int a1), some (.int a2), some (.int a3), some (.int a4), some (.int a5)], [], x)).trans rfl
set_option maxRecDepth 100000 in
set_option maxHeartbeats 4000000 in
theorem bX1_settles_115 (d : Nat) (a1 : Int32) (a2 : Int32) (a3 : Int32) (a4 : Int32) (o5 : Option Value) (s0 : Int32) (x : mj_X) : rX1_settles d (115, [some (.ref 0), some (.int a1), some (.int a2), some (.int a3), some (.int a4), o5], [.int s0], x) = mj_g a4 160000 (mj_g (a4 + (1 : Int32)) 160000 (rX1_settles d (4, [some (.ref 0), some (.int s0), some (.int (a2 + (1 : Int32))), some (.int a3), some (.int a4), o5], [], (mj_wI (mj_wI x 19 a4.toNatClampNeg (a3 >>> ((8 : Int32) &&& 31)).toInt8.toInt32.toInt8.toInt32) 19 (a4 + (1 : Int32)).toNatClampNeg a3.toInt8.toInt32.toInt8.toInt32)))) := (mj_run_to (cd := cdX1) (rt := 5) (tab := tX1_settles) (cal := kX1 d) zX1_settles 54 (115, [some (.ref 0), some (.int a1), some (.int a2), some (.int a3), some (.int a4), o5], [.int s0], x)).trans rfl
noncomputable abbrev rX1_told (d : Nat) : mj_S → mj_R := mj_run cdX1 1 tX1_told (kX1 d)
def zX1_told (p : Nat) : Bool := bif Nat.blt p 107 then (bif Nat.blt p 75 then (bif Nat.blt p 68 then (bif Nat.beq p 52 then true else false) else (bif Nat.beq p 68 then true else false)) else (bif Nat.blt p 91 then (bif Nat.beq p 75 then true else false) else (bif Nat.beq p 91 then true else false))) else (bif Nat.blt p 138 then (bif Nat.blt p 123 then (bif Nat.beq p 107 then true else false) else (bif Nat.beq p 123 then true else false)) else (bif Nat.blt p 145 then (bif Nat.beq p 138 then true else false) else (bif Nat.beq p 145 then true else false)))
set_option maxRecDepth 100000 in
set_option maxHeartbeats 4000000 in
theorem eX1_told (d : Nat) (a1 : Int32) (a2 : Int32) (x : mj_X) : kX1 (d + 1) 100 [.ref 0, .int a1, .int a2] x = mj_rI (kX1 d 101 [.ref 0, .int a1] x) fun v2 x1 =>
  
  if v2 = 0 then some (some (.int (-1 : Int32)), x1)
  else mj_sw a2 0 (134) [41, 57, 64, 80, 96, 112, 127] fun off => mj_j 11 off fun t => rX1_told d (t, [some (.ref 0), some (.int a1), some (.int a2)], [], x1) := (mj_run_to (cd := cdX1) (rt := 1) (tab := tX1_told) (cal := kX1 d) zX1_told 18 (0, [some (.ref 0), some (.int a1), some (.int a2)], [], x)).trans rfl
set_option maxRecDepth 100000 in
set_option maxHeartbeats 4000000 in
theorem bX1_told_52 (d : Nat) (a1 : Int32) (a2 : Int32) (x : mj_X) : rX1_told d (52, [some (.ref 0), some (.int a1), some (.int a2)], [], x) = mj_g (a1 + (1 : Int32)) 41 (mj_g a1 41 (some (some (.int ((x.1 12 (a1 + (1 : Int32)).toNatClampNeg) - (x.1 12 a1.toNatClampNeg))), x))) := (mj_run_to (cd := cdX1) (rt := 1) (tab := tX1_told) (cal := kX1 d) zX1_told 18 (52, [some (.ref 0), some (.int a1), some (.int a2)], [], x)).trans rfl
set_option maxRecDepth 100000 in
set_option maxHeartbeats 4000000 in
theorem bX1_told_68 (d : Nat) (a1 : Int32) (a2 : Int32) (x : mj_X) : rX1_told d (68, [some (.ref 0), some (.int a1), some (.int a2)], [], x) = mj_g a1 40 (some (some (.int (x.1 13 a1.toNatClampNeg)), x)) := (mj_run_to (cd := cdX1) (rt := 1) (tab := tX1_told) (cal := kX1 d) zX1_told 18 (68, [some (.ref 0), some (.int a1), some (.int a2)], [], x)).trans rfl
set_option maxRecDepth 100000 in
set_option maxHeartbeats 4000000 in
theorem bX1_told_75 (d : Nat) (a1 : Int32) (a2 : Int32) (x : mj_X) : rX1_told d (75, [some (.ref 0), some (.int a1), some (.int a2)], [], x) = mj_g (a1 + (1 : Int32)) 41 (mj_g a1 41 (some (some (.int ((x.1 16 (a1 + (1 : Int32)).toNatClampNeg) - (x.1 16 a1.toNatClampNeg))), x))) := (mj_run_to (cd := cdX1) (rt := 1) (tab := tX1_told) (cal := kX1 d) zX1_told 18 (75, [some (.ref 0), some (.int a1), some (.int a2)], [], x)).trans rfl
set_option maxRecDepth 100000 in
set_option maxHeartbeats 4000000 in
theorem bX1_told_91 (d : Nat) (a1 : Int32) (a2 : Int32) (x : mj_X) : rX1_told d (91, [some (.ref 0), some (.int a1), some (.int a2)], [], x) = mj_g (a1 + (1 : Int32)) 41 (mj_g a1 41 (some (some (.int ((x.1 17 (a1 + (1 : Int32)).toNatClampNeg) - (x.1 17 a1.toNatClampNeg))), x))) := (mj_run_to (cd := cdX1) (rt := 1) (tab := tX1_told) (cal := kX1 d) zX1_told 18 (91, [some (.ref 0), some (.int a1), some (.int a2)], [], x)).trans rfl
set_option maxRecDepth 100000 in
set_option maxHeartbeats 4000000 in
theorem bX1_told_107 (d : Nat) (a1 : Int32) (a2 : Int32) (x : mj_X) : rX1_told d (107, [some (.ref 0), some (.int a1), some (.int a2)], [], x) = mj_g (a1 + (1 : Int32)) 41 (mj_g a1 41 (some (some (.int ((x.1 18 (a1 + (1 : Int32)).toNatClampNeg) - (x.1 18 a1.toNatClampNeg))), x))) := (mj_run_to (cd := cdX1) (rt := 1) (tab := tX1_told) (cal := kX1 d) zX1_told 18 (107, [some (.ref 0), some (.int a1), some (.int a2)], [], x)).trans rfl
set_option maxRecDepth 100000 in
set_option maxHeartbeats 4000000 in
theorem bX1_told_123 (d : Nat) (a1 : Int32) (a2 : Int32) (x : mj_X) : rX1_told d (123, [some (.ref 0), some (.int a1), some (.int a2)], [], x) = mj_g a1 40 (
  if (x.1 15 a1.toNatClampNeg) = 0 then some (some (.int (0 : Int32)), x)
  else some (some (.int (1 : Int32)), x)) := (mj_run_to (cd := cdX1) (rt := 1) (tab := tX1_told) (cal := kX1 d) zX1_told 18 (123, [some (.ref 0), some (.int a1), some (.int a2)], [], x)).trans rfl
set_option maxRecDepth 100000 in
set_option maxHeartbeats 4000000 in
theorem bX1_told_138 (d : Nat) (a1 : Int32) (a2 : Int32) (x : mj_X) : rX1_told d (138, [some (.ref 0), some (.int a1), some (.int a2)], [], x) = mj_g a1 40 (some (some (.int (x.1 14 a1.toNatClampNeg)), x)) := (mj_run_to (cd := cdX1) (rt := 1) (tab := tX1_told) (cal := kX1 d) zX1_told 18 (138, [some (.ref 0), some (.int a1), some (.int a2)], [], x)).trans rfl
set_option maxRecDepth 100000 in
set_option maxHeartbeats 4000000 in
theorem bX1_told_145 (d : Nat) (a1 : Int32) (a2 : Int32) (x : mj_X) : rX1_told d (145, [some (.ref 0), some (.int a1), some (.int a2)], [], x) = some (some (.int (-1 : Int32)), x) := (mj_run_to (cd := cdX1) (rt := 1) (tab := tX1_told) (cal := kX1 d) zX1_told 18 (145, [some (.ref 0), some (.int a1), some (.int a2)], [], x)).trans rfl
noncomputable abbrev rX1_octet (d : Nat) : mj_S → mj_R := mj_run cdX1 1 tX1_octet (kX1 d)
def zX1_octet (p : Nat) : Bool := false
set_option maxRecDepth 100000 in
set_option maxHeartbeats 4000000 in
theorem eX1_octet (d : Nat) (a1 : Int32) (a2 : Int32) (x : mj_X) : kX1 (d + 1) 102 [.ref 0, .int a1, .int a2] x = mj_rI (kX1 d 101 [.ref 0, .int a1] x) fun v2 x1 =>
  
  if v2 = 0 then some (some (.int (-1 : Int32)), x1)
  else 
   if a2 < 0 then some (some (.int (-1 : Int32)), x1)
   else mj_g (a1 + (1 : Int32)) 41 (mj_g a1 41 (
    if ((x1.1 12 (a1 + (1 : Int32)).toNatClampNeg) - (x1.1 12 a1.toNatClampNeg)) ≤ a2 then some (some (.int (-1 : Int32)), x1)
    else mj_g a1 41 (mj_g ((x1.1 12 a1.toNatClampNeg) + a2) 160000 (some (some (.int ((x1.1 19 ((x1.1 12 a1.toNatClampNeg) + a2).toNatClampNeg) &&& (255 : Int32))), x1))))) := (mj_run_to (cd := cdX1) (rt := 1) (tab := tX1_octet) (cal := kX1 d) zX1_octet 40 (0, [some (.ref 0), some (.int a1), some (.int a2)], [], x)).trans rfl
noncomputable abbrev rX1_pool (d : Nat) : mj_S → mj_R := mj_run cdX1 1 tX1_pool (kX1 d)
def zX1_pool (p : Nat) : Bool := false
set_option maxRecDepth 100000 in
set_option maxHeartbeats 4000000 in
theorem eX1_pool (d : Nat) (a1 : Int32) (a2 : Int32) (a3 : Int32) (x : mj_X) : kX1 (d + 1) 103 [.ref 0, .int a1, .int a2, .int a3] x = mj_rI (kX1 d 101 [.ref 0, .int a1] x) fun v2 x1 =>
  
  if v2 = 0 then some (some (.int (-1 : Int32)), x1)
  else 
   if a2 < 0 then some (some (.int (-1 : Int32)), x1)
   else mj_g (a1 + (1 : Int32)) 41 (mj_g a1 41 (
    if a2 < ((x1.1 16 (a1 + (1 : Int32)).toNatClampNeg) - (x1.1 16 a1.toNatClampNeg)) then mj_g a1 41 (
     if a3 = 0 then mj_g ((x1.1 16 a1.toNatClampNeg) + a2) 60000 (some (some (.int (x1.1 20 ((x1.1 16 a1.toNatClampNeg) + a2).toNatClampNeg)), x1))
     else 
      if a3 = (1 : Int32) then mj_g ((x1.1 16 a1.toNatClampNeg) + a2) 60000 (some (some (.int (x1.1 21 ((x1.1 16 a1.toNatClampNeg) + a2).toNatClampNeg)), x1))
      else 
       if a3 = (2 : Int32) then mj_g ((x1.1 16 a1.toNatClampNeg) + a2) 60000 (some (some (.int (x1.1 22 ((x1.1 16 a1.toNatClampNeg) + a2).toNatClampNeg)), x1))
       else 
        if a3 = (3 : Int32) then mj_g ((x1.1 16 a1.toNatClampNeg) + a2) 60000 (some (some (.int (x1.1 23 ((x1.1 16 a1.toNatClampNeg) + a2).toNatClampNeg)), x1))
        else some (some (.int (-1 : Int32)), x1))
    else some (some (.int (-1 : Int32)), x1))) := (mj_run_to (cd := cdX1) (rt := 1) (tab := tX1_pool) (cal := kX1 d) zX1_pool 71 (0, [some (.ref 0), some (.int a1), some (.int a2), some (.int a3), none], [], x)).trans rfl
noncomputable abbrev rX1_range_2 (d : Nat) : mj_S → mj_R := mj_run cdX1 1 tX1_range_2 (kX1 d)
def zX1_range_2 (p : Nat) : Bool := bif Nat.beq p 45 then true else false
set_option maxRecDepth 100000 in
set_option maxHeartbeats 4000000 in
theorem eX1_range_2 (d : Nat) (a1 : Int32) (a2 : Int32) (a3 : Int32) (x : mj_X) : kX1 (d + 1) 104 [.ref 0, .int a1, .int a2, .int a3] x = mj_rI (kX1 d 101 [.ref 0, .int a1] x) fun v2 x1 =>
  
  if v2 = 0 then rX1_range_2 d (45, [some (.ref 0), some (.int a1), some (.int a2), some (.int a3), none], [.int (0 : Int32)], x1)
  else 
   if a2 < 0 then rX1_range_2 d (45, [some (.ref 0), some (.int a1), some (.int a2), some (.int a3), none], [.int (0 : Int32)], x1)
   else mj_g (a1 + (1 : Int32)) 41 (mj_g a1 41 (
    if ((x1.1 17 (a1 + (1 : Int32)).toNatClampNeg) - (x1.1 17 a1.toNatClampNeg)) ≤ a2 then rX1_range_2 d (45, [some (.ref 0), some (.int a1), some (.int a2), some (.int a3), none], [.int (0 : Int32)], x1)
    else 
     if a3 < 0 then rX1_range_2 d (45, [some (.ref 0), some (.int a1), some (.int a2), some (.int a3), none], [.int (0 : Int32)], x1)
     else 
      if (3 : Int32) < a3 then rX1_range_2 d (45, [some (.ref 0), some (.int a1), some (.int a2), some (.int a3), none], [.int (0 : Int32)], x1)
      else rX1_range_2 d (45, [some (.ref 0), some (.int a1), some (.int a2), some (.int a3), none], [.int (1 : Int32)], x1))) := (mj_run_to (cd := cdX1) (rt := 1) (tab := tX1_range_2) (cal := kX1 d) zX1_range_2 39 (0, [some (.ref 0), some (.int a1), some (.int a2), some (.int a3), none], [], x)).trans rfl
set_option maxRecDepth 100000 in
set_option maxHeartbeats 4000000 in
theorem bX1_range_2_45 (d : Nat) (a1 : Int32) (a2 : Int32) (a3 : Int32) (s0 : Int32) (x : mj_X) : rX1_range_2 d (45, [some (.ref 0), some (.int a1), some (.int a2), some (.int a3), none], [.int s0], x) = 
  if s0 = 0 then some (some (.int (-1 : Int32)), x)
  else mj_g a1 41 (mj_g (((4 : Int32) * ((x.1 17 a1.toNatClampNeg) + a2)) + a3) 80400 (some (some (.int (x.1 24 (((4 : Int32) * ((x.1 17 a1.toNatClampNeg) + a2)) + a3).toNatClampNeg)), x))) := (mj_run_to (cd := cdX1) (rt := 1) (tab := tX1_range_2) (cal := kX1 d) zX1_range_2 39 (45, [some (.ref 0), some (.int a1), some (.int a2), some (.int a3), none], [.int s0], x)).trans rfl
noncomputable abbrev rX1_line_2 (d : Nat) : mj_S → mj_R := mj_run cdX1 1 tX1_line_2 (kX1 d)
def zX1_line_2 (p : Nat) : Bool := bif Nat.beq p 45 then true else false
set_option maxRecDepth 100000 in
set_option maxHeartbeats 4000000 in
theorem eX1_line_2 (d : Nat) (a1 : Int32) (a2 : Int32) (a3 : Int32) (x : mj_X) : kX1 (d + 1) 105 [.ref 0, .int a1, .int a2, .int a3] x = mj_rI (kX1 d 101 [.ref 0, .int a1] x) fun v2 x1 =>
  
  if v2 = 0 then rX1_line_2 d (45, [some (.ref 0), some (.int a1), some (.int a2), some (.int a3), none], [.int (0 : Int32)], x1)
  else 
   if a2 < 0 then rX1_line_2 d (45, [some (.ref 0), some (.int a1), some (.int a2), some (.int a3), none], [.int (0 : Int32)], x1)
   else mj_g (a1 + (1 : Int32)) 41 (mj_g a1 41 (
    if ((x1.1 18 (a1 + (1 : Int32)).toNatClampNeg) - (x1.1 18 a1.toNatClampNeg)) ≤ a2 then rX1_line_2 d (45, [some (.ref 0), some (.int a1), some (.int a2), some (.int a3), none], [.int (0 : Int32)], x1)
    else 
     if a3 < 0 then rX1_line_2 d (45, [some (.ref 0), some (.int a1), some (.int a2), some (.int a3), none], [.int (0 : Int32)], x1)
     else 
      if (1 : Int32) < a3 then rX1_line_2 d (45, [some (.ref 0), some (.int a1), some (.int a2), some (.int a3), none], [.int (0 : Int32)], x1)
      else rX1_line_2 d (45, [some (.ref 0), some (.int a1), some (.int a2), some (.int a3), none], [.int (1 : Int32)], x1))) := (mj_run_to (cd := cdX1) (rt := 1) (tab := tX1_line_2) (cal := kX1 d) zX1_line_2 39 (0, [some (.ref 0), some (.int a1), some (.int a2), some (.int a3), none], [], x)).trans rfl
set_option maxRecDepth 100000 in
set_option maxHeartbeats 4000000 in
theorem bX1_line_2_45 (d : Nat) (a1 : Int32) (a2 : Int32) (a3 : Int32) (s0 : Int32) (x : mj_X) : rX1_line_2 d (45, [some (.ref 0), some (.int a1), some (.int a2), some (.int a3), none], [.int s0], x) = 
  if s0 = 0 then some (some (.int (-1 : Int32)), x)
  else mj_g a1 41 (mj_g (((2 : Int32) * ((x.1 18 a1.toNatClampNeg) + a2)) + a3) 40200 (some (some (.int (x.1 25 (((2 : Int32) * ((x.1 18 a1.toNatClampNeg) + a2)) + a3).toNatClampNeg)), x))) := (mj_run_to (cd := cdX1) (rt := 1) (tab := tX1_line_2) (cal := kX1 d) zX1_line_2 39 (45, [some (.ref 0), some (.int a1), some (.int a2), some (.int a3), none], [.int s0], x)).trans rfl
noncomputable abbrev rX1_argument (d : Nat) : mj_S → mj_R := mj_run cdX1 1 tX1_argument (kX1 d)
def zX1_argument (p : Nat) : Bool := bif Nat.blt p 70 then (bif Nat.beq p 35 then true else false) else (bif Nat.beq p 70 then true else false)
set_option maxRecDepth 100000 in
set_option maxHeartbeats 4000000 in
theorem eX1_argument (d : Nat) (a1 : Int32) (a2 : Int64) (x : mj_X) : kX1 (d + 1) 106 [.ref 0, .int a1, .long a2] x = 
  if a1 < (1 : Int32) then some (some (.int (-1 : Int32)), x)
  else 
   if (8 : Int32) < a1 then some (some (.int (-1 : Int32)), x)
   else 
    if (x.1 0 75) = (8 : Int32) then some (some (.int (-1 : Int32)), x)
    else 
     if a1 < (5 : Int32) then rX1_argument d (35, [some (.ref 0), some (.int a1), some (.long a2), none], [], x)
     else 
      if (lg_cmp a2 (4000 : Int64)) ≤ 0 then rX1_argument d (35, [some (.ref 0), some (.int a1), some (.long a2), none], [], x)
      else some (some (.int (-1 : Int32)), x) := (mj_run_to (cd := cdX1) (rt := 1) (tab := tX1_argument) (cal := kX1 d) zX1_argument 30 (0, [some (.ref 0), some (.int a1), some (.long a2), none], [], x)).trans rfl
set_option maxRecDepth 100000 in
set_option maxHeartbeats 4000000 in
theorem bX1_argument_35 (d : Nat) (a1 : Int32) (a2 : Int64) (x : mj_X) : rX1_argument d (35, [some (.ref 0), some (.int a1), some (.long a2), none], [], x) = mj_g (x.1 0 75) 8 (
  if a1 = (1 : Int32) then rX1_argument d (70, [some (.ref 0), some (.int a1), some (.long a2), none], [.long a2.toInt32.toInt64, .int (x.1 0 75), .ref 78], (mj_wI x 77 (x.1 0 75).toNatClampNeg a1))
  else 
   if a1 = (3 : Int32) then rX1_argument d (70, [some (.ref 0), some (.int a1), some (.long a2), none], [.long a2.toInt32.toInt64, .int (x.1 0 75), .ref 78], (mj_wI x 77 (x.1 0 75).toNatClampNeg a1))
   else rX1_argument d (70, [some (.ref 0), some (.int a1), some (.long a2), none], [.long a2, .int (x.1 0 75), .ref 78], (mj_wI x 77 (x.1 0 75).toNatClampNeg a1))) := (mj_run_to (cd := cdX1) (rt := 1) (tab := tX1_argument) (cal := kX1 d) zX1_argument 30 (35, [some (.ref 0), some (.int a1), some (.long a2), none], [], x)).trans rfl
set_option maxRecDepth 100000 in
set_option maxHeartbeats 4000000 in
theorem bX1_argument_70 (d : Nat) (a1 : Int32) (a2 : Int64) (s1 : Int32) (s2 : Int64) (x : mj_X) : rX1_argument d (70, [some (.ref 0), some (.int a1), some (.long a2), none], [.long s2, .int s1, .ref 78], x) = mj_g s1 8 (some (some (.int ((x.1 0 75) + (1 : Int32))), (mj_wI (mj_wL x 78 s1.toNatClampNeg s2) 0 75 ((x.1 0 75) + (1 : Int32))))) := (mj_run_to (cd := cdX1) (rt := 1) (tab := tX1_argument) (cal := kX1 d) zX1_argument 30 (70, [some (.ref 0), some (.int a1), some (.long a2), none], [.long s2, .int s1, .ref 78], x)).trans rfl
noncomputable abbrev rX1_forget (d : Nat) : mj_S → mj_R := mj_run cdX1 1 tX1_forget (kX1 d)
def zX1_forget (p : Nat) : Bool := false
set_option maxRecDepth 100000 in
set_option maxHeartbeats 4000000 in
theorem eX1_forget (d : Nat)  (x : mj_X) : kX1 (d + 1) 107 [.ref 0] x = some (some (.int (x.1 0 75)), (mj_wI x 0 75 (0 : Int32))) := (mj_run_to (cd := cdX1) (rt := 1) (tab := tX1_forget) (cal := kX1 d) zX1_forget 10 (0, [some (.ref 0), none], [], x)).trans rfl
noncomputable abbrev rX1_run (d : Nat) : mj_S → mj_R := mj_run cdX1 1 tX1_run (kX1 d)
def zX1_run (p : Nat) : Bool := bif Nat.blt p 114 then (bif Nat.blt p 73 then (bif Nat.beq p 17 then true else false) else (bif Nat.beq p 73 then true else false)) else (bif Nat.blt p 132 then (bif Nat.beq p 114 then true else false) else (bif Nat.beq p 132 then true else false))
set_option maxRecDepth 100000 in
set_option maxHeartbeats 4000000 in
theorem eX1_run (d : Nat) (a1 : Int32) (a2 : Int32) (x : mj_X) : kX1 (d + 1) 108 [.ref 0, .int a1, .int a2] x = mj_rI (kX1 d 101 [.ref 0, .int a1] x) fun v2 x1 =>
  
  if v2 = 0 then some (some (.int (-1 : Int32)), x1)
  else 
   if a2 = 0 then rX1_run d (17, [some (.ref 0), some (.int a1), some (.int a2)], [], x1)
   else 
    if a2 = (1 : Int32) then rX1_run d (17, [some (.ref 0), some (.int a1), some (.int a2)], [], x1)
    else some (some (.int (-1 : Int32)), x1) := (mj_run_to (cd := cdX1) (rt := 1) (tab := tX1_run) (cal := kX1 d) zX1_run 36 (0, [some (.ref 0), some (.int a1), some (.int a2)], [], x)).trans rfl
set_option maxRecDepth 100000 in
set_option maxHeartbeats 4000000 in
theorem bX1_run_17 (d : Nat) (a1 : Int32) (a2 : Int32) (x : mj_X) : rX1_run d (17, [some (.ref 0), some (.int a1), some (.int a2)], [], x) = mj_rI (kX1 d 109 [.ref 0, .int a1] x) fun v2 x1 =>
  
  if v2 = 0 then some (some (.int (-1 : Int32)), x1)
  else mj_rV (kX1 d 110 [.ref 0] x1) fun x3 =>
   
   if (x3.1 0 79) = 0 then mj_g a1 40 (
    if a2 = (1 : Int32) then mj_rV (kX1 d 112 [.ref 0, .int a1] (mj_wI x3 0 89 (x3.1 9 a1.toNatClampNeg))) fun x4 =>
     rX1_run d (73, [some (.ref 0), some (.int a1), some (.int a2)], [], x4)
    else mj_rV (kX1 d 145 [.ref 0, .int a1] (mj_wI x3 0 89 (x3.1 9 a1.toNatClampNeg))) fun x5 =>
     rX1_run d (73, [some (.ref 0), some (.int a1), some (.int a2)], [], x5))
   else some (some (.int (2 : Int32)), (mj_wI x3 0 87 (2 : Int32))) := (mj_run_to (cd := cdX1) (rt := 1) (tab := tX1_run) (cal := kX1 d) zX1_run 36 (17, [some (.ref 0), some (.int a1), some (.int a2)], [], x)).trans rfl
set_option maxRecDepth 100000 in
set_option maxHeartbeats 4000000 in
theorem bX1_run_73 (d : Nat) (a1 : Int32) (a2 : Int32) (x : mj_X) : rX1_run d (73, [some (.ref 0), some (.int a1), some (.int a2)], [], x) = 
  if (x.1 0 78) ≤ (100000 : Int32) then 
   if (x.1 0 79) = 0 then rX1_run d (114, [some (.ref 0), some (.int a1), some (.int a2)], [], (mj_wI x 0 87 (1 : Int32)))
   else rX1_run d (114, [some (.ref 0), some (.int a1), some (.int a2)], [], (mj_wI x 0 87 (2 : Int32)))
  else rX1_run d (114, [some (.ref 0), some (.int a1), some (.int a2)], [], (mj_wI (mj_wI x 0 78 (100001 : Int32)) 0 87 (3 : Int32))) := (mj_run_to (cd := cdX1) (rt := 1) (tab := tX1_run) (cal := kX1 d) zX1_run 36 (73, [some (.ref 0), some (.int a1), some (.int a2)], [], x)).trans rfl
set_option maxRecDepth 100000 in
set_option maxHeartbeats 4000000 in
theorem bX1_run_114 (d : Nat) (a1 : Int32) (a2 : Int32) (x : mj_X) : rX1_run d (114, [some (.ref 0), some (.int a1), some (.int a2)], [], x) = 
  if (x.1 0 87) = (1 : Int32) then rX1_run d (132, [some (.ref 0), some (.int a1), some (.int a2)], [], x)
  else rX1_run d (132, [some (.ref 0), some (.int a1), some (.int a2)], [], (mj_wI (mj_wL x 0 88 (0 : Int64)) 0 89 (0 : Int32))) := (mj_run_to (cd := cdX1) (rt := 1) (tab := tX1_run) (cal := kX1 d) zX1_run 36 (114, [some (.ref 0), some (.int a1), some (.int a2)], [], x)).trans rfl
set_option maxRecDepth 100000 in
set_option maxHeartbeats 4000000 in
theorem bX1_run_132 (d : Nat) (a1 : Int32) (a2 : Int32) (x : mj_X) : rX1_run d (132, [some (.ref 0), some (.int a1), some (.int a2)], [], x) = 
  if (x.1 0 87) = (3 : Int32) then some (some (.int (x.1 0 87)), (mj_wI (mj_wI x 0 79 (0 : Int32)) 0 80 (0 : Int32)))
  else some (some (.int (x.1 0 87)), x) := (mj_run_to (cd := cdX1) (rt := 1) (tab := tX1_run) (cal := kX1 d) zX1_run 36 (132, [some (.ref 0), some (.int a1), some (.int a2)], [], x)).trans rfl
