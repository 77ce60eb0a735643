noncomputable abbrev rX1_byBytes (d : Nat) : mj_S → mj_R := mj_run cdX1 0 tX1_byBytes (kX1 d)
def zX1_byBytes (p : Nat) : Bool := bif Nat.blt p 52 then (bif Nat.beq p 14 then true else false) else (bif Nat.beq p 52 then true else false)
set_option maxRecDepth 100000 in
set_option maxHeartbeats 4000000 in
theorem eX1_byBytes (d : Nat) (a1 : Int32) (x : mj_X) : kX1 (d + 1) 112 [.ref 0, .int a1] x = mj_rV (kX1 d 113 [.ref 0, .int a1] (mj_wI x 0 96 (0 : Int32))) fun x1 =>
  rX1_byBytes d (14, [some (.ref 0), some (.int a1), some (.int (0 : Int32)), some (.int (0 : Int32))], [], x1) := (mj_run_to (cd := cdX1) (rt := 0) (tab := tX1_byBytes) (cal := kX1 d) zX1_byBytes 38 (0, [some (.ref 0), some (.int a1), none, none], [], x)).trans rfl
set_option maxRecDepth 100000 in
set_option maxHeartbeats 4000000 in
theorem bX1_byBytes_14 (d : Nat) (a1 : Int32) (a2 : Int32) (a3 : Int32) (x : mj_X) : rX1_byBytes d (14, [some (.ref 0), some (.int a1), some (.int a2), some (.int a3)], [], x) = 
  if (x.1 0 75) ≤ a3 then rX1_byBytes d (52, [some (.ref 0), some (.int a1), some (.int a2), some (.int a3)], [], x)
  else mj_g a3 8 (mj_g a2 132000 (mj_g a3 8 (mj_rI (kX1 d 25 [.int (x.1 77 a3.toNatClampNeg)] (mj_wL x 93 a2.toNatClampNeg (x.2 91 a3.toNatClampNeg))) fun v2 x1 =>
   rX1_byBytes d (14, [some (.ref 0), some (.int a1), some (.int (a2 + v2)), some (.int (a3 + (1 : Int32)))], [], x1)))) := (mj_run_to (cd := cdX1) (rt := 0) (tab := tX1_byBytes) (cal := kX1 d) zX1_byBytes 38 (14, [some (.ref 0), some (.int a1), some (.int a2), some (.int a3)], [], x)).trans rfl
set_option maxRecDepth 100000 in
set_option maxHeartbeats 4000000 in
theorem bX1_byBytes_52 (d : Nat) (a1 : Int32) (a2 : Int32) (a3 : Int32) (x : mj_X) : rX1_byBytes d (52, [some (.ref 0), some (.int a1), some (.int a2), some (.int a3)], [], x) = 
  if (x.1 0 96) ≤ 0 then some (none, x)
  else 
   if (100000 : Int32) < (x.1 0 78) then some (none, x)
   else 
    if (100000 : Int32) < ((x.1 0 78) + (1 : Int32)) then rX1_byBytes d (52, [some (.ref 0), some (.int a1), some (.int a2), some (.int a3)], [], (mj_wI x 0 78 ((x.1 0 78) + (1 : Int32))))
    else mj_rV (kX1 d 114 [.ref 0, .int (x.1 0 97)] (mj_wI x 0 78 ((x.1 0 78) + (1 : Int32)))) fun x1 =>
     
     if (x1.1 0 79) = 0 then rX1_byBytes d (52, [some (.ref 0), some (.int a1), some (.int a2), some (.int (x.1 0 97))], [], x1)
     else mj_rV (kX1 d 144 [.ref 0, .int (x.1 0 97)] x1) fun x2 =>
      rX1_byBytes d (52, [some (.ref 0), some (.int a1), some (.int a2), some (.int (x.1 0 97))], [], x2) := (mj_run_to (cd := cdX1) (rt := 0) (tab := tX1_byBytes) (cal := kX1 d) zX1_byBytes 38 (52, [some (.ref 0), some (.int a1), some (.int a2), some (.int a3)], [], x)).trans rfl
noncomputable abbrev rX1_enter (d : Nat) : mj_S → mj_R := mj_run cdX1 0 tX1_enter (kX1 d)
def zX1_enter (p : Nat) : Bool := false
set_option maxRecDepth 100000 in
set_option maxHeartbeats 4000000 in
theorem eX1_enter (d : Nat) (a1 : Int32) (x : mj_X) : kX1 (d + 1) 113 [.ref 0, .int a1] x = mj_g (x.1 0 96) 11 (mj_g a1 40 (some (none, (mj_wI (mj_wI (mj_wI (mj_wI x 94 (x.1 0 96).toNatClampNeg a1) 0 97 (0 : Int32)) 0 96 ((x.1 0 96) + (1 : Int32))) 0 98 (((12000 : Int32) * (((x.1 0 96) + (1 : Int32)) - (1 : Int32))) + (x.1 13 a1.toNatClampNeg)))))) := (mj_run_to (cd := cdX1) (rt := 0) (tab := tX1_enter) (cal := kX1 d) zX1_enter 31 (0, [some (.ref 0), some (.int a1)], [], x)).trans rfl
noncomputable abbrev rX1_one (d : Nat) : mj_S → mj_R := mj_run cdX1 0 tX1_one (kX1 d)
def zX1_one (p : Nat) : Bool := bif Nat.blt p 279 then (bif Nat.blt p 157 then (bif Nat.blt p 69 then (bif Nat.beq p 40 then true else false) else (bif Nat.blt p 143 then (bif Nat.beq p 69 then true else false) else (bif Nat.beq p 143 then true else false))) else (bif Nat.blt p 183 then (bif Nat.beq p 157 then true else false) else (bif Nat.blt p 231 then (bif Nat.beq p 183 then true else false) else (bif Nat.beq p 231 then true else false)))) else (bif Nat.blt p 375 then (bif Nat.blt p 310 then (bif Nat.beq p 279 then true else false) else (bif Nat.blt p 342 then (bif Nat.beq p 310 then true else false) else (bif Nat.beq p 342 then true else false))) else (bif Nat.blt p 476 then (bif Nat.blt p 435 then (bif Nat.beq p 375 then true else false) else (bif Nat.beq p 435 then true else false)) else (bif Nat.blt p 528 then (bif Nat.beq p 476 then true else false) else (bif Nat.beq p 528 then true else false))))
set_option maxRecDepth 100000 in
set_option maxHeartbeats 4000000 in
theorem eX1_one (d : Nat) (a1 : Int32) (x : mj_X) : kX1 (d + 1) 114 [.ref 0, .int a1] x = mj_g ((x.1 0 96) - (1 : Int32)) 11 (mj_g (x.1 94 ((x.1 0 96) - (1 : Int32)).toNatClampNeg) 41 (mj_rI (kX1 d 115 [.ref 0, .int ((x.1 12 (x.1 94 ((x.1 0 96) - (1 : Int32)).toNatClampNeg).toNatClampNeg) + a1)] x) fun v2 x1 =>
  rX1_one d (40, [some (.ref 0), some (.int a1), some (.int (x.1 94 ((x.1 0 96) - (1 : Int32)).toNatClampNeg)), some (.int ((x.1 12 (x.1 94 ((x.1 0 96) - (1 : Int32)).toNatClampNeg).toNatClampNeg) + a1)), some (.int v2), some (.int ((12000 : Int32) * ((x1.1 0 96) - (1 : Int32)))), none, none, none, none, none], [], x1))) := (mj_run_to (cd := cdX1) (rt := 0) (tab := tX1_one) (cal := kX1 d) zX1_one 39 (0, [some (.ref 0), some (.int a1), none, none, none, none, none, none, none, none, none], [], x)).trans rfl
set_option maxRecDepth 100000 in
set_option maxHeartbeats 4000000 in
theorem bX1_one_40 (d : Nat) (a1 : Int32) (a2 : Int32) (a3 : Int32) (a4 : Int32) (a5 : Int32) (x : mj_X) : rX1_one d (40, [some (.ref 0), some (.int a1), some (.int a2), some (.int a3), some (.int a4), some (.int a5), none, none, none, none, none], [], x) = 
  if a4 = (196 : Int32) then mj_rI (kX1 d 115 [.ref 0, .int (a3 + (1 : Int32))] x) fun v2 x1 =>
   mj_rI (kX1 d 116 [.ref 0, .int (a3 + (2 : Int32))] x1) fun v4 x3 =>
   rX1_one d (69, [some (.ref 0), some (.int a1), some (.int a2), some (.int a3), some (.int a4), some (.int a5), some (.int v2), some (.int (a5 + v4)), none, none, none], [], x3)
  else 
   if a4 < (21 : Int32) then rX1_one d (143, [some (.ref 0), some (.int a1), some (.int a2), some (.int a3), some (.int a4), some (.int a5), none, none, none, none, none], [], x)
   else 
    if a4 ≤ (25 : Int32) then rX1_one d (157, [some (.ref 0), some (.int a1), some (.int a2), some (.int a3), some (.int a4), some (.int a5), none, none, none, none, none], [], x)
    else rX1_one d (143, [some (.ref 0), some (.int a1), some (.int a2), some (.int a3), some (.int a4), some (.int a5), none, none, none, none, none], [], x) := (mj_run_to (cd := cdX1) (rt := 0) (tab := tX1_one) (cal := kX1 d) zX1_one 39 (40, [some (.ref 0), some (.int a1), some (.int a2), some (.int a3), some (.int a4), some (.int a5), none, none, none, none, none], [], x)).trans rfl
set_option maxRecDepth 100000 in
set_option maxHeartbeats 4000000 in
theorem bX1_one_69 (d : Nat) (a1 : Int32) (a2 : Int32) (a3 : Int32) (a4 : Int32) (a5 : Int32) (a6 : Int32) (a7 : Int32) (x : mj_X) : rX1_one d (69, [some (.ref 0), some (.int a1), some (.int a2), some (.int a3), some (.int a4), some (.int a5), some (.int a6), some (.int a7), none, none, none], [], x) = 
  if a6 = (132 : Int32) then mj_g a7 132000 (mj_rI (kX1 d 116 [.ref 0, .int (a3 + (4 : Int32))] x) fun v2 x1 =>
   mj_g a7 132000 (some (none, (mj_wI (mj_wL x1 93 a7.toNatClampNeg ((x.2 93 a7.toNatClampNeg).toInt32 + v2.toInt16.toInt32).toInt64) 0 97 (a1 + (6 : Int32))))))
  else mj_rV (kX1 d 117 [.ref 0, .int a6, .int a7] x) fun x3 =>
   some (none, (mj_wI x3 0 97 (a1 + (4 : Int32)))) := (mj_run_to (cd := cdX1) (rt := 0) (tab := tX1_one) (cal := kX1 d) zX1_one 39 (69, [some (.ref 0), some (.int a1), some (.int a2), some (.int a3), some (.int a4), some (.int a5), some (.int a6), some (.int a7), none, none, none], [], x)).trans rfl
set_option maxRecDepth 100000 in
set_option maxHeartbeats 4000000 in
theorem bX1_one_143 (d : Nat) (a1 : Int32) (a2 : Int32) (a3 : Int32) (a4 : Int32) (a5 : Int32) (x : mj_X) : rX1_one d (143, [some (.ref 0), some (.int a1), some (.int a2), some (.int a3), some (.int a4), some (.int a5), none, none, none, none, none], [], x) = 
  if a4 < (54 : Int32) then rX1_one d (183, [some (.ref 0), some (.int a1), some (.int a2), some (.int a3), some (.int a4), some (.int a5), none, none, none, none, none], [], x)
  else 
   if (58 : Int32) < a4 then rX1_one d (183, [some (.ref 0), some (.int a1), some (.int a2), some (.int a3), some (.int a4), some (.int a5), none, none, none, none, none], [], x)
   else rX1_one d (157, [some (.ref 0), some (.int a1), some (.int a2), some (.int a3), some (.int a4), some (.int a5), none, none, none, none, none], [], x) := (mj_run_to (cd := cdX1) (rt := 0) (tab := tX1_one) (cal := kX1 d) zX1_one 39 (143, [some (.ref 0), some (.int a1), some (.int a2), some (.int a3), some (.int a4), some (.int a5), none, none, none, none, none], [], x)).trans rfl
set_option maxRecDepth 100000 in
set_option maxHeartbeats 4000000 in
theorem bX1_one_157 (d : Nat) (a1 : Int32) (a2 : Int32) (a3 : Int32) (a4 : Int32) (a5 : Int32) (x : mj_X) : rX1_one d (157, [some (.ref 0), some (.int a1), some (.int a2), some (.int a3), some (.int a4), some (.int a5), none, none, none, none, none], [], x) = mj_rI (kX1 d 115 [.ref 0, .int (a3 + (1 : Int32))] x) fun v2 x1 =>
  mj_rV (kX1 d 117 [.ref 0, .int a4, .int (a5 + v2)] x1) fun x3 =>
  some (none, (mj_wI x3 0 97 (a1 + (2 : Int32)))) := (mj_run_to (cd := cdX1) (rt := 0) (tab := tX1_one) (cal := kX1 d) zX1_one 39 (157, [some (.ref 0), some (.int a1), some (.int a2), some (.int a3), some (.int a4), some (.int a5), none, none, none, none, none], [], x)).trans rfl
set_option maxRecDepth 100000 in
set_option maxHeartbeats 4000000 in
theorem bX1_one_183 (d : Nat) (a1 : Int32) (a2 : Int32) (a3 : Int32) (a4 : Int32) (a5 : Int32) (x : mj_X) : rX1_one d (183, [some (.ref 0), some (.int a1), some (.int a2), some (.int a3), some (.int a4), some (.int a5), none, none, none, none, none], [], x) = 
  if a4 < (26 : Int32) then rX1_one d (231, [some (.ref 0), some (.int a1), some (.int a2), some (.int a3), some (.int a4), some (.int a5), none, none, none, none, none], [], x)
  else 
   if (45 : Int32) < a4 then rX1_one d (231, [some (.ref 0), some (.int a1), some (.int a2), some (.int a3), some (.int a4), some (.int a5), none, none, none, none, none], [], x)
   else mj_rV (kX1 d 117 [.ref 0, .int ((21 : Int32) + ((a4 - (26 : Int32)) / (4 : Int32))), .int (a5 + ((a4 - (26 : Int32)) - (a4 - (26 : Int32)) / (4 : Int32) * (4 : Int32)))] x) fun x1 =>
    some (none, (mj_wI x1 0 97 (a1 + (1 : Int32)))) := (mj_run_to (cd := cdX1) (rt := 0) (tab := tX1_one) (cal := kX1 d) zX1_one 39 (183, [some (.ref 0), some (.int a1), some (.int a2), some (.int a3), some (.int a4), some (.int a5), none, none, none, none, none], [], x)).trans rfl
set_option maxRecDepth 100000 in
set_option maxHeartbeats 4000000 in
theorem bX1_one_231 (d : Nat) (a1 : Int32) (a2 : Int32) (a3 : Int32) (a4 : Int32) (a5 : Int32) (x : mj_X) : rX1_one d (231, [some (.ref 0), some (.int a1), some (.int a2), some (.int a3), some (.int a4), some (.int a5), none, none, none, none, none], [], x) = 
  if a4 < (59 : Int32) then rX1_one d (279, [some (.ref 0), some (.int a1), some (.int a2), some (.int a3), some (.int a4), some (.int a5), none, none, none, none, none], [], x)
  else 
   if (78 : Int32) < a4 then rX1_one d (279, [some (.ref 0), some (.int a1), some (.int a2), some (.int a3), some (.int a4), some (.int a5), none, none, none, none, none], [], x)
   else mj_rV (kX1 d 117 [.ref 0, .int ((54 : Int32) + ((a4 - (59 : Int32)) / (4 : Int32))), .int (a5 + ((a4 - (59 : Int32)) - (a4 - (59 : Int32)) / (4 : Int32) * (4 : Int32)))] x) fun x1 =>
    some (none, (mj_wI x1 0 97 (a1 + (1 : Int32)))) := (mj_run_to (cd := cdX1) (rt := 0) (tab := tX1_one) (cal := kX1 d) zX1_one 39 (231, [some (.ref 0), some (.int a1), some (.int a2), some (.int a3), some (.int a4), some (.int a5), none, none, none, none, none], [], x)).trans rfl
set_option maxRecDepth 100000 in
set_option maxHeartbeats 4000000 in
theorem bX1_one_279 (d : Nat) (a1 : Int32) (a2 : Int32) (a3 : Int32) (a4 : Int32) (a5 : Int32) (x : mj_X) : rX1_one d (279, [some (.ref 0), some (.int a1), some (.int a2), some (.int a3), some (.int a4), some (.int a5), none, none, none, none, none], [], x) = 
  if a4 < (96 : Int32) then rX1_one d (310, [some (.ref 0), some (.int a1), some (.int a2), some (.int a3), some (.int a4), some (.int a5), none, none, none, none, none], [], x)
  else 
   if (131 : Int32) < a4 then rX1_one d (310, [some (.ref 0), some (.int a1), some (.int a2), some (.int a3), some (.int a4), some (.int a5), none, none, none, none, none], [], x)
   else mj_rV (kX1 d 121 [.ref 0, .int a4] x) fun x1 =>
    some (none, (mj_wI x1 0 97 (a1 + (1 : Int32)))) := (mj_run_to (cd := cdX1) (rt := 0) (tab := tX1_one) (cal := kX1 d) zX1_one 39 (279, [some (.ref 0), some (.int a1), some (.int a2), some (.int a3), some (.int a4), some (.int a5), none, none, none, none, none], [], x)).trans rfl
set_option maxRecDepth 100000 in
set_option maxHeartbeats 4000000 in
theorem bX1_one_310 (d : Nat) (a1 : Int32) (a2 : Int32) (a3 : Int32) (a4 : Int32) (a5 : Int32) (x : mj_X) : rX1_one d (310, [some (.ref 0), some (.int a1), some (.int a2), some (.int a3), some (.int a4), some (.int a5), none, none, none, none, none], [], x) = 
  if a4 < (133 : Int32) then rX1_one d (342, [some (.ref 0), some (.int a1), some (.int a2), some (.int a3), some (.int a4), some (.int a5), none, none, none, none, none], [], x)
  else 
   if (147 : Int32) < a4 then rX1_one d (342, [some (.ref 0), some (.int a1), some (.int a2), some (.int a3), some (.int a4), some (.int a5), none, none, none, none, none], [], x)
   else mj_rV (kX1 d 129 [.ref 0, .int a4] x) fun x1 =>
    some (none, (mj_wI x1 0 97 (a1 + (1 : Int32)))) := (mj_run_to (cd := cdX1) (rt := 0) (tab := tX1_one) (cal := kX1 d) zX1_one 39 (310, [some (.ref 0), some (.int a1), some (.int a2), some (.int a3), some (.int a4), some (.int a5), none, none, none, none, none], [], x)).trans rfl
set_option maxRecDepth 100000 in
set_option maxHeartbeats 4000000 in
theorem bX1_one_342 (d : Nat) (a1 : Int32) (a2 : Int32) (a3 : Int32) (a4 : Int32) (a5 : Int32) (x : mj_X) : rX1_one d (342, [some (.ref 0), some (.int a1), some (.int a2), some (.int a3), some (.int a4), some (.int a5), none, none, none, none, none], [], x) = 
  if a4 < (153 : Int32) then rX1_one d (435, [some (.ref 0), some (.int a1), some (.int a2), some (.int a3), some (.int a4), some (.int a5), none, none, none, none, none], [], x)
  else 
   if (164 : Int32) < a4 then rX1_one d (435, [some (.ref 0), some (.int a1), some (.int a2), some (.int a3), some (.int a4), some (.int a5), none, none, none, none, none], [], x)
   else 
    if a4 < (159 : Int32) then rX1_one d (375, [some (.ref 0), some (.int a1), some (.int a2), some (.int a3), some (.int a4), some (.int a5), none, none, none, none, none], [.long (0 : Int64)], x)
    else mj_rL (kX1 d 118 [.ref 0, .int (1 : Int32)] x) fun v2 x1 =>
     rX1_one d (375, [some (.ref 0), some (.int a1), some (.int a2), some (.int a3), some (.int a4), some (.int a5), none, none, none, none, none], [.long v2], x1) := (mj_run_to (cd := cdX1) (rt := 0) (tab := tX1_one) (cal := kX1 d) zX1_one 39 (342, [some (.ref 0), some (.int a1), some (.int a2), some (.int a3), some (.int a4), some (.int a5), none, none, none, none, none], [], x)).trans rfl
set_option maxRecDepth 100000 in
set_option maxHeartbeats 4000000 in
theorem bX1_one_375 (d : Nat) (a1 : Int32) (a2 : Int32) (a3 : Int32) (a4 : Int32) (a5 : Int32) (s0 : Int64) (x : mj_X) : rX1_one d (375, [some (.ref 0), some (.int a1), some (.int a2), some (.int a3), some (.int a4), some (.int a5), none, none, none, none, none], [.long s0], x) = mj_rL (kX1 d 118 [.ref 0, .int (1 : Int32)] x) fun v2 x1 =>
  mj_rI (kX1 d 131 [.int (1 : Int32), .long v2, .long s0, .int (0 : Int32)] x1) fun v4 x3 =>
  mj_rI (kX1 d 132 [.int ((23 : Int32) + ((a4 - (153 : Int32)) - (a4 - (153 : Int32)) / (6 : Int32) * (6 : Int32))), .int v4] x3) fun v6 x5 =>
  
  if v6 = 0 then mj_rV (kX1 d 133 [.ref 0, .int a1, .int (3 : Int32)] x5) fun x7 =>
   some (none, x7)
  else mj_rI (kX1 d 116 [.ref 0, .int (a3 + (1 : Int32))] x5) fun v9 x8 =>
   mj_rV (kX1 d 133 [.ref 0, .int a1, .int v9.toInt16.toInt32] x8) fun x10 =>
   some (none, x10) := (mj_run_to (cd := cdX1) (rt := 0) (tab := tX1_one) (cal := kX1 d) zX1_one 39 (375, [some (.ref 0), some (.int a1), some (.int a2), some (.int a3), some (.int a4), some (.int a5), none, none, none, none, none], [.long s0], x)).trans rfl
set_option maxRecDepth 100000 in
set_option maxHeartbeats 4000000 in
theorem bX1_one_435 (d : Nat) (a1 : Int32) (a2 : Int32) (a3 : Int32) (a4 : Int32) (a5 : Int32) (x : mj_X) : rX1_one d (435, [some (.ref 0), some (.int a1), some (.int a2), some (.int a3), some (.int a4), some (.int a5), none, none, none, none, none], [], x) = 
  if a4 < (148 : Int32) then mj_rV (kX1 d 134 [.ref 0, .int a2, .int a1, .int a3, .int a4, .int a5] x) fun x1 =>
   some (none, x1)
  else 
   if (152 : Int32) < a4 then mj_rV (kX1 d 134 [.ref 0, .int a2, .int a1, .int a3, .int a4, .int a5] x) fun x2 =>
    some (none, x2)
   else 
    if a4 = (148 : Int32) then rX1_one d (476, [some (.ref 0), some (.int a1), some (.int a2), some (.int a3), some (.int a4), some (.int a5), none, none, none, none, none], [.int (2 : Int32)], x)
    else 
     if (150 : Int32) < a4 then rX1_one d (476, [some (.ref 0), some (.int a1), some (.int a2), some (.int a3), some (.int a4), some (.int a5), none, none, none, none, none], [.int (4 : Int32)], x)
     else rX1_one d (476, [some (.ref 0), some (.int a1), some (.int a2), some (.int a3), some (.int a4), some (.int a5), none, none, none, none, none], [.int (3 : Int32)], x) := (mj_run_to (cd := cdX1) (rt := 0) (tab := tX1_one) (cal := kX1 d) zX1_one 39 (435, [some (.ref 0), some (.int a1), some (.int a2), some (.int a3), some (.int a4), some (.int a5), none, none, none, none, none], [], x)).trans rfl
set_option maxRecDepth 100000 in
set_option maxHeartbeats 4000000 in
theorem bX1_one_476 (d : Nat) (a1 : Int32) (a2 : Int32) (a3 : Int32) (a4 : Int32) (a5 : Int32) (s0 : Int32) (x : mj_X) : rX1_one d (476, [some (.ref 0), some (.int a1), some (.int a2), some (.int a3), some (.int a4), some (.int a5), none, none, none, none, none], [.int s0], x) = mj_rI (kX1 d 25 [.int s0] x) fun v2 x1 =>
  mj_rL (kX1 d 118 [.ref 0, .int v2] x1) fun v4 x3 =>
  mj_rI (kX1 d 25 [.int s0] x3) fun v6 x5 =>
  mj_rL (kX1 d 118 [.ref 0, .int v6] x5) fun v8 x7 =>
  
  if a4 = (149 : Int32) then rX1_one d (528, [some (.ref 0), some (.int a1), some (.int a2), some (.int a3), some (.int a4), some (.int a5), some (.int s0), some (.long v4), none, some (.long v8), none], [.int (-1 : Int32), .long v4, .long v8, .int s0, .ref 0], x7)
  else 
   if a4 = (151 : Int32) then rX1_one d (528, [some (.ref 0), some (.int a1), some (.int a2), some (.int a3), some (.int a4), some (.int a5), some (.int s0), some (.long v4), none, some (.long v8), none], [.int (-1 : Int32), .long v4, .long v8, .int s0, .ref 0], x7)
   else rX1_one d (528, [some (.ref 0), some (.int a1), some (.int a2), some (.int a3), some (.int a4), some (.int a5), some (.int s0), some (.long v4), none, some (.long v8), none], [.int (1 : Int32), .long v4, .long v8, .int s0, .ref 0], x7) := (mj_run_to (cd := cdX1) (rt := 0) (tab := tX1_one) (cal := kX1 d) zX1_one 39 (476, [some (.ref 0), some (.int a1), some (.int a2), some (.int a3), some (.int a4), some (.int a5), none, none, none, none, none], [.int s0], x)).trans rfl
set_option maxRecDepth 100000 in
set_option maxHeartbeats 4000000 in
theorem bX1_one_528 (d : Nat) (a1 : Int32) (a2 : Int32) (a3 : Int32) (a4 : Int32) (a5 : Int32) (a6 : Int32) (a7 : Int64) (a9 : Int64) (s1 : Int32) (s2 : Int64) (s3 : Int64) (s4 : Int32) (x : mj_X) : rX1_one d (528, [some (.ref 0), some (.int a1), some (.int a2), some (.int a3), some (.int a4), some (.int a5), some (.int a6), some (.long a7), none, some (.long a9), none], [.int s4, .long s3, .long s2, .int s1, .ref 0], x) = mj_rI (kX1 d 131 [.int s1, .long s2, .long s3, .int s4] x) fun v2 x1 =>
  mj_rV (kX1 d 120 [.ref 0, .long v2.toInt64] x1) fun x3 =>
  some (none, (mj_wI x3 0 97 (a1 + (1 : Int32)))) := (mj_run_to (cd := cdX1) (rt := 0) (tab := tX1_one) (cal := kX1 d) zX1_one 39 (528, [some (.ref 0), some (.int a1), some (.int a2), some (.int a3), some (.int a4), some (.int a5), some (.int a6), some (.long a7), none, some (.long a9), none], [.int s4, .long s3, .long s2, .int s1, .ref 0], x)).trans rfl
noncomputable abbrev rX1_u1 (d : Nat) : mj_S → mj_R := mj_run cdX1 1 tX1_u1 (kX1 d)
def zX1_u1 (p : Nat) : Bool := false
set_option maxRecDepth 100000 in
set_option maxHeartbeats 4000000 in
theorem eX1_u1 (d : Nat) (a1 : Int32) (x : mj_X) : kX1 (d + 1) 115 [.ref 0, .int a1] x = mj_g a1 160000 (some (some (.int ((x.1 19 a1.toNatClampNeg) &&& (255 : Int32))), x)) := (mj_run_to (cd := cdX1) (rt := 1) (tab := tX1_u1) (cal := kX1 d) zX1_u1 9 (0, [some (.ref 0), some (.int a1)], [], x)).trans rfl
noncomputable abbrev rX1_u2 (d : Nat) : mj_S → mj_R := mj_run cdX1 1 tX1_u2 (kX1 d)
def zX1_u2 (p : Nat) : Bool := false
set_option maxRecDepth 100000 in
set_option maxHeartbeats 4000000 in
theorem eX1_u2 (d : Nat) (a1 : Int32) (x : mj_X) : kX1 (d + 1) 116 [.ref 0, .int a1] x = mj_rI (kX1 d 115 [.ref 0, .int a1] x) fun v2 x1 =>
  mj_rI (kX1 d 115 [.ref 0, .int (a1 + (1 : Int32))] x1) fun v4 x3 =>
  some (some (.int ((v2 <<< ((8 : Int32) &&& 31)) ||| v4)), x3) := (mj_run_to (cd := cdX1) (rt := 1) (tab := tX1_u2) (cal := kX1 d) zX1_u2 14 (0, [some (.ref 0), some (.int a1)], [], x)).trans rfl
noncomputable abbrev rX1_move (d : Nat) : mj_S → mj_R := mj_run cdX1 0 tX1_move (kX1 d)
def zX1_move (p : Nat) : Bool := bif Nat.blt p 29 then (bif Nat.beq p 24 then true else false) else (bif Nat.beq p 29 then true else false)
set_option maxRecDepth 100000 in
set_option maxHeartbeats 4000000 in
theorem eX1_move (d : Nat) (a1 : Int32) (a2 : Int32) (x : mj_X) : kX1 (d + 1) 117 [.ref 0, .int a1, .int a2] x = 
  if a1 = (22 : Int32) then rX1_move d (24, [some (.ref 0), some (.int a1), some (.int a2), none], [], x)
  else 
   if a1 = (24 : Int32) then rX1_move d (24, [some (.ref 0), some (.int a1), some (.int a2), none], [], x)
   else 
    if a1 = (55 : Int32) then rX1_move d (24, [some (.ref 0), some (.int a1), some (.int a2), none], [], x)
    else 
     if a1 = (57 : Int32) then rX1_move d (24, [some (.ref 0), some (.int a1), some (.int a2), none], [], x)
     else rX1_move d (29, [some (.ref 0), some (.int a1), some (.int a2), none], [.int (1 : Int32)], x) := (mj_run_to (cd := cdX1) (rt := 0) (tab := tX1_move) (cal := kX1 d) zX1_move 23 (0, [some (.ref 0), some (.int a1), some (.int a2), none], [], x)).trans rfl
set_option maxRecDepth 100000 in
set_option maxHeartbeats 4000000 in
theorem bX1_move_24 (d : Nat) (a1 : Int32) (a2 : Int32) (x : mj_X) : rX1_move d (24, [some (.ref 0), some (.int a1), some (.int a2), none], [], x) = rX1_move d (29, [some (.ref 0), some (.int a1), some (.int a2), none], [.int (2 : Int32)], x) := (mj_run_to (cd := cdX1) (rt := 0) (tab := tX1_move) (cal := kX1 d) zX1_move 23 (24, [some (.ref 0), some (.int a1), some (.int a2), none], [], x)).trans rfl
set_option maxRecDepth 100000 in
set_option maxHeartbeats 4000000 in
theorem bX1_move_29 (d : Nat) (a1 : Int32) (a2 : Int32) (s0 : Int32) (x : mj_X) : rX1_move d (29, [some (.ref 0), some (.int a1), some (.int a2), none], [.int s0], x) = 
  if a1 < (54 : Int32) then mj_g a2 132000 (mj_rV (kX1 d 119 [.ref 0, .long (x.2 93 a2.toNatClampNeg), .int s0] x) fun x1 =>
   some (none, x1))
  else mj_rL (kX1 d 118 [.ref 0, .int s0] x) fun v3 x2 =>
   mj_g a2 132000 (some (none, (mj_wL x2 93 a2.toNatClampNeg v3))) := (mj_run_to (cd := cdX1) (rt := 0) (tab := tX1_move) (cal := kX1 d) zX1_move 23 (29, [some (.ref 0), some (.int a1), some (.int a2), none], [.int s0], x)).trans rfl
noncomputable abbrev rX1_pop (d : Nat) : mj_S → mj_R := mj_run cdX1 2 tX1_pop (kX1 d)
def zX1_pop (p : Nat) : Bool := false
set_option maxRecDepth 100000 in
set_option maxHeartbeats 4000000 in
theorem eX1_pop (d : Nat) (a1 : Int32) (x : mj_X) : kX1 (d + 1) 118 [.ref 0, .int a1] x = mj_g ((x.1 0 98) - a1) 132000 (some (some (.long (x.2 93 ((x.1 0 98) - a1).toNatClampNeg)), (mj_wI x 0 98 ((x.1 0 98) - a1)))) := (mj_run_to (cd := cdX1) (rt := 2) (tab := tX1_pop) (cal := kX1 d) zX1_pop 14 (0, [some (.ref 0), some (.int a1)], [], x)).trans rfl
noncomputable abbrev rX1_push (d : Nat) : mj_S → mj_R := mj_run cdX1 0 tX1_push (kX1 d)
def zX1_push (p : Nat) : Bool := false
set_option maxRecDepth 100000 in
set_option maxHeartbeats 4000000 in
theorem eX1_push (d : Nat) (a1 : Int64) (a3 : Int32) (x : mj_X) : kX1 (d + 1) 119 [.ref 0, .long a1, .int a3] x = mj_rV (kX1 d 120 [.ref 0, .long a1] x) fun x1 =>
  
  if a3 = (2 : Int32) then mj_rV (kX1 d 120 [.ref 0, .long (0 : Int64)] x1) fun x2 =>
   some (none, x2)
  else some (none, x1) := (mj_run_to (cd := cdX1) (rt := 0) (tab := tX1_push) (cal := kX1 d) zX1_push 13 (0, [some (.ref 0), some (.long a1), none, some (.int a3)], [], x)).trans rfl
noncomputable abbrev rX1_push_2 (d : Nat) : mj_S → mj_R := mj_run cdX1 0 tX1_push_2 (kX1 d)
def zX1_push_2 (p : Nat) : Bool := false
set_option maxRecDepth 100000 in
set_option maxHeartbeats 4000000 in
theorem eX1_push_2 (d : Nat) (a1 : Int64) (x : mj_X) : kX1 (d + 1) 120 [.ref 0, .long a1] x = mj_g (x.1 0 98) 132000 (some (none, (mj_wI (mj_wL x 93 (x.1 0 98).toNatClampNeg a1) 0 98 ((x.1 0 98) + (1 : Int32))))) := (mj_run_to (cd := cdX1) (rt := 0) (tab := tX1_push_2) (cal := kX1 d) zX1_push_2 15 (0, [some (.ref 0), some (.long a1), none], [], x)).trans rfl
noncomputable abbrev rX1_arithmetic (d : Nat) : mj_S → mj_R := mj_run cdX1 0 tX1_arithmetic (kX1 d)
def zX1_arithmetic (p : Nat) : Bool := bif Nat.blt p 114 then (bif Nat.blt p 91 then (bif Nat.beq p 46 then true else false) else (bif Nat.beq p 91 then true else false)) else (bif Nat.blt p 130 then (bif Nat.beq p 114 then true else false) else (bif Nat.beq p 130 then true else false))
set_option maxRecDepth 100000 in
set_option maxHeartbeats 4000000 in
theorem eX1_arithmetic (d : Nat) (a1 : Int32) (x : mj_X) : kX1 (d + 1) 121 [.ref 0, .int a1] x = 
  if a1 = (132 : Int32) then some (none, x)
  else 
   if a1 < (116 : Int32) then rX1_arithmetic d (46, [some (.ref 0), some (.int a1), none, none, none, none, none, none], [], x)
   else 
    if (119 : Int32) < a1 then rX1_arithmetic d (46, [some (.ref 0), some (.int a1), none, none, none, none, none, none], [], x)
    else mj_rI (kX1 d 25 [.int (a1 - (115 : Int32))] x) fun v2 x1 =>
     mj_rL (kX1 d 118 [.ref 0, .int v2] x1) fun v4 x3 =>
     mj_rL (kX1 d 122 [.int (a1 - (115 : Int32)), .long v4] x3) fun v6 x5 =>
     mj_rI (kX1 d 25 [.int (a1 - (115 : Int32))] x5) fun v8 x7 =>
     mj_rV (kX1 d 119 [.ref 0, .long v6, .int v8] x7) fun x9 =>
     some (none, x9) := (mj_run_to (cd := cdX1) (rt := 0) (tab := tX1_arithmetic) (cal := kX1 d) zX1_arithmetic 34 (0, [some (.ref 0), some (.int a1), none, none, none, none, none, none], [], x)).trans rfl
set_option maxRecDepth 100000 in
set_option maxHeartbeats 4000000 in
theorem bX1_arithmetic_46 (d : Nat) (a1 : Int32) (x : mj_X) : rX1_arithmetic d (46, [some (.ref 0), some (.int a1), none, none, none, none, none, none], [], x) = 
  if (116 : Int32) ≤ a1 then 
   if (126 : Int32) ≤ a1 then rX1_arithmetic d (91, [some (.ref 0), some (.int a1), none, none, none, none, none, none], [.int ((15 : Int32) + ((a1 - (126 : Int32)) / (2 : Int32)))], x)
   else rX1_arithmetic d (91, [some (.ref 0), some (.int a1), none, none, none, none, none, none], [.int ((18 : Int32) + ((a1 - (120 : Int32)) / (2 : Int32)))], x)
  else rX1_arithmetic d (91, [some (.ref 0), some (.int a1), none, none, none, none, none, none], [.int ((10 : Int32) + ((a1 - (96 : Int32)) / (4 : Int32)))], x) := (mj_run_to (cd := cdX1) (rt := 0) (tab := tX1_arithmetic) (cal := kX1 d) zX1_arithmetic 34 (46, [some (.ref 0), some (.int a1), none, none, none, none, none, none], [], x)).trans rfl
set_option maxRecDepth 100000 in
set_option maxHeartbeats 4000000 in
theorem bX1_arithmetic_91 (d : Nat) (a1 : Int32) (s0 : Int32) (x : mj_X) : rX1_arithmetic d (91, [some (.ref 0), some (.int a1), none, none, none, none, none, none], [.int s0], x) = 
  if (116 : Int32) ≤ a1 then rX1_arithmetic d (114, [some (.ref 0), some (.int a1), some (.int s0), none, none, none, none, none], [.int ((1 : Int32) + (a1 - a1 / (2 : Int32) * (2 : Int32)))], x)
  else rX1_arithmetic d (114, [some (.ref 0), some (.int a1), some (.int s0), none, none, none, none, none], [.int ((1 : Int32) + ((a1 - (96 : Int32)) - (a1 - (96 : Int32)) / (4 : Int32) * (4 : Int32)))], x) := (mj_run_to (cd := cdX1) (rt := 0) (tab := tX1_arithmetic) (cal := kX1 d) zX1_arithmetic 34 (91, [some (.ref 0), some (.int a1), none, none, none, none, none, none], [.int s0], x)).trans rfl
set_option maxRecDepth 100000 in
set_option maxHeartbeats 4000000 in
theorem bX1_arithmetic_114 (d : Nat) (a1 : Int32) (a2 : Int32) (s0 : Int32) (x : mj_X) : rX1_arithmetic d (114, [some (.ref 0), some (.int a1), some (.int a2), none, none, none, none, none], [.int s0], x) = 
  if a2 < (18 : Int32) then mj_rI (kX1 d 25 [.int s0] x) fun v2 x1 =>
   rX1_arithmetic d (130, [some (.ref 0), some (.int a1), some (.int a2), some (.int s0), none, none, none, none], [.int v2, .ref 0], x1)
  else rX1_arithmetic d (130, [some (.ref 0), some (.int a1), some (.int a2), some (.int s0), none, none, none, none], [.int (1 : Int32), .ref 0], x) := (mj_run_to (cd := cdX1) (rt := 0) (tab := tX1_arithmetic) (cal := kX1 d) zX1_arithmetic 34 (114, [some (.ref 0), some (.int a1), some (.int a2), none, none, none, none, none], [.int s0], x)).trans rfl
set_option maxRecDepth 100000 in
set_option maxHeartbeats 4000000 in
theorem bX1_arithmetic_130 (d : Nat) (a1 : Int32) (a2 : Int32) (a3 : Int32) (s1 : Int32) (x : mj_X) : rX1_arithmetic d (130, [some (.ref 0), some (.int a1), some (.int a2), some (.int a3), none, none, none, none], [.int s1, .ref 0], x) = mj_rL (kX1 d 118 [.ref 0, .int s1] x) fun v2 x1 =>
  mj_rI (kX1 d 25 [.int a3] x1) fun v4 x3 =>
  mj_rL (kX1 d 118 [.ref 0, .int v4] x3) fun v6 x5 =>
  mj_rL (kX1 d 127 [.ref 0, .int a2, .int a3, .long v6, .long v2] x5) fun v8 x7 =>
  mj_rI (kX1 d 25 [.int a3] x7) fun v10 x9 =>
  mj_rV (kX1 d 119 [.ref 0, .long v8, .int v10] x9) fun x11 =>
  some (none, x11) := (mj_run_to (cd := cdX1) (rt := 0) (tab := tX1_arithmetic) (cal := kX1 d) zX1_arithmetic 34 (130, [some (.ref 0), some (.int a1), some (.int a2), some (.int a3), none, none, none, none], [.int s1, .ref 0], x)).trans rfl
noncomputable abbrev rX1_conversion (d : Nat) : mj_S → mj_R := mj_run cdX1 0 tX1_conversion (kX1 d)
def zX1_conversion (p : Nat) : Bool := bif Nat.beq p 63 then true else false
set_option maxRecDepth 100000 in
set_option maxHeartbeats 4000000 in
theorem eX1_conversion (d : Nat) (a1 : Int32) (x : mj_X) : kX1 (d + 1) 129 [.ref 0, .int a1] x = 
  if a1 < (145 : Int32) then 
   if ((1 : Int32) + ((a1 - (133 : Int32)) / (3 : Int32))) ≤ (((a1 - (133 : Int32)) - (a1 - (133 : Int32)) / (3 : Int32) * (3 : Int32)) + (1 : Int32)) then rX1_conversion d (63, [some (.ref 0), some (.int a1), some (.int ((1 : Int32) + ((a1 - (133 : Int32)) / (3 : Int32)))), some (.int ((a1 - (133 : Int32)) - (a1 - (133 : Int32)) / (3 : Int32) * (3 : Int32))), none], [.int (((a1 - (133 : Int32)) - (a1 - (133 : Int32)) / (3 : Int32) * (3 : Int32)) + (2 : Int32))], x)
   else rX1_conversion d (63, [some (.ref 0), some (.int a1), some (.int ((1 : Int32) + ((a1 - (133 : Int32)) / (3 : Int32)))), some (.int ((a1 - (133 : Int32)) - (a1 - (133 : Int32)) / (3 : Int32) * (3 : Int32))), none], [.int (((a1 - (133 : Int32)) - (a1 - (133 : Int32)) / (3 : Int32) * (3 : Int32)) + (1 : Int32))], x)
  else mj_rL (kX1 d 118 [.ref 0, .int (1 : Int32)] x) fun v2 x1 =>
   mj_rL (kX1 d 130 [.int (1 : Int32), .int (((9 : Int32) + a1) - (145 : Int32)), .long v2] x1) fun v4 x3 =>
   mj_rV (kX1 d 120 [.ref 0, .long v4] x3) fun x5 =>
   some (none, x5) := (mj_run_to (cd := cdX1) (rt := 0) (tab := tX1_conversion) (cal := kX1 d) zX1_conversion 46 (0, [some (.ref 0), some (.int a1), none, none, none], [], x)).trans rfl
set_option maxRecDepth 100000 in
set_option maxHeartbeats 4000000 in
theorem bX1_conversion_63 (d : Nat) (a1 : Int32) (a2 : Int32) (a3 : Int32) (s0 : Int32) (x : mj_X) : rX1_conversion d (63, [some (.ref 0), some (.int a1), some (.int a2), some (.int a3), none], [.int s0], x) = mj_rI (kX1 d 25 [.int a2] x) fun v2 x1 =>
  mj_rL (kX1 d 118 [.ref 0, .int v2] x1) fun v4 x3 =>
  mj_rL (kX1 d 130 [.int a2, .int s0, .long v4] x3) fun v6 x5 =>
  mj_rI (kX1 d 25 [.int s0] x5) fun v8 x7 =>
  mj_rV (kX1 d 119 [.ref 0, .long v6, .int v8] x7) fun x9 =>
  some (none, x9) := (mj_run_to (cd := cdX1) (rt := 0) (tab := tX1_conversion) (cal := kX1 d) zX1_conversion 46 (63, [some (.ref 0), some (.int a1), some (.int a2), some (.int a3), none], [.int s0], x)).trans rfl
noncomputable abbrev rX1_goes (d : Nat) : mj_S → mj_R := mj_run cdX1 0 tX1_goes (kX1 d)
def zX1_goes (p : Nat) : Bool := false
set_option maxRecDepth 100000 in
set_option maxHeartbeats 4000000 in
theorem eX1_goes (d : Nat) (a1 : Int32) (a2 : Int32) (x : mj_X) : kX1 (d + 1) 133 [.ref 0, .int a1, .int a2] x = some (none, (mj_wI x 0 97 (a1 + a2))) := (mj_run_to (cd := cdX1) (rt := 0) (tab := tX1_goes) (cal := kX1 d) zX1_goes 8 (0, [some (.ref 0), some (.int a1), some (.int a2)], [], x)).trans rfl
noncomputable abbrev rX1_other (d : Nat) : mj_S → mj_R := mj_run cdX1 0 tX1_other (kX1 d)
def zX1_other (p : Nat) : Bool := bif Nat.blt p 435 then (bif Nat.blt p 118 then (bif Nat.blt p 60 then (bif Nat.beq p 46 then true else false) else (bif Nat.blt p 104 then (bif Nat.beq p 60 then true else false) else (bif Nat.beq p 104 then true else false))) else (bif Nat.blt p 338 then (bif Nat.blt p 238 then (bif Nat.beq p 118 then true else false) else (bif Nat.beq p 238 then true else false)) else (bif Nat.blt p 372 then (bif Nat.beq p 338 then true else false) else (bif Nat.beq p 372 then true else false)))) else (bif Nat.blt p 611 then (bif Nat.blt p 449 then (bif Nat.beq p 435 then true else false) else (bif Nat.blt p 489 then (bif Nat.beq p 449 then true else false) else (bif Nat.beq p 489 then true else false))) else (bif Nat.blt p 750 then (bif Nat.blt p 659 then (bif Nat.beq p 611 then true else false) else (bif Nat.beq p 659 then true else false)) else (bif Nat.blt p 880 then (bif Nat.beq p 750 then true else false) else (bif Nat.beq p 880 then true else false))))
set_option maxRecDepth 100000 in
set_option maxHeartbeats 4000000 in
theorem eX1_other (d : Nat) (a1 : Int32) (a2 : Int32) (a3 : Int32) (a4 : Int32) (a5 : Int32) (x : mj_X) : kX1 (d + 1) 134 [.ref 0, .int a1, .int a2, .int a3, .int a4, .int a5] x = 
  if a4 = (1 : Int32) then mj_rV (kX1 d 120 [.ref 0, .long (0 : Int64)] (mj_wI x 0 97 (a2 + (1 : Int32)))) fun x1 =>
   some (none, x1)
  else 
   if a4 < (2 : Int32) then rX1_other d (46, [some (.ref 0), some (.int a1), some (.int a2), some (.int a3), some (.int a4), some (.int a5), none, none, none, none, none, none], [], (mj_wI x 0 97 (a2 + (1 : Int32))))
   else 
    if (8 : Int32) < a4 then rX1_other d (46, [some (.ref 0), some (.int a1), some (.int a2), some (.int a3), some (.int a4), some (.int a5), none, none, none, none, none, none], [], (mj_wI x 0 97 (a2 + (1 : Int32))))
    else mj_rV (kX1 d 120 [.ref 0, .long (a4 - (3 : Int32)).toInt64] (mj_wI x 0 97 (a2 + (1 : Int32)))) fun x2 =>
     some (none, x2) := (mj_run_to (cd := cdX1) (rt := 0) (tab := tX1_other) (cal := kX1 d) zX1_other 125 (0, [some (.ref 0), some (.int a1), some (.int a2), some (.int a3), some (.int a4), some (.int a5), none, none, none, none, none, none], [], x)).trans rfl
set_option maxRecDepth 100000 in
set_option maxHeartbeats 4000000 in
theorem bX1_other_46 (d : Nat) (a1 : Int32) (a2 : Int32) (a3 : Int32) (a4 : Int32) (a5 : Int32) (x : mj_X) : rX1_other d (46, [some (.ref 0), some (.int a1), some (.int a2), some (.int a3), some (.int a4), some (.int a5), none, none, none, none, none, none], [], x) = 
  if a4 = (9 : Int32) then rX1_other d (60, [some (.ref 0), some (.int a1), some (.int a2), some (.int a3), some (.int a4), some (.int a5), none, none, none, none, none, none], [], x)
  else 
   if a4 = (10 : Int32) then rX1_other d (60, [some (.ref 0), some (.int a1), some (.int a2), some (.int a3), some (.int a4), some (.int a5), none, none, none, none, none, none], [], x)
   else 
    if a4 < (11 : Int32) then rX1_other d (104, [some (.ref 0), some (.int a1), some (.int a2), some (.int a3), some (.int a4), some (.int a5), none, none, none, none, none, none], [], x)
    else 
     if (13 : Int32) < a4 then rX1_other d (104, [some (.ref 0), some (.int a1), some (.int a2), some (.int a3), some (.int a4), some (.int a5), none, none, none, none, none, none], [], x)
     else mj_rL (kX1 d 125 [.float (FP.i2f (a4 - (11 : Int32)))] x) fun v2 x1 =>
      mj_rV (kX1 d 120 [.ref 0, .long v2] x1) fun x3 =>
      some (none, x3) := (mj_run_to (cd := cdX1) (rt := 0) (tab := tX1_other) (cal := kX1 d) zX1_other 125 (46, [some (.ref 0), some (.int a1), some (.int a2), some (.int a3), some (.int a4), some (.int a5), none, none, none, none, none, none], [], x)).trans rfl
set_option maxRecDepth 100000 in
set_option maxHeartbeats 4000000 in
theorem bX1_other_60 (d : Nat) (a1 : Int32) (a2 : Int32) (a3 : Int32) (a4 : Int32) (a5 : Int32) (x : mj_X) : rX1_other d (60, [some (.ref 0), some (.int a1), some (.int a2), some (.int a3), some (.int a4), some (.int a5), none, none, none, none, none, none], [], x) = mj_rV (kX1 d 119 [.ref 0, .long (a4 - (9 : Int32)).toInt64, .int (2 : Int32)] x) fun x1 =>
  some (none, x1) := (mj_run_to (cd := cdX1) (rt := 0) (tab := tX1_other) (cal := kX1 d) zX1_other 125 (60, [some (.ref 0), some (.int a1), some (.int a2), some (.int a3), some (.int a4), some (.int a5), none, none, none, none, none, none], [], x)).trans rfl
set_option maxRecDepth 100000 in
set_option maxHeartbeats 4000000 in
theorem bX1_other_104 (d : Nat) (a1 : Int32) (a2 : Int32) (a3 : Int32) (a4 : Int32) (a5 : Int32) (x : mj_X) : rX1_other d (104, [some (.ref 0), some (.int a1), some (.int a2), some (.int a3), some (.int a4), some (.int a5), none, none, none, none, none, none], [], x) = 
  if a4 = (14 : Int32) then rX1_other d (118, [some (.ref 0), some (.int a1), some (.int a2), some (.int a3), some (.int a4), some (.int a5), none, none, none, none, none, none], [], x)
  else 
   if a4 = (15 : Int32) then rX1_other d (118, [some (.ref 0), some (.int a1), some (.int a2), some (.int a3), some (.int a4), some (.int a5), none, none, none, none, none, none], [], x)
   else 
    if a4 = (16 : Int32) then mj_g (a3 + (1 : Int32)) 160000 (mj_rV (kX1 d 120 [.ref 0, .long (x.1 19 (a3 + (1 : Int32)).toNatClampNeg).toInt64] x) fun x1 =>
     some (none, (mj_wI x1 0 97 (a2 + (2 : Int32)))))
    else 
     if a4 = (17 : Int32) then mj_rI (kX1 d 116 [.ref 0, .int (a3 + (1 : Int32))] x) fun v3 x2 =>
      mj_rV (kX1 d 120 [.ref 0, .long v3.toInt16.toInt32.toInt64] x2) fun x4 =>
      some (none, (mj_wI x4 0 97 (a2 + (3 : Int32))))
     else 
      if a4 = (18 : Int32) then mj_rI (kX1 d 115 [.ref 0, .int (a3 + (1 : Int32))] x) fun v6 x5 =>
       mj_rV (kX1 d 135 [.ref 0, .int a1, .int v6] x5) fun x7 =>
       some (none, (mj_wI x7 0 97 (a2 + (2 : Int32))))
      else 
       if a4 = (19 : Int32) then rX1_other d (238, [some (.ref 0), some (.int a1), some (.int a2), some (.int a3), some (.int a4), some (.int a5), none, none, none, none, none, none], [], x)
       else 
        if a4 = (20 : Int32) then rX1_other d (238, [some (.ref 0), some (.int a1), some (.int a2), some (.int a3), some (.int a4), some (.int a5), none, none, none, none, none, none], [], x)
        else 
         if a4 < (46 : Int32) then rX1_other d (338, [some (.ref 0), some (.int a1), some (.int a2), some (.int a3), some (.int a4), some (.int a5), none, none, none, none, none, none], [], x)
         else 
          if (51 : Int32) < a4 then rX1_other d (338, [some (.ref 0), some (.int a1), some (.int a2), some (.int a3), some (.int a4), some (.int a5), none, none, none, none, none, none], [], x)
          else mj_rL (kX1 d 118 [.ref 0, .int (1 : Int32)] x) fun v9 x8 =>
           mj_rL (kX1 d 118 [.ref 0, .int (1 : Int32)] x8) fun v11 x10 =>
           mj_rI (kX1 d 137 [.ref 0, .long v11, .long v9] x10) fun v13 x12 =>
           
           if v13 = 0 then some (none, x12)
           else mj_rI (kX1 d 138 [.ref 0, .long v11, .long v9] x12) fun v15 x14 =>
            mj_g v15 20001 (
            if a4 = (47 : Int32) then mj_rV (kX1 d 119 [.ref 0, .long (x14.2 87 v15.toNatClampNeg), .int (2 : Int32)] x14) fun x16 =>
             some (none, x16)
            else 
             if a4 = (49 : Int32) then mj_rV (kX1 d 119 [.ref 0, .long (x14.2 87 v15.toNatClampNeg), .int (2 : Int32)] x14) fun x17 =>
              some (none, x17)
             else mj_rV (kX1 d 119 [.ref 0, .long (x14.2 87 v15.toNatClampNeg), .int (1 : Int32)] x14) fun x18 =>
              some (none, x18)) := (mj_run_to (cd := cdX1) (rt := 0) (tab := tX1_other) (cal := kX1 d) zX1_other 125 (104, [some (.ref 0), some (.int a1), some (.int a2), some (.int a3), some (.int a4), some (.int a5), none, none, none, none, none, none], [], x)).trans rfl
set_option maxRecDepth 100000 in
set_option maxHeartbeats 4000000 in
theorem bX1_other_118 (d : Nat) (a1 : Int32) (a2 : Int32) (a3 : Int32) (a4 : Int32) (a5 : Int32) (x : mj_X) : rX1_other d (118, [some (.ref 0), some (.int a1), some (.int a2), some (.int a3), some (.int a4), some (.int a5), none, none, none, none, none, none], [], x) = mj_rL (kX1 d 126 [.double (FP.i2d (a4 - (14 : Int32)))] x) fun v2 x1 =>
  mj_rV (kX1 d 119 [.ref 0, .long v2, .int (2 : Int32)] x1) fun x3 =>
  some (none, x3) := (mj_run_to (cd := cdX1) (rt := 0) (tab := tX1_other) (cal := kX1 d) zX1_other 125 (118, [some (.ref 0), some (.int a1), some (.int a2), some (.int a3), some (.int a4), some (.int a5), none, none, none, none, none, none], [], x)).trans rfl
set_option maxRecDepth 100000 in
set_option maxHeartbeats 4000000 in
theorem bX1_other_238 (d : Nat) (a1 : Int32) (a2 : Int32) (a3 : Int32) (a4 : Int32) (a5 : Int32) (x : mj_X) : rX1_other d (238, [some (.ref 0), some (.int a1), some (.int a2), some (.int a3), some (.int a4), some (.int a5), none, none, none, none, none, none], [], x) = mj_rI (kX1 d 116 [.ref 0, .int (a3 + (1 : Int32))] x) fun v2 x1 =>
  mj_rV (kX1 d 135 [.ref 0, .int a1, .int v2] x1) fun x3 =>
  some (none, (mj_wI x3 0 97 (a2 + (3 : Int32)))) := (mj_run_to (cd := cdX1) (rt := 0) (tab := tX1_other) (cal := kX1 d) zX1_other 125 (238, [some (.ref 0), some (.int a1), some (.int a2), some (.int a3), some (.int a4), some (.int a5), none, none, none, none, none, none], [], x)).trans rfl
set_option maxRecDepth 100000 in
set_option maxHeartbeats 4000000 in
theorem bX1_other_338 (d : Nat) (a1 : Int32) (a2 : Int32) (a3 : Int32) (a4 : Int32) (a5 : Int32) (x : mj_X) : rX1_other d (338, [some (.ref 0), some (.int a1), some (.int a2), some (.int a3), some (.int a4), some (.int a5), none, none, none, none, none, none], [], x) = 
  if a4 < (79 : Int32) then rX1_other d (435, [some (.ref 0), some (.int a1), some (.int a2), some (.int a3), some (.int a4), some (.int a5), none, none, none, none, none, none], [], x)
  else 
   if (84 : Int32) < a4 then rX1_other d (435, [some (.ref 0), some (.int a1), some (.int a2), some (.int a3), some (.int a4), some (.int a5), none, none, none, none, none, none], [], x)
   else 
    if a4 = (80 : Int32) then rX1_other d (372, [some (.ref 0), some (.int a1), some (.int a2), some (.int a3), some (.int a4), some (.int a5), none, none, none, none, none, none], [.int (2 : Int32), .ref 0], x)
    else 
     if a4 = (82 : Int32) then rX1_other d (372, [some (.ref 0), some (.int a1), some (.int a2), some (.int a3), some (.int a4), some (.int a5), none, none, none, none, none, none], [.int (2 : Int32), .ref 0], x)
     else rX1_other d (372, [some (.ref 0), some (.int a1), some (.int a2), some (.int a3), some (.int a4), some (.int a5), none, none, none, none, none, none], [.int (1 : Int32), .ref 0], x) := (mj_run_to (cd := cdX1) (rt := 0) (tab := tX1_other) (cal := kX1 d) zX1_other 125 (338, [some (.ref 0), some (.int a1), some (.int a2), some (.int a3), some (.int a4), some (.int a5), none, none, none, none, none, none], [], x)).trans rfl
set_option maxRecDepth 100000 in
set_option maxHeartbeats 4000000 in
theorem bX1_other_372 (d : Nat) (a1 : Int32) (a2 : Int32) (a3 : Int32) (a4 : Int32) (a5 : Int32) (s1 : Int32) (x : mj_X) : rX1_other d (372, [some (.ref 0), some (.int a1), some (.int a2), some (.int a3), some (.int a4), some (.int a5), none, none, none, none, none, none], [.int s1, .ref 0], x) = mj_rL (kX1 d 118 [.ref 0, .int s1] x) fun v2 x1 =>
  mj_rL (kX1 d 118 [.ref 0, .int (1 : Int32)] x1) fun v4 x3 =>
  mj_rL (kX1 d 118 [.ref 0, .int (1 : Int32)] x3) fun v6 x5 =>
  mj_rI (kX1 d 137 [.ref 0, .long v6, .long v4] x5) fun v8 x7 =>
  
  if v8 = 0 then some (none, x7)
  else mj_rI (kX1 d 138 [.ref 0, .long v6, .long v4] x7) fun v10 x9 =>
   
   if a4 = (84 : Int32) then mj_g v10 20001 (some (none, (mj_wL x9 87 v10.toNatClampNeg v2.toInt32.toInt8.toInt32.toInt64)))
   else mj_g v10 20001 (some (none, (mj_wL x9 87 v10.toNatClampNeg v2))) := (mj_run_to (cd := cdX1) (rt := 0) (tab := tX1_other) (cal := kX1 d) zX1_other 125 (372, [some (.ref 0), some (.int a1), some (.int a2), some (.int a3), some (.int a4), some (.int a5), none, none, none, none, none, none], [.int s1, .ref 0], x)).trans rfl
set_option maxRecDepth 100000 in
set_option maxHeartbeats 4000000 in
theorem bX1_other_435 (d : Nat) (a1 : Int32) (a2 : Int32) (a3 : Int32) (a4 : Int32) (a5 : Int32) (x : mj_X) : rX1_other d (435, [some (.ref 0), some (.int a1), some (.int a2), some (.int a3), some (.int a4), some (.int a5), none, none, none, none, none, none], [], x) = 
  if a4 = (87 : Int32) then rX1_other d (449, [some (.ref 0), some (.int a1), some (.int a2), some (.int a3), some (.int a4), some (.int a5), none, none, none, none, none, none], [], x)
  else 
   if a4 = (88 : Int32) then rX1_other d (449, [some (.ref 0), some (.int a1), some (.int a2), some (.int a3), some (.int a4), some (.int a5), none, none, none, none, none, none], [], x)
   else 
    if a4 < (89 : Int32) then rX1_other d (489, [some (.ref 0), some (.int a1), some (.int a2), some (.int a3), some (.int a4), some (.int a5), none, none, none, none, none, none], [], x)
    else 
     if (94 : Int32) < a4 then rX1_other d (489, [some (.ref 0), some (.int a1), some (.int a2), some (.int a3), some (.int a4), some (.int a5), none, none, none, none, none, none], [], x)
     else mj_rV (kX1 d 139 [.ref 0, .int a4] x) fun x1 =>
      some (none, x1) := (mj_run_to (cd := cdX1) (rt := 0) (tab := tX1_other) (cal := kX1 d) zX1_other 125 (435, [some (.ref 0), some (.int a1), some (.int a2), some (.int a3), some (.int a4), some (.int a5), none, none, none, none, none, none], [], x)).trans rfl
set_option maxRecDepth 100000 in
set_option maxHeartbeats 4000000 in
theorem bX1_other_449 (d : Nat) (a1 : Int32) (a2 : Int32) (a3 : Int32) (a4 : Int32) (a5 : Int32) (x : mj_X) : rX1_other d (449, [some (.ref 0), some (.int a1), some (.int a2), some (.int a3), some (.int a4), some (.int a5), none, none, none, none, none, none], [], x) = some (none, (mj_wI x 0 98 ((x.1 0 98) - (a4 - (86 : Int32))))) := (mj_run_to (cd := cdX1) (rt := 0) (tab := tX1_other) (cal := kX1 d) zX1_other 125 (449, [some (.ref 0), some (.int a1), some (.int a2), some (.int a3), some (.int a4), some (.int a5), none, none, none, none, none, none], [], x)).trans rfl
set_option maxRecDepth 100000 in
set_option maxHeartbeats 4000000 in
theorem bX1_other_489 (d : Nat) (a1 : Int32) (a2 : Int32) (a3 : Int32) (a4 : Int32) (a5 : Int32) (x : mj_X) : rX1_other d (489, [some (.ref 0), some (.int a1), some (.int a2), some (.int a3), some (.int a4), some (.int a5), none, none, none, none, none, none], [], x) = 
  if a4 = (132 : Int32) then mj_rI (kX1 d 115 [.ref 0, .int (a3 + (1 : Int32))] x) fun v2 x1 =>
   mj_rI (kX1 d 115 [.ref 0, .int (a3 + (1 : Int32))] x1) fun v4 x3 =>
   mj_g (a5 + v4) 132000 (mj_g (a3 + (2 : Int32)) 160000 (mj_g (a5 + v2) 132000 (some (none, (mj_wI (mj_wL x3 93 (a5 + v2).toNatClampNeg ((x3.2 93 (a5 + v4).toNatClampNeg).toInt32 + (x3.1 19 (a3 + (2 : Int32)).toNatClampNeg)).toInt64) 0 97 (a2 + (3 : Int32)))))))
  else 
   if a4 = (167 : Int32) then mj_rI (kX1 d 116 [.ref 0, .int (a3 + (1 : Int32))] x) fun v6 x5 =>
    mj_rV (kX1 d 133 [.ref 0, .int a2, .int v6.toInt16.toInt32] x5) fun x7 =>
    some (none, x7)
   else 
    if a4 = (200 : Int32) then mj_rI (kX1 d 140 [.ref 0, .int (a3 + (1 : Int32))] x) fun v9 x8 =>
     mj_rV (kX1 d 133 [.ref 0, .int a2, .int v9] x8) fun x10 =>
     some (none, x10)
    else 
     if a4 = (170 : Int32) then rX1_other d (611, [some (.ref 0), some (.int a1), some (.int a2), some (.int a3), some (.int a4), some (.int a5), none, none, none, none, none, none], [], x)
     else 
      if a4 = (171 : Int32) then rX1_other d (611, [some (.ref 0), some (.int a1), some (.int a2), some (.int a3), some (.int a4), some (.int a5), none, none, none, none, none, none], [], x)
      else 
       if a4 < (172 : Int32) then rX1_other d (659, [some (.ref 0), some (.int a1), some (.int a2), some (.int a3), some (.int a4), some (.int a5), none, none, none, none, none, none], [], x)
       else 
        if (177 : Int32) < a4 then rX1_other d (659, [some (.ref 0), some (.int a1), some (.int a2), some (.int a3), some (.int a4), some (.int a5), none, none, none, none, none, none], [], x)
        else mj_rV (kX1 d 142 [.ref 0, .int a4] x) fun x11 =>
         some (none, x11) := (mj_run_to (cd := cdX1) (rt := 0) (tab := tX1_other) (cal := kX1 d) zX1_other 125 (489, [some (.ref 0), some (.int a1), some (.int a2), some (.int a3), some (.int a4), some (.int a5), none, none, none, none, none, none], [], x)).trans rfl
set_option maxRecDepth 100000 in
set_option maxHeartbeats 4000000 in
theorem bX1_other_611 (d : Nat) (a1 : Int32) (a2 : Int32) (a3 : Int32) (a4 : Int32) (a5 : Int32) (x : mj_X) : rX1_other d (611, [some (.ref 0), some (.int a1), some (.int a2), some (.int a3), some (.int a4), some (.int a5), none, none, none, none, none, none], [], x) = mj_rL (kX1 d 118 [.ref 0, .int (1 : Int32)] x) fun v2 x1 =>
  mj_rI (kX1 d 141 [.ref 0, .int a3, .int a2, .int a4, .int v2.toInt32] x1) fun v4 x3 =>
  some (none, (mj_wI x3 0 97 (a2 + v4))) := (mj_run_to (cd := cdX1) (rt := 0) (tab := tX1_other) (cal := kX1 d) zX1_other 125 (611, [some (.ref 0), some (.int a1), some (.int a2), some (.int a3), some (.int a4), some (.int a5), none, none, none, none, none, none], [], x)).trans rfl
set_option maxRecDepth 100000 in
set_option maxHeartbeats 4000000 in
theorem bX1_other_659 (d : Nat) (a1 : Int32) (a2 : Int32) (a3 : Int32) (a4 : Int32) (a5 : Int32) (x : mj_X) : rX1_other d (659, [some (.ref 0), some (.int a1), some (.int a2), some (.int a3), some (.int a4), some (.int a5), none, none, none, none, none, none], [], x) = 
  if a4 = (184 : Int32) then mj_rI (kX1 d 116 [.ref 0, .int (a3 + (1 : Int32))] (mj_wI x 0 97 (a2 + (3 : Int32)))) fun v2 x1 =>
   mj_rV (kX1 d 143 [.ref 0, .int a1, .int a2, .int v2] x1) fun x3 =>
   some (none, x3)
  else 
   if a4 = (188 : Int32) then mj_rI (kX1 d 115 [.ref 0, .int (a3 + (1 : Int32))] x) fun v5 x4 =>
    
    if v5 = (8 : Int32) then rX1_other d (750, [some (.ref 0), some (.int a1), some (.int a2), some (.int a3), some (.int a4), some (.int a5), none, none, none, none, none, none], [.int (5 : Int32)], x4)
    else mj_rI (kX1 d 115 [.ref 0, .int (a3 + (1 : Int32))] x4) fun v7 x6 =>
     
     if v7 = (10 : Int32) then rX1_other d (750, [some (.ref 0), some (.int a1), some (.int a2), some (.int a3), some (.int a4), some (.int a5), none, none, none, none, none, none], [.int (6 : Int32)], x6)
     else mj_rI (kX1 d 115 [.ref 0, .int (a3 + (1 : Int32))] x6) fun v9 x8 =>
      
      if v9 = (11 : Int32) then rX1_other d (750, [some (.ref 0), some (.int a1), some (.int a2), some (.int a3), some (.int a4), some (.int a5), none, none, none, none, none, none], [.int (7 : Int32)], x8)
      else rX1_other d (750, [some (.ref 0), some (.int a1), some (.int a2), some (.int a3), some (.int a4), some (.int a5), none, none, none, none, none, none], [.int (8 : Int32)], x8)
   else 
    if a4 = (190 : Int32) then mj_rL (kX1 d 118 [.ref 0, .int (1 : Int32)] x) fun v11 x10 =>
     
     if (lg_cmp v11 (0 : Int64)) = 0 then some (none, (mj_wI x10 0 79 (2 : Int32)))
     else mj_g (v11.toInt32 - (1 : Int32)) 100020 (mj_rV (kX1 d 120 [.ref 0, .long (x10.1 85 (v11.toInt32 - (1 : Int32)).toNatClampNeg).toInt64] x10) fun x12 =>
      some (none, x12))
    else 
     if a4 = (191 : Int32) then mj_rL (kX1 d 118 [.ref 0, .int (1 : Int32)] x) fun v14 x13 =>
      some (none, (mj_wI (mj_wI x13 0 79 ((v14 >>> ((32 : Int32).toInt64 &&& 63)) &&& (15 : Int64)).toInt32) 0 80 v14.toInt32))
     else 
      if a4 = (194 : Int32) then rX1_other d (880, [some (.ref 0), some (.int a1), some (.int a2), some (.int a3), some (.int a4), some (.int a5), none, none, none, none, none, none], [], x)
      else 
       if a4 = (195 : Int32) then rX1_other d (880, [some (.ref 0), some (.int a1), some (.int a2), some (.int a3), some (.int a4), some (.int a5), none, none, none, none, none, none], [], x)
       else some (none, x) := (mj_run_to (cd := cdX1) (rt := 0) (tab := tX1_other) (cal := kX1 d) zX1_other 125 (659, [some (.ref 0), some (.int a1), some (.int a2), some (.int a3), some (.int a4), some (.int a5), none, none, none, none, none, none], [], x)).trans rfl
set_option maxRecDepth 100000 in
set_option maxHeartbeats 4000000 in
theorem bX1_other_750 (d : Nat) (a1 : Int32) (a2 : Int32) (a3 : Int32) (a4 : Int32) (a5 : Int32) (s0 : Int32) (x : mj_X) : rX1_other d (750, [some (.ref 0), some (.int a1), some (.int a2), some (.int a3), some (.int a4), some (.int a5), none, none, none, none, none, none], [.int s0], x) = mj_rL (kX1 d 118 [.ref 0, .int (1 : Int32)] x) fun v2 x1 =>
  mj_rL (kX1 d 111 [.ref 0, .int s0, .long v2] x1) fun v4 x3 =>
  mj_rV (kX1 d 120 [.ref 0, .long v4] x3) fun x5 =>
  some (none, (mj_wI x5 0 97 (a2 + (2 : Int32)))) := (mj_run_to (cd := cdX1) (rt := 0) (tab := tX1_other) (cal := kX1 d) zX1_other 125 (750, [some (.ref 0), some (.int a1), some (.int a2), some (.int a3), some (.int a4), some (.int a5), none, none, none, none, none, none], [.int s0], x)).trans rfl
set_option maxRecDepth 100000 in
set_option maxHeartbeats 4000000 in
theorem bX1_other_880 (d : Nat) (a1 : Int32) (a2 : Int32) (a3 : Int32) (a4 : Int32) (a5 : Int32) (x : mj_X) : rX1_other d (880, [some (.ref 0), some (.int a1), some (.int a2), some (.int a3), some (.int a4), some (.int a5), none, none, none, none, none, none], [], x) = mj_rL (kX1 d 118 [.ref 0, .int (1 : Int32)] x) fun v2 x1 =>
  
  if (lg_cmp v2 (0 : Int64)) = 0 then some (none, (mj_wI x1 0 79 (2 : Int32)))
  else some (none, x1) := (mj_run_to (cd := cdX1) (rt := 0) (tab := tX1_other) (cal := kX1 d) zX1_other 125 (880, [some (.ref 0), some (.int a1), some (.int a2), some (.int a3), some (.int a4), some (.int a5), none, none, none, none, none, none], [], x)).trans rfl
noncomputable abbrev rX1_constant (d : Nat) : mj_S → mj_R := mj_run cdX1 0 tX1_constant (kX1 d)
def zX1_constant (p : Nat) : Bool := bif Nat.beq p 28 then true else false
set_option maxRecDepth 100000 in
set_option maxHeartbeats 4000000 in
theorem eX1_constant (d : Nat) (a1 : Int32) (a2 : Int32) (x : mj_X) : kX1 (d + 1) 135 [.ref 0, .int a1, .int a2] x = mj_rL (kX1 d 136 [.ref 0, .int a1, .int a2] x) fun v2 x1 =>
  mj_g v2.toInt32 60000 (
  if (x1.1 21 v2.toInt32.toNatClampNeg) = (2 : Int32) then rX1_constant d (28, [some (.ref 0), some (.int a1), some (.int a2), some (.int v2.toInt32), some (.int (x1.1 21 v2.toInt32.toNatClampNeg))], [], x1)
  else 
   if (x1.1 21 v2.toInt32.toNatClampNeg) = (4 : Int32) then rX1_constant d (28, [some (.ref 0), some (.int a1), some (.int a2), some (.int v2.toInt32), some (.int (x1.1 21 v2.toInt32.toNatClampNeg))], [], x1)
   else mj_g v2.toInt32 60000 (mj_rV (kX1 d 120 [.ref 0, .long (x1.1 22 v2.toInt32.toNatClampNeg).toInt64] x1) fun x3 =>
    some (none, x3))) := (mj_run_to (cd := cdX1) (rt := 0) (tab := tX1_constant) (cal := kX1 d) zX1_constant 29 (0, [some (.ref 0), some (.int a1), some (.int a2), none, none], [], x)).trans rfl
set_option maxRecDepth 100000 in
set_option maxHeartbeats 4000000 in
theorem bX1_constant_28 (d : Nat) (a1 : Int32) (a2 : Int32) (a3 : Int32) (a4 : Int32) (x : mj_X) : rX1_constant d (28, [some (.ref 0), some (.int a1), some (.int a2), some (.int a3), some (.int a4)], [], x) = mj_g a3 60000 (mj_g a3 60000 (mj_rV (kX1 d 119 [.ref 0, .long (((x.1 23 a3.toNatClampNeg).toInt64 <<< ((32 : Int32).toInt64 &&& 63)) ||| ((x.1 22 a3.toNatClampNeg).toInt64 &&& (4294967295 : Int64))), .int (2 : Int32)] x) fun x1 =>
  some (none, x1))) := (mj_run_to (cd := cdX1) (rt := 0) (tab := tX1_constant) (cal := kX1 d) zX1_constant 29 (28, [some (.ref 0), some (.int a1), some (.int a2), some (.int a3), some (.int a4)], [], x)).trans rfl
noncomputable abbrev rX1_entry (d : Nat) : mj_S → mj_R := mj_run cdX1 2 tX1_entry (kX1 d)
def zX1_entry (p : Nat) : Bool := bif Nat.beq p 7 then true else false
set_option maxRecDepth 100000 in
set_option maxHeartbeats 4000000 in
theorem eX1_entry (d : Nat) (a1 : Int32) (a2 : Int32) (x : mj_X) : kX1 (d + 1) 136 [.ref 0, .int a1, .int a2] x = mj_g a1 41 (rX1_entry d (7, [some (.ref 0), some (.int a1), some (.int a2), some (.int (x.1 16 a1.toNatClampNeg))], [], x)) := (mj_run_to (cd := cdX1) (rt := 2) (tab := tX1_entry) (cal := kX1 d) zX1_entry 24 (0, [some (.ref 0), some (.int a1), some (.int a2), none], [], x)).trans rfl
set_option maxRecDepth 100000 in
set_option maxHeartbeats 4000000 in
theorem bX1_entry_7 (d : Nat) (a1 : Int32) (a2 : Int32) (a3 : Int32) (x : mj_X) : rX1_entry d (7, [some (.ref 0), some (.int a1), some (.int a2), some (.int a3)], [], x) = mj_g (a1 + (1 : Int32)) 41 (
  if (x.1 16 (a1 + (1 : Int32)).toNatClampNeg) ≤ a3 then some (some (.long (-1 : Int64)), x)
  else mj_g a3 60000 (
   if (x.1 20 a3.toNatClampNeg) = a2 then some (some (.long a3.toInt64), x)
   else rX1_entry d (7, [some (.ref 0), some (.int a1), some (.int a2), some (.int (a3 + (1 : Int32)))], [], x))) := (mj_run_to (cd := cdX1) (rt := 2) (tab := tX1_entry) (cal := kX1 d) zX1_entry 24 (7, [some (.ref 0), some (.int a1), some (.int a2), some (.int a3)], [], x)).trans rfl
noncomputable abbrev rX1_doubled (d : Nat) : mj_S → mj_R := mj_run cdX1 0 tX1_doubled (kX1 d)
def zX1_doubled (p : Nat) : Bool := bif Nat.blt p 33 then (bif Nat.beq p 11 then true else false) else (bif Nat.blt p 80 then (bif Nat.beq p 33 then true else false) else (bif Nat.beq p 80 then true else false))
set_option maxRecDepth 100000 in
set_option maxHeartbeats 4000000 in
theorem eX1_doubled (d : Nat) (a1 : Int32) (x : mj_X) : kX1 (d + 1) 139 [.ref 0, .int a1] x = 
  if a1 < (92 : Int32) then rX1_doubled d (11, [some (.ref 0), some (.int a1), none, none, none], [.int (1 : Int32)], x)
  else rX1_doubled d (11, [some (.ref 0), some (.int a1), none, none, none], [.int (2 : Int32)], x) := (mj_run_to (cd := cdX1) (rt := 0) (tab := tX1_doubled) (cal := kX1 d) zX1_doubled 33 (0, [some (.ref 0), some (.int a1), none, none, none], [], x)).trans rfl
set_option maxRecDepth 100000 in
set_option maxHeartbeats 4000000 in
theorem bX1_doubled_11 (d : Nat) (a1 : Int32) (s0 : Int32) (x : mj_X) : rX1_doubled d (11, [some (.ref 0), some (.int a1), none, none, none], [.int s0], x) = 
  if a1 = (91 : Int32) then rX1_doubled d (33, [some (.ref 0), some (.int a1), some (.int s0), some (.int (2 : Int32)), some (.int (0 : Int32))], [], x)
  else 
   if a1 = (94 : Int32) then rX1_doubled d (33, [some (.ref 0), some (.int a1), some (.int s0), some (.int (2 : Int32)), some (.int (0 : Int32))], [], x)
   else rX1_doubled d (33, [some (.ref 0), some (.int a1), some (.int s0), some (.int (0 : Int32)), some (.int (0 : Int32))], [], x) := (mj_run_to (cd := cdX1) (rt := 0) (tab := tX1_doubled) (cal := kX1 d) zX1_doubled 33 (11, [some (.ref 0), some (.int a1), none, none, none], [.int s0], x)).trans rfl
set_option maxRecDepth 100000 in
set_option maxHeartbeats 4000000 in
theorem bX1_doubled_33 (d : Nat) (a1 : Int32) (a2 : Int32) (a3 : Int32) (a4 : Int32) (x : mj_X) : rX1_doubled d (33, [some (.ref 0), some (.int a1), some (.int a2), some (.int a3), some (.int a4)], [], x) = 
  if (a2 + a3) ≤ a4 then rX1_doubled d (80, [some (.ref 0), some (.int a1), some (.int a2), some (.int a3), some (.int (0 : Int32))], [], x)
  else mj_g (((x.1 0 98) - (1 : Int32)) - a4) 132000 (mj_g ((((x.1 0 98) + a2) - (1 : Int32)) - a4) 132000 (rX1_doubled d (33, [some (.ref 0), some (.int a1), some (.int a2), some (.int a3), some (.int (a4 + (1 : Int32)))], [], (mj_wL x 93 ((((x.1 0 98) + a2) - (1 : Int32)) - a4).toNatClampNeg (x.2 93 (((x.1 0 98) - (1 : Int32)) - a4).toNatClampNeg))))) := (mj_run_to (cd := cdX1) (rt := 0) (tab := tX1_doubled) (cal := kX1 d) zX1_doubled 33 (33, [some (.ref 0), some (.int a1), some (.int a2), some (.int a3), some (.int a4)], [], x)).trans rfl
set_option maxRecDepth 100000 in
set_option maxHeartbeats 4000000 in
theorem bX1_doubled_80 (d : Nat) (a1 : Int32) (a2 : Int32) (a3 : Int32) (a4 : Int32) (x : mj_X) : rX1_doubled d (80, [some (.ref 0), some (.int a1), some (.int a2), some (.int a3), some (.int a4)], [], x) = 
  if a2 ≤ a4 then some (none, (mj_wI x 0 98 ((x.1 0 98) + a2)))
  else mj_g ((x.1 0 98) + a4) 132000 (mj_g ((((x.1 0 98) - a2) - a3) + a4) 132000 (rX1_doubled d (80, [some (.ref 0), some (.int a1), some (.int a2), some (.int a3), some (.int (a4 + (1 : Int32)))], [], (mj_wL x 93 ((((x.1 0 98) - a2) - a3) + a4).toNatClampNeg (x.2 93 ((x.1 0 98) + a4).toNatClampNeg))))) := (mj_run_to (cd := cdX1) (rt := 0) (tab := tX1_doubled) (cal := kX1 d) zX1_doubled 33 (80, [some (.ref 0), some (.int a1), some (.int a2), some (.int a3), some (.int a4)], [], x)).trans rfl
noncomputable abbrev rX1_s4 (d : Nat) : mj_S → mj_R := mj_run cdX1 1 tX1_s4 (kX1 d)
def zX1_s4 (p : Nat) : Bool := false
set_option maxRecDepth 100000 in
set_option maxHeartbeats 4000000 in
theorem eX1_s4 (d : Nat) (a1 : Int32) (x : mj_X) : kX1 (d + 1) 140 [.ref 0, .int a1] x = mj_rI (kX1 d 116 [.ref 0, .int a1] x) fun v2 x1 =>
  mj_rI (kX1 d 116 [.ref 0, .int (a1 + (2 : Int32))] x1) fun v4 x3 =>
  some (some (.int ((v2 <<< ((16 : Int32) &&& 31)) ||| v4)), x3) := (mj_run_to (cd := cdX1) (rt := 1) (tab := tX1_s4) (cal := kX1 d) zX1_s4 14 (0, [some (.ref 0), some (.int a1)], [], x)).trans rfl
noncomputable abbrev rX1_table_2 (d : Nat) : mj_S → mj_R := mj_run cdX1 1 tX1_table_2 (kX1 d)
def zX1_table_2 (p : Nat) : Bool := bif Nat.blt p 49 then (bif Nat.beq p 37 then true else false) else (bif Nat.blt p 105 then (bif Nat.beq p 49 then true else false) else (bif Nat.beq p 105 then true else false))
set_option maxRecDepth 100000 in
set_option maxHeartbeats 4000000 in
theorem eX1_table_2 (d : Nat) (a1 : Int32) (a2 : Int32) (a3 : Int32) (a4 : Int32) (x : mj_X) : kX1 (d + 1) 141 [.ref 0, .int a1, .int a2, .int a3, .int a4] x = mj_rI (kX1 d 140 [.ref 0, .int ((a1 + (1 : Int32)) + ((3 : Int32) - (a2 - a2 / (4 : Int32) * (4 : Int32))))] x) fun v2 x1 =>
  
  if a3 = (170 : Int32) then mj_rI (kX1 d 140 [.ref 0, .int (((a1 + (1 : Int32)) + ((3 : Int32) - (a2 - a2 / (4 : Int32) * (4 : Int32)))) + (4 : Int32))] x1) fun v4 x3 =>
   rX1_table_2 d (37, [some (.ref 0), some (.int a1), some (.int a2), some (.int a3), some (.int a4), some (.int ((a1 + (1 : Int32)) + ((3 : Int32) - (a2 - a2 / (4 : Int32) * (4 : Int32))))), some (.int v2), some (.long v4.toInt64), none, none, none], [], x3)
  else mj_rI (kX1 d 140 [.ref 0, .int (((a1 + (1 : Int32)) + ((3 : Int32) - (a2 - a2 / (4 : Int32) * (4 : Int32)))) + (4 : Int32))] x1) fun v6 x5 =>
   rX1_table_2 d (105, [some (.ref 0), some (.int a1), some (.int a2), some (.int a3), some (.int a4), some (.int ((a1 + (1 : Int32)) + ((3 : Int32) - (a2 - a2 / (4 : Int32) * (4 : Int32))))), some (.int v2), some (.int v6), some (.int (0 : Int32)), none, none], [], x5) := (mj_run_to (cd := cdX1) (rt := 1) (tab := tX1_table_2) (cal := kX1 d) zX1_table_2 36 (0, [some (.ref 0), some (.int a1), some (.int a2), some (.int a3), some (.int a4), none, none, none, none, none, none], [], x)).trans rfl
set_option maxRecDepth 100000 in
set_option maxHeartbeats 4000000 in
theorem bX1_table_2_37 (d : Nat) (a1 : Int32) (a2 : Int32) (a3 : Int32) (a4 : Int32) (a5 : Int32) (a6 : Int32) (a7 : Int64) (x : mj_X) : rX1_table_2 d (37, [some (.ref 0), some (.int a1), some (.int a2), some (.int a3), some (.int a4), some (.int a5), some (.int a6), some (.long a7), none, none, none], [], x) = mj_rI (kX1 d 140 [.ref 0, .int (a5 + (8 : Int32))] x) fun v2 x1 =>
  rX1_table_2 d (49, [some (.ref 0), some (.int a1), some (.int a2), some (.int a3), some (.int a4), some (.int a5), some (.int a6), some (.long a7), none, some (.long v2.toInt64), none], [], x1) := (mj_run_to (cd := cdX1) (rt := 1) (tab := tX1_table_2) (cal := kX1 d) zX1_table_2 36 (37, [some (.ref 0), some (.int a1), some (.int a2), some (.int a3), some (.int a4), some (.int a5), some (.int a6), some (.long a7), none, none, none], [], x)).trans rfl
set_option maxRecDepth 100000 in
set_option maxHeartbeats 4000000 in
theorem bX1_table_2_49 (d : Nat) (a1 : Int32) (a2 : Int32) (a3 : Int32) (a4 : Int32) (a5 : Int32) (a6 : Int32) (a7 : Int64) (a9 : Int64) (x : mj_X) : rX1_table_2 d (49, [some (.ref 0), some (.int a1), some (.int a2), some (.int a3), some (.int a4), some (.int a5), some (.int a6), some (.long a7), none, some (.long a9), none], [], x) = 
  if (lg_cmp a4.toInt64 a7) < 0 then some (some (.int a6), x)
  else 
   if 0 < (lg_cmp a4.toInt64 a9) then some (some (.int a6), x)
   else mj_rI (kX1 d 140 [.ref 0, .int ((a5 + (12 : Int32)) + ((4 : Int32) * (a4.toInt64 - a7).toInt32))] x) fun v2 x1 =>
    some (some (.int v2), x1) := (mj_run_to (cd := cdX1) (rt := 1) (tab := tX1_table_2) (cal := kX1 d) zX1_table_2 36 (49, [some (.ref 0), some (.int a1), some (.int a2), some (.int a3), some (.int a4), some (.int a5), some (.int a6), some (.long a7), none, some (.long a9), none], [], x)).trans rfl
set_option maxRecDepth 100000 in
set_option maxHeartbeats 4000000 in
theorem bX1_table_2_105 (d : Nat) (a1 : Int32) (a2 : Int32) (a3 : Int32) (a4 : Int32) (a5 : Int32) (a6 : Int32) (a7 : Int32) (a8 : Int32) (x : mj_X) : rX1_table_2 d (105, [some (.ref 0), some (.int a1), some (.int a2), some (.int a3), some (.int a4), some (.int a5), some (.int a6), some (.int a7), some (.int a8), none, none], [], x) = 
  if a7 ≤ a8 then some (some (.int a6), x)
  else mj_rI (kX1 d 140 [.ref 0, .int ((a5 + (8 : Int32)) + ((8 : Int32) * a8))] x) fun v2 x1 =>
   
   if v2 = a4 then mj_rI (kX1 d 140 [.ref 0, .int ((a5 + (12 : Int32)) + ((8 : Int32) * a8))] x1) fun v4 x3 =>
    some (some (.int v4), x3)
   else rX1_table_2 d (105, [some (.ref 0), some (.int a1), some (.int a2), some (.int a3), some (.int a4), some (.int a5), some (.int a6), some (.int a7), some (.int (a8 + (1 : Int32))), none, none], [], x1) := (mj_run_to (cd := cdX1) (rt := 1) (tab := tX1_table_2) (cal := kX1 d) zX1_table_2 36 (105, [some (.ref 0), some (.int a1), some (.int a2), some (.int a3), some (.int a4), some (.int a5), some (.int a6), some (.int a7), some (.int a8), none, none], [], x)).trans rfl
noncomputable abbrev rX1_gives (d : Nat) : mj_S → mj_R := mj_run cdX1 0 tX1_gives (kX1 d)
def zX1_gives (p : Nat) : Bool := bif Nat.blt p 44 then (bif Nat.beq p 30 then true else false) else (bif Nat.beq p 44 then true else false)
set_option maxRecDepth 100000 in
set_option maxHeartbeats 4000000 in
theorem eX1_gives (d : Nat) (a1 : Int32) (x : mj_X) : kX1 (d + 1) 142 [.ref 0, .int a1] x = 
  if a1 = (177 : Int32) then rX1_gives d (30, [some (.ref 0), some (.int a1), none, none, none], [.int (0 : Int32)], x)
  else 
   if a1 = (173 : Int32) then rX1_gives d (30, [some (.ref 0), some (.int a1), none, none, none], [.int (2 : Int32)], x)
   else 
    if a1 = (175 : Int32) then rX1_gives d (30, [some (.ref 0), some (.int a1), none, none, none], [.int (2 : Int32)], x)
    else rX1_gives d (30, [some (.ref 0), some (.int a1), none, none, none], [.int (1 : Int32)], x) := (mj_run_to (cd := cdX1) (rt := 0) (tab := tX1_gives) (cal := kX1 d) zX1_gives 44 (0, [some (.ref 0), some (.int a1), none, none, none], [], x)).trans rfl
set_option maxRecDepth 100000 in
set_option maxHeartbeats 4000000 in
theorem bX1_gives_30 (d : Nat) (a1 : Int32) (s0 : Int32) (x : mj_X) : rX1_gives d (30, [some (.ref 0), some (.int a1), none, none, none], [.int s0], x) = 
  if s0 ≤ 0 then rX1_gives d (44, [some (.ref 0), some (.int a1), some (.int s0), none, none], [.long (0 : Int64)], x)
  else mj_rL (kX1 d 118 [.ref 0, .int s0] x) fun v2 x1 =>
   rX1_gives d (44, [some (.ref 0), some (.int a1), some (.int s0), none, none], [.long v2], x1) := (mj_run_to (cd := cdX1) (rt := 0) (tab := tX1_gives) (cal := kX1 d) zX1_gives 44 (30, [some (.ref 0), some (.int a1), none, none, none], [.int s0], x)).trans rfl
set_option maxRecDepth 100000 in
set_option maxHeartbeats 4000000 in
theorem bX1_gives_44 (d : Nat) (a1 : Int32) (a2 : Int32) (s0 : Int64) (x : mj_X) : rX1_gives d (44, [some (.ref 0), some (.int a1), some (.int a2), none, none], [.long s0], x) = 
  if ((x.1 0 96) - (1 : Int32)) = 0 then some (none, (mj_wL (mj_wI x 0 96 ((x.1 0 96) - (1 : Int32))) 0 88 s0))
  else mj_g (((x.1 0 96) - (1 : Int32)) - (1 : Int32)) 11 (mj_g (((x.1 0 96) - (1 : Int32)) - (1 : Int32)) 11 (
   if a2 ≤ 0 then some (none, (mj_wI (mj_wI (mj_wI x 0 96 ((x.1 0 96) - (1 : Int32))) 0 98 (x.1 96 (((x.1 0 96) - (1 : Int32)) - (1 : Int32)).toNatClampNeg)) 0 97 ((x.1 95 (((x.1 0 96) - (1 : Int32)) - (1 : Int32)).toNatClampNeg) + (3 : Int32))))
   else mj_rV (kX1 d 119 [.ref 0, .long s0, .int a2] (mj_wI (mj_wI (mj_wI x 0 96 ((x.1 0 96) - (1 : Int32))) 0 98 (x.1 96 (((x.1 0 96) - (1 : Int32)) - (1 : Int32)).toNatClampNeg)) 0 97 ((x.1 95 (((x.1 0 96) - (1 : Int32)) - (1 : Int32)).toNatClampNeg) + (3 : Int32)))) fun x1 =>
    some (none, x1))) := (mj_run_to (cd := cdX1) (rt := 0) (tab := tX1_gives) (cal := kX1 d) zX1_gives 44 (44, [some (.ref 0), some (.int a1), some (.int a2), none, none], [.long s0], x)).trans rfl
noncomputable abbrev rX1_invokes (d : Nat) : mj_S → mj_R := mj_run cdX1 0 tX1_invokes (kX1 d)
def zX1_invokes (p : Nat) : Bool := bif Nat.blt p 214 then (bif Nat.beq p 108 then true else false) else (bif Nat.beq p 214 then true else false)
set_option maxRecDepth 100000 in
set_option maxHeartbeats 4000000 in
theorem eX1_invokes (d : Nat) (a1 : Int32) (a2 : Int32) (a3 : Int32) (x : mj_X) : kX1 (d + 1) 143 [.ref 0, .int a1, .int a2, .int a3] x = mj_rL (kX1 d 136 [.ref 0, .int a1, .int a3] x) fun v2 x1 =>
  mj_g v2.toInt32 60000 (
  if (x1.1 21 v2.toInt32.toNatClampNeg) = (71 : Int32) then mj_rL (kX1 d 118 [.ref 0, .int (1 : Int32)] x1) fun v4 x3 =>
   mj_rV (kX1 d 120 [.ref 0, .long ((4611686048492158976 : Int64) ||| (v4 &&& (4294967295 : Int64)))] x3) fun x5 =>
   some (none, x5)
  else mj_g v2.toInt32 60000 (
   if (x1.1 21 v2.toInt32.toNatClampNeg) = (72 : Int32) then mj_rL (kX1 d 118 [.ref 0, .int (1 : Int32)] x1) fun v7 x6 =>
    
    if (lg_cmp ((v7 >>> ((32 : Int32).toInt64 &&& 63)) &&& (15 : Int64)) (7 : Int64)) = 0 then mj_rV (kX1 d 120 [.ref 0, .long v7.toInt32.toInt64] x6) fun x8 =>
     some (none, x8)
    else mj_rV (kX1 d 120 [.ref 0, .long (0 : Int64)] x6) fun x9 =>
     some (none, x9)
   else mj_g v2.toInt32 60000 (mj_g (x1.1 22 v2.toInt32.toNatClampNeg) 40 (rX1_invokes d (108, [some (.ref 0), some (.int a1), some (.int a2), some (.int a3), some (.int v2.toInt32), some (.int (x1.1 22 v2.toInt32.toNatClampNeg)), some (.int (0 : Int32)), some (.int (x1.1 10 (x1.1 22 v2.toInt32.toNatClampNeg).toNatClampNeg)), none], [], x1))))) := (mj_run_to (cd := cdX1) (rt := 0) (tab := tX1_invokes) (cal := kX1 d) zX1_invokes 65 (0, [some (.ref 0), some (.int a1), some (.int a2), some (.int a3), none, none, none, none, none], [], x)).trans rfl
set_option maxRecDepth 100000 in
set_option maxHeartbeats 4000000 in
theorem bX1_invokes_108 (d : Nat) (a1 : Int32) (a2 : Int32) (a3 : Int32) (a4 : Int32) (a5 : Int32) (a6 : Int32) (a7 : Int32) (x : mj_X) : rX1_invokes d (108, [some (.ref 0), some (.int a1), some (.int a2), some (.int a3), some (.int a4), some (.int a5), some (.int a6), some (.int a7), none], [], x) = 
  if a7 = (-1 : Int32) then 
   if (x.1 0 96) ≤ (10 : Int32) then mj_g ((x.1 0 96) - (1 : Int32)) 11 (mj_g ((x.1 0 96) - (1 : Int32)) 11 (mj_rV (kX1 d 113 [.ref 0, .int a5] (mj_wI (mj_wI (mj_wI x 0 98 ((x.1 0 98) - a6)) 96 ((x.1 0 96) - (1 : Int32)).toNatClampNeg ((x.1 0 98) - a6)) 95 ((x.1 0 96) - (1 : Int32)).toNatClampNeg a2)) fun x1 =>
    rX1_invokes d (214, [some (.ref 0), some (.int a1), some (.int a2), some (.int a3), some (.int a4), some (.int a5), some (.int a6), some (.int ((x.1 0 98) - a6)), some (.int (0 : Int32))], [], x1)))
   else some (none, (mj_wI x 0 79 (5 : Int32)))
  else mj_g a7 4000 (mj_g (x.1 3 a7.toNatClampNeg) 4000 (mj_rI (kX1 d 25 [.int (x.1 5 (x.1 3 a7.toNatClampNeg).toNatClampNeg)] x) fun v3 x2 =>
   mj_g a7 4000 (rX1_invokes d (108, [some (.ref 0), some (.int a1), some (.int a2), some (.int a3), some (.int a4), some (.int a5), some (.int (a6 + v3)), some (.int (x2.1 4 a7.toNatClampNeg)), none], [], x2)))) := (mj_run_to (cd := cdX1) (rt := 0) (tab := tX1_invokes) (cal := kX1 d) zX1_invokes 65 (108, [some (.ref 0), some (.int a1), some (.int a2), some (.int a3), some (.int a4), some (.int a5), some (.int a6), some (.int a7), none], [], x)).trans rfl
set_option maxRecDepth 100000 in
set_option maxHeartbeats 4000000 in
theorem bX1_invokes_214 (d : Nat) (a1 : Int32) (a2 : Int32) (a3 : Int32) (a4 : Int32) (a5 : Int32) (a6 : Int32) (a7 : Int32) (a8 : Int32) (x : mj_X) : rX1_invokes d (214, [some (.ref 0), some (.int a1), some (.int a2), some (.int a3), some (.int a4), some (.int a5), some (.int a6), some (.int a7), some (.int a8)], [], x) = 
  if a6 ≤ a8 then some (none, x)
  else mj_g (a7 + a8) 132000 (mj_g (((12000 : Int32) * ((x.1 0 96) - (1 : Int32))) + a8) 132000 (rX1_invokes d (214, [some (.ref 0), some (.int a1), some (.int a2), some (.int a3), some (.int a4), some (.int a5), some (.int a6), some (.int a7), some (.int (a8 + (1 : Int32)))], [], (mj_wL x 93 (((12000 : Int32) * ((x.1 0 96) - (1 : Int32))) + a8).toNatClampNeg (x.2 93 (a7 + a8).toNatClampNeg))))) := (mj_run_to (cd := cdX1) (rt := 0) (tab := tX1_invokes) (cal := kX1 d) zX1_invokes 65 (214, [some (.ref 0), some (.int a1), some (.int a2), some (.int a3), some (.int a4), some (.int a5), some (.int a6), some (.int a7), some (.int a8)], [], x)).trans rfl
noncomputable abbrev rX1_throwsAt (d : Nat) : mj_S → mj_R := mj_run cdX1 0 tX1_throwsAt (kX1 d)
def zX1_throwsAt (p : Nat) : Bool := bif Nat.blt p 29 then (bif Nat.beq p 2 then true else false) else (bif Nat.blt p 102 then (bif Nat.beq p 29 then true else false) else (bif Nat.beq p 102 then true else false))
set_option maxRecDepth 100000 in
set_option maxHeartbeats 4000000 in
theorem eX1_throwsAt (d : Nat) (a1 : Int32) (x : mj_X) : kX1 (d + 1) 144 [.ref 0, .int a1] x = rX1_throwsAt d (2, [some (.ref 0), some (.int a1), some (.int a1), none, none], [], x) := (mj_run_to (cd := cdX1) (rt := 0) (tab := tX1_throwsAt) (cal := kX1 d) zX1_throwsAt 80 (0, [some (.ref 0), some (.int a1), none, none, none], [], x)).trans rfl
set_option maxRecDepth 100000 in
set_option maxHeartbeats 4000000 in
theorem bX1_throwsAt_2 (d : Nat) (a1 : Int32) (a2 : Int32) (o3 : Option Value) (o4 : Option Value) (x : mj_X) : rX1_throwsAt d (2, [some (.ref 0), some (.int a1), some (.int a2), o3, o4], [], x) = 
  if (x.1 0 96) ≤ 0 then some (none, x)
  else mj_g ((x.1 0 96) - (1 : Int32)) 11 (mj_g (x.1 94 ((x.1 0 96) - (1 : Int32)).toNatClampNeg) 41 (rX1_throwsAt d (29, [some (.ref 0), some (.int a1), some (.int a2), some (.int (x.1 94 ((x.1 0 96) - (1 : Int32)).toNatClampNeg)), some (.int (x.1 17 (x.1 94 ((x.1 0 96) - (1 : Int32)).toNatClampNeg).toNatClampNeg))], [], x))) := (mj_run_to (cd := cdX1) (rt := 0) (tab := tX1_throwsAt) (cal := kX1 d) zX1_throwsAt 80 (2, [some (.ref 0), some (.int a1), some (.int a2), o3, o4], [], x)).trans rfl
set_option maxRecDepth 100000 in
set_option maxHeartbeats 4000000 in
theorem bX1_throwsAt_29 (d : Nat) (a1 : Int32) (a2 : Int32) (a3 : Int32) (a4 : Int32) (x : mj_X) : rX1_throwsAt d (29, [some (.ref 0), some (.int a1), some (.int a2), some (.int a3), some (.int a4)], [], x) = mj_g (a3 + (1 : Int32)) 41 (
  if (x.1 17 (a3 + (1 : Int32)).toNatClampNeg) ≤ a4 then 
   if ((x.1 0 96) - (1 : Int32)) ≤ 0 then rX1_throwsAt d (2, [some (.ref 0), some (.int a1), some (.int a2), some (.int a3), some (.int a4)], [], (mj_wI x 0 96 ((x.1 0 96) - (1 : Int32))))
   else mj_g (((x.1 0 96) - (1 : Int32)) - (1 : Int32)) 11 (rX1_throwsAt d (2, [some (.ref 0), some (.int a1), some (.int (x.1 95 (((x.1 0 96) - (1 : Int32)) - (1 : Int32)).toNatClampNeg)), some (.int a3), some (.int a4)], [], (mj_wI x 0 96 ((x.1 0 96) - (1 : Int32)))))
  else mj_g ((4 : Int32) * a4) 80400 (
   if a2 < (x.1 24 ((4 : Int32) * a4).toNatClampNeg) then rX1_throwsAt d (29, [some (.ref 0), some (.int a1), some (.int a2), some (.int a3), some (.int (a4 + (1 : Int32)))], [], x)
   else mj_g (((4 : Int32) * a4) + (1 : Int32)) 80400 (
    if (x.1 24 (((4 : Int32) * a4) + (1 : Int32)).toNatClampNeg) ≤ a2 then rX1_throwsAt d (29, [some (.ref 0), some (.int a1), some (.int a2), some (.int a3), some (.int (a4 + (1 : Int32)))], [], x)
    else mj_g (((4 : Int32) * a4) + (3 : Int32)) 80400 (
     if (x.1 24 (((4 : Int32) * a4) + (3 : Int32)).toNatClampNeg) = 0 then rX1_throwsAt d (102, [some (.ref 0), some (.int a1), some (.int a2), some (.int a3), some (.int a4)], [], x)
     else mj_g (((4 : Int32) * a4) + (3 : Int32)) 80400 (
      if (x.1 24 (((4 : Int32) * a4) + (3 : Int32)).toNatClampNeg) = (x.1 0 79) then rX1_throwsAt d (102, [some (.ref 0), some (.int a1), some (.int a2), some (.int a3), some (.int a4)], [], x)
      else rX1_throwsAt d (29, [some (.ref 0), some (.int a1), some (.int a2), some (.int a3), some (.int (a4 + (1 : Int32)))], [], x)))))) := (mj_run_to (cd := cdX1) (rt := 0) (tab := tX1_throwsAt) (cal := kX1 d) zX1_throwsAt 80 (29, [some (.ref 0), some (.int a1), some (.int a2), some (.int a3), some (.int a4)], [], x)).trans rfl
set_option maxRecDepth 100000 in
set_option maxHeartbeats 4000000 in
theorem bX1_throwsAt_102 (d : Nat) (a1 : Int32) (a2 : Int32) (a3 : Int32) (a4 : Int32) (x : mj_X) : rX1_throwsAt d (102, [some (.ref 0), some (.int a1), some (.int a2), some (.int a3), some (.int a4)], [], x) = mj_g a3 40 (mj_rV (kX1 d 120 [.ref 0, .long (((4611686018427387904 : Int64) ||| ((x.1 0 79).toInt64 <<< ((32 : Int32).toInt64 &&& 63))) ||| ((x.1 0 80).toInt64 &&& (4294967295 : Int64)))] (mj_wI x 0 98 (((12000 : Int32) * ((x.1 0 96) - (1 : Int32))) + (x.1 13 a3.toNatClampNeg)))) fun x1 =>
  mj_g (((4 : Int32) * a4) + (2 : Int32)) 80400 (some (none, (mj_wI (mj_wI (mj_wI x1 0 97 (x1.1 24 (((4 : Int32) * a4) + (2 : Int32)).toNatClampNeg)) 0 79 (0 : Int32)) 0 80 (0 : Int32))))) := (mj_run_to (cd := cdX1) (rt := 0) (tab := tX1_throwsAt) (cal := kX1 d) zX1_throwsAt 80 (102, [some (.ref 0), some (.int a1), some (.int a2), some (.int a3), some (.int a4)], [], x)).trans rfl
