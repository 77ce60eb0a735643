noncomputable abbrev rX1_makeArray (d : Nat) : mj_S → mj_R := mj_run cdX1 2 tX1_makeArray (kX1 d)
def zX1_makeArray (p : Nat) : Bool := bif Nat.beq p 94 then true else false
set_option maxRecDepth 100000 in
set_option maxHeartbeats 4000000 in
theorem eX1_makeArray (d : Nat) (a1 : Int32) (a2 : Int64) (x : mj_X) : kX1 (d + 1) 111 [.ref 0, .int a1, .long a2] x = 
  if 0 ≤ (lg_cmp a2 (0 : Int64)) then 
   if 0 < (lg_cmp a2 (4000 : Int64)) then some (some (.long (0 : Int64)), (mj_wI x 0 79 (6 : Int32)))
   else 
    if (lg_cmp ((x.1 0 81).toInt64 + a2) (20000 : Int64)) ≤ 0 then mj_g (x.1 0 82) 100020 (mj_g (x.1 0 82) 100020 (mj_g (x.1 0 82) 100020 (rX1_makeArray d (94, [some (.ref 0), some (.int a1), some (.long a2), none, some (.int (x.1 0 82)), some (.int (x.1 0 81))], [], (mj_wI (mj_wI (mj_wI (mj_wI x 0 82 ((x.1 0 82) + (1 : Int32))) 84 (x.1 0 82).toNatClampNeg (x.1 0 81)) 85 (x.1 0 82).toNatClampNeg a2.toInt32) 86 (x.1 0 82).toNatClampNeg a1.toInt8.toInt32.toInt8.toInt32)))))
    else some (some (.long (0 : Int64)), (mj_wI x 0 79 (6 : Int32)))
  else some (some (.long (0 : Int64)), (mj_wI x 0 79 (4 : Int32))) := (mj_run_to (cd := cdX1) (rt := 2) (tab := tX1_makeArray) (cal := kX1 d) zX1_makeArray 64 (0, [some (.ref 0), some (.int a1), some (.long a2), none, none, none], [], x)).trans rfl
set_option maxRecDepth 100000 in
set_option maxHeartbeats 4000000 in
theorem bX1_makeArray_94 (d : Nat) (a1 : Int32) (a2 : Int64) (a4 : Int32) (a5 : Int32) (x : mj_X) : rX1_makeArray d (94, [some (.ref 0), some (.int a1), some (.long a2), none, some (.int a4), some (.int a5)], [], x) = 
  if 0 ≤ (lg_cmp a5.toInt64 ((x.1 0 81).toInt64 + a2)) then some (some (.long (a4.toInt64 + (1 : Int64))), (mj_wI x 0 81 ((x.1 0 81) + a2.toInt32)))
  else mj_g a5 20001 (rX1_makeArray d (94, [some (.ref 0), some (.int a1), some (.long a2), none, some (.int a4), some (.int (a5 + (1 : Int32)))], [], (mj_wL x 87 a5.toNatClampNeg (0 : Int64)))) := (mj_run_to (cd := cdX1) (rt := 2) (tab := tX1_makeArray) (cal := kX1 d) zX1_makeArray 64 (94, [some (.ref 0), some (.int a1), some (.long a2), none, some (.int a4), some (.int a5)], [], x)).trans rfl
noncomputable abbrev rX1_isElement (d : Nat) : mj_S → mj_R := mj_run cdX1 5 tX1_isElement (kX1 d)
def zX1_isElement (p : Nat) : Bool := false
set_option maxRecDepth 100000 in
set_option maxHeartbeats 4000000 in
theorem eX1_isElement (d : Nat) (a1 : Int64) (a3 : Int64) (x : mj_X) : kX1 (d + 1) 137 [.ref 0, .long a1, .long a3] x = 
  if (lg_cmp a1 (0 : Int64)) = 0 then some (some (.int (0 : Int32)), (mj_wI x 0 79 (2 : Int32)))
  else 
   if (lg_cmp a3 (0 : Int64)) < 0 then some (some (.int (0 : Int32)), (mj_wI x 0 79 (3 : Int32)))
   else mj_g (a1.toInt32 - (1 : Int32)) 100020 (
    if (lg_cmp a3 (x.1 85 (a1.toInt32 - (1 : Int32)).toNatClampNeg).toInt64) < 0 then some (some (.int (1 : Int32)), x)
    else some (some (.int (0 : Int32)), (mj_wI x 0 79 (3 : Int32)))) := (mj_run_to (cd := cdX1) (rt := 5) (tab := tX1_isElement) (cal := kX1 d) zX1_isElement 38 (0, [some (.ref 0), some (.long a1), none, some (.long a3), none], [], x)).trans rfl
noncomputable abbrev rX1_cellOf (d : Nat) : mj_S → mj_R := mj_run cdX1 1 tX1_cellOf (kX1 d)
def zX1_cellOf (p : Nat) : Bool := false
set_option maxRecDepth 100000 in
set_option maxHeartbeats 4000000 in
theorem eX1_cellOf (d : Nat) (a1 : Int64) (a3 : Int64) (x : mj_X) : kX1 (d + 1) 138 [.ref 0, .long a1, .long a3] x = mj_g (a1.toInt32 - (1 : Int32)) 100020 (some (some (.int ((x.1 84 (a1.toInt32 - (1 : Int32)).toNatClampNeg) + a3.toInt32)), x)) := (mj_run_to (cd := cdX1) (rt := 1) (tab := tX1_cellOf) (cal := kX1 d) zX1_cellOf 13 (0, [some (.ref 0), some (.long a1), none, some (.long a3), none], [], x)).trans rfl
noncomputable abbrev rX1_doIt (d : Nat) : mj_S → mj_R := mj_run cdX1 1 tX1_doIt (kX1 d)
def zX1_doIt (p : Nat) : Bool := bif Nat.blt p 317 then (bif Nat.blt p 210 then (bif Nat.blt p 181 then (bif Nat.blt p 151 then (bif Nat.beq p 132 then true else false) else (bif Nat.beq p 151 then true else false)) else (bif Nat.blt p 204 then (bif Nat.beq p 181 then true else false) else (bif Nat.beq p 204 then true else false))) else (bif Nat.blt p 290 then (bif Nat.blt p 245 then (bif Nat.beq p 210 then true else false) else (bif Nat.beq p 245 then true else false)) else (bif Nat.blt p 303 then (bif Nat.beq p 290 then true else false) else (bif Nat.blt p 310 then (bif Nat.beq p 303 then true else false) else (bif Nat.beq p 310 then true else false))))) else (bif Nat.blt p 386 then (bif Nat.blt p 350 then (bif Nat.blt p 331 then (bif Nat.beq p 317 then true else false) else (bif Nat.beq p 331 then true else false)) else (bif Nat.blt p 379 then (bif Nat.beq p 350 then true else false) else (bif Nat.beq p 379 then true else false))) else (bif Nat.blt p 419 then (bif Nat.blt p 393 then (bif Nat.beq p 386 then true else false) else (bif Nat.beq p 393 then true else false)) else (bif Nat.blt p 436 then (bif Nat.beq p 419 then true else false) else (bif Nat.blt p 443 then (bif Nat.beq p 436 then true else false) else (bif Nat.beq p 443 then true else false)))))
set_option maxRecDepth 100000 in
set_option maxHeartbeats 4000000 in
theorem eX1_doIt (d : Nat) (a1 : Int32) (x : mj_X) : kX1 (d + 1) 147 [.ref 0, .int a1] x = mj_rI (kX1 d 148 [.ref 0] x) fun v2 x1 =>
  
  if v2 = 0 then some (some (.int (4 : Int32)), x1)
  else mj_g a1 4000 (mj_g a1 4000 (mj_g a1 4000 (mj_sw (x1.1 2 a1.toNatClampNeg) 60 (414) [103, 122, 152, 175, 181, 216, 414, 261, 261, 261, 414, 274, 281, 288, 321, 350, 414, 414, 414, 357, 364, 407] fun off => mj_j 29 off fun t => rX1_doIt d (t, [some (.ref 0), some (.int a1), some (.int (x1.1 3 a1.toNatClampNeg)), some (.int (x1.1 4 a1.toNatClampNeg)), none, none, none, none, none, none, none, none, none, none, none, none, none], [], x1)))) := (mj_run_to (cd := cdX1) (rt := 1) (tab := tX1_doIt) (cal := kX1 d) zX1_doIt 38 (0, [some (.ref 0), some (.int a1), none, none, none, none, none, none, none, none, none, none, none, none, none, none, none], [], x)).trans rfl
set_option maxRecDepth 100000 in
set_option maxHeartbeats 4000000 in
theorem bX1_doIt_132 (d : Nat) (a1 : Int32) (a2 : Int32) (a3 : Int32) (x : mj_X) : rX1_doIt d (132, [some (.ref 0), some (.int a1), some (.int a2), some (.int a3), none, none, none, none, none, none, none, none, none, none, none, none, none], [], x) = mj_rL (kX1 d 149 [.ref 0, .int a2] x) fun v2 x1 =>
  mj_rI (kX1 d 150 [.ref 0] x1) fun v4 x3 =>
  
  if v4 = 0 then some (some (.int (0 : Int32)), x3)
  else some (some (.int (4 : Int32)), x3) := (mj_run_to (cd := cdX1) (rt := 1) (tab := tX1_doIt) (cal := kX1 d) zX1_doIt 38 (132, [some (.ref 0), some (.int a1), some (.int a2), some (.int a3), none, none, none, none, none, none, none, none, none, none, none, none, none], [], x)).trans rfl
set_option maxRecDepth 100000 in
set_option maxHeartbeats 4000000 in
theorem bX1_doIt_151 (d : Nat) (a1 : Int32) (a2 : Int32) (a3 : Int32) (x : mj_X) : rX1_doIt d (151, [some (.ref 0), some (.int a1), some (.int a2), some (.int a3), none, none, none, none, none, none, none, none, none, none, none, none, none], [], x) = mj_rL (kX1 d 149 [.ref 0, .int a3] x) fun v2 x1 =>
  mj_rI (kX1 d 150 [.ref 0] x1) fun v4 x3 =>
  
  if v4 = 0 then mj_rI (kX1 d 152 [.ref 0, .int a2] x3) fun v6 x5 =>
   mj_g v6 44000 (some (some (.int (0 : Int32)), (mj_wL x5 100 v6.toNatClampNeg v2)))
  else some (some (.int (4 : Int32)), x3) := (mj_run_to (cd := cdX1) (rt := 1) (tab := tX1_doIt) (cal := kX1 d) zX1_doIt 38 (151, [some (.ref 0), some (.int a1), some (.int a2), some (.int a3), none, none, none, none, none, none, none, none, none, none, none, none, none], [], x)).trans rfl
set_option maxRecDepth 100000 in
set_option maxHeartbeats 4000000 in
theorem bX1_doIt_181 (d : Nat) (a1 : Int32) (a2 : Int32) (a3 : Int32) (x : mj_X) : rX1_doIt d (181, [some (.ref 0), some (.int a1), some (.int a2), some (.int a3), none, none, none, none, none, none, none, none, none, none, none, none, none], [], x) = mj_rI (kX1 d 147 [.ref 0, .int a2] x) fun v2 x1 =>
  
  if v2 = 0 then mj_rI (kX1 d 147 [.ref 0, .int a3] x1) fun v4 x3 =>
   some (some (.int v4), x3)
  else some (some (.int v2), x1) := (mj_run_to (cd := cdX1) (rt := 1) (tab := tX1_doIt) (cal := kX1 d) zX1_doIt 38 (181, [some (.ref 0), some (.int a1), some (.int a2), some (.int a3), none, none, none, none, none, none, none, none, none, none, none, none, none], [], x)).trans rfl
set_option maxRecDepth 100000 in
set_option maxHeartbeats 4000000 in
theorem bX1_doIt_204 (d : Nat) (a1 : Int32) (a2 : Int32) (a3 : Int32) (x : mj_X) : rX1_doIt d (204, [some (.ref 0), some (.int a1), some (.int a2), some (.int a3), none, none, none, none, none, none, none, none, none, none, none, none, none], [], x) = mj_rI (kX1 d 147 [.ref 0, .int a2] x) fun v2 x1 =>
  some (some (.int v2), x1) := (mj_run_to (cd := cdX1) (rt := 1) (tab := tX1_doIt) (cal := kX1 d) zX1_doIt 38 (204, [some (.ref 0), some (.int a1), some (.int a2), some (.int a3), none, none, none, none, none, none, none, none, none, none, none, none, none], [], x)).trans rfl
set_option maxRecDepth 100000 in
set_option maxHeartbeats 4000000 in
theorem bX1_doIt_210 (d : Nat) (a1 : Int32) (a2 : Int32) (a3 : Int32) (x : mj_X) : rX1_doIt d (210, [some (.ref 0), some (.int a1), some (.int a2), some (.int a3), none, none, none, none, none, none, none, none, none, none, none, none, none], [], x) = mj_rL (kX1 d 149 [.ref 0, .int a2] x) fun v2 x1 =>
  mj_rI (kX1 d 150 [.ref 0] x1) fun v4 x3 =>
  
  if v4 = 0 then 
   if (lg_cmp v2 (0 : Int64)) = 0 then some (some (.int (0 : Int32)), x3)
   else mj_rI (kX1 d 147 [.ref 0, .int a3] x3) fun v6 x5 =>
    some (some (.int v6), x5)
  else some (some (.int (4 : Int32)), x3) := (mj_run_to (cd := cdX1) (rt := 1) (tab := tX1_doIt) (cal := kX1 d) zX1_doIt 38 (210, [some (.ref 0), some (.int a1), some (.int a2), some (.int a3), none, none, none, none, none, none, none, none, none, none, none, none, none], [], x)).trans rfl
set_option maxRecDepth 100000 in
set_option maxHeartbeats 4000000 in
theorem bX1_doIt_245 (d : Nat) (a1 : Int32) (a2 : Int32) (a3 : Int32) (x : mj_X) : rX1_doIt d (245, [some (.ref 0), some (.int a1), some (.int a2), some (.int a3), none, none, none, none, none, none, none, none, none, none, none, none, none], [], x) = mj_rL (kX1 d 149 [.ref 0, .int a2] x) fun v2 x1 =>
  mj_rI (kX1 d 150 [.ref 0] x1) fun v4 x3 =>
  
  if v4 = 0 then 
   if (lg_cmp v2 (0 : Int64)) = 0 then mj_g a3 4000 (mj_rI (kX1 d 147 [.ref 0, .int (x3.1 4 a3.toNatClampNeg)] x3) fun v6 x5 =>
    some (some (.int v6), x5))
   else mj_g a3 4000 (mj_rI (kX1 d 147 [.ref 0, .int (x3.1 3 a3.toNatClampNeg)] x3) fun v8 x7 =>
    some (some (.int v8), x7))
  else some (some (.int (4 : Int32)), x3) := (mj_run_to (cd := cdX1) (rt := 1) (tab := tX1_doIt) (cal := kX1 d) zX1_doIt 38 (245, [some (.ref 0), some (.int a1), some (.int a2), some (.int a3), none, none, none, none, none, none, none, none, none, none, none, none, none], [], x)).trans rfl
set_option maxRecDepth 100000 in
set_option maxHeartbeats 4000000 in
theorem bX1_doIt_290 (d : Nat) (a1 : Int32) (a2 : Int32) (a3 : Int32) (x : mj_X) : rX1_doIt d (290, [some (.ref 0), some (.int a1), some (.int a2), some (.int a3), none, none, none, none, none, none, none, none, none, none, none, none, none], [], x) = mj_g a1 4000 (mj_rI (kX1 d 156 [.ref 0, .int (x.1 2 a1.toNatClampNeg), .int a2, .int a3] x) fun v2 x1 =>
  some (some (.int v2), x1)) := (mj_run_to (cd := cdX1) (rt := 1) (tab := tX1_doIt) (cal := kX1 d) zX1_doIt 38 (290, [some (.ref 0), some (.int a1), some (.int a2), some (.int a3), none, none, none, none, none, none, none, none, none, none, none, none, none], [], x)).trans rfl
set_option maxRecDepth 100000 in
set_option maxHeartbeats 4000000 in
theorem bX1_doIt_303 (d : Nat) (a1 : Int32) (a2 : Int32) (a3 : Int32) (x : mj_X) : rX1_doIt d (303, [some (.ref 0), some (.int a1), some (.int a2), some (.int a3), none, none, none, none, none, none, none, none, none, none, none, none, none], [], x) = some (some (.int (1 : Int32)), (mj_wI x 0 101 a2)) := (mj_run_to (cd := cdX1) (rt := 1) (tab := tX1_doIt) (cal := kX1 d) zX1_doIt 38 (303, [some (.ref 0), some (.int a1), some (.int a2), some (.int a3), none, none, none, none, none, none, none, none, none, none, none, none, none], [], x)).trans rfl
set_option maxRecDepth 100000 in
set_option maxHeartbeats 4000000 in
theorem bX1_doIt_310 (d : Nat) (a1 : Int32) (a2 : Int32) (a3 : Int32) (x : mj_X) : rX1_doIt d (310, [some (.ref 0), some (.int a1), some (.int a2), some (.int a3), none, none, none, none, none, none, none, none, none, none, none, none, none], [], x) = some (some (.int (2 : Int32)), (mj_wI x 0 101 a2)) := (mj_run_to (cd := cdX1) (rt := 1) (tab := tX1_doIt) (cal := kX1 d) zX1_doIt 38 (310, [some (.ref 0), some (.int a1), some (.int a2), some (.int a3), none, none, none, none, none, none, none, none, none, none, none, none, none], [], x)).trans rfl
set_option maxRecDepth 100000 in
set_option maxHeartbeats 4000000 in
theorem bX1_doIt_317 (d : Nat) (a1 : Int32) (a2 : Int32) (a3 : Int32) (x : mj_X) : rX1_doIt d (317, [some (.ref 0), some (.int a1), some (.int a2), some (.int a3), none, none, none, none, none, none, none, none, none, none, none, none, none], [], x) = 
  if a2 = (-1 : Int32) then rX1_doIt d (331, [some (.ref 0), some (.int a1), some (.int a2), some (.int a3), none, none, none, none, none, none, none, none, none, none, none, none, none], [.long (0 : Int64)], x)
  else mj_rL (kX1 d 149 [.ref 0, .int a2] x) fun v2 x1 =>
   rX1_doIt d (331, [some (.ref 0), some (.int a1), some (.int a2), some (.int a3), none, none, none, none, none, none, none, none, none, none, none, none, none], [.long v2], x1) := (mj_run_to (cd := cdX1) (rt := 1) (tab := tX1_doIt) (cal := kX1 d) zX1_doIt 38 (317, [some (.ref 0), some (.int a1), some (.int a2), some (.int a3), none, none, none, none, none, none, none, none, none, none, none, none, none], [], x)).trans rfl
set_option maxRecDepth 100000 in
set_option maxHeartbeats 4000000 in
theorem bX1_doIt_331 (d : Nat) (a1 : Int32) (a2 : Int32) (a3 : Int32) (s0 : Int64) (x : mj_X) : rX1_doIt d (331, [some (.ref 0), some (.int a1), some (.int a2), some (.int a3), none, none, none, none, none, none, none, none, none, none, none, none, none], [.long s0], x) = mj_rI (kX1 d 150 [.ref 0] x) fun v2 x1 =>
  
  if v2 = 0 then some (some (.int (3 : Int32)), (mj_wL x1 0 102 s0))
  else some (some (.int (4 : Int32)), x1) := (mj_run_to (cd := cdX1) (rt := 1) (tab := tX1_doIt) (cal := kX1 d) zX1_doIt 38 (331, [some (.ref 0), some (.int a1), some (.int a2), some (.int a3), none, none, none, none, none, none, none, none, none, none, none, none, none], [.long s0], x)).trans rfl
set_option maxRecDepth 100000 in
set_option maxHeartbeats 4000000 in
theorem bX1_doIt_350 (d : Nat) (a1 : Int32) (a2 : Int32) (a3 : Int32) (x : mj_X) : rX1_doIt d (350, [some (.ref 0), some (.int a1), some (.int a2), some (.int a3), none, none, none, none, none, none, none, none, none, none, none, none, none], [], x) = mj_rL (kX1 d 149 [.ref 0, .int a2] x) fun v2 x1 =>
  mj_rI (kX1 d 150 [.ref 0] x1) fun v4 x3 =>
  
  if v4 = 0 then some (some (.int (4 : Int32)), (mj_wI (mj_wI x3 0 79 (7 : Int32)) 0 80 v2.toInt32))
  else some (some (.int (4 : Int32)), x3) := (mj_run_to (cd := cdX1) (rt := 1) (tab := tX1_doIt) (cal := kX1 d) zX1_doIt 38 (350, [some (.ref 0), some (.int a1), some (.int a2), some (.int a3), none, none, none, none, none, none, none, none, none, none, none, none, none], [], x)).trans rfl
set_option maxRecDepth 100000 in
set_option maxHeartbeats 4000000 in
theorem bX1_doIt_379 (d : Nat) (a1 : Int32) (a2 : Int32) (a3 : Int32) (x : mj_X) : rX1_doIt d (379, [some (.ref 0), some (.int a1), some (.int a2), some (.int a3), none, none, none, none, none, none, none, none, none, none, none, none, none], [], x) = mj_rI (kX1 d 158 [.ref 0, .int a2, .int a3] x) fun v2 x1 =>
  some (some (.int v2), x1) := (mj_run_to (cd := cdX1) (rt := 1) (tab := tX1_doIt) (cal := kX1 d) zX1_doIt 38 (379, [some (.ref 0), some (.int a1), some (.int a2), some (.int a3), none, none, none, none, none, none, none, none, none, none, none, none, none], [], x)).trans rfl
set_option maxRecDepth 100000 in
set_option maxHeartbeats 4000000 in
theorem bX1_doIt_386 (d : Nat) (a1 : Int32) (a2 : Int32) (a3 : Int32) (x : mj_X) : rX1_doIt d (386, [some (.ref 0), some (.int a1), some (.int a2), some (.int a3), none, none, none, none, none, none, none, none, none, none, none, none, none], [], x) = mj_rI (kX1 d 159 [.ref 0, .int a2, .int a3] x) fun v2 x1 =>
  some (some (.int v2), x1) := (mj_run_to (cd := cdX1) (rt := 1) (tab := tX1_doIt) (cal := kX1 d) zX1_doIt 38 (386, [some (.ref 0), some (.int a1), some (.int a2), some (.int a3), none, none, none, none, none, none, none, none, none, none, none, none, none], [], x)).trans rfl
set_option maxRecDepth 100000 in
set_option maxHeartbeats 4000000 in
theorem bX1_doIt_393 (d : Nat) (a1 : Int32) (a2 : Int32) (a3 : Int32) (x : mj_X) : rX1_doIt d (393, [some (.ref 0), some (.int a1), some (.int a2), some (.int a3), none, none, none, none, none, none, none, none, none, none, none, none, none], [], x) = mj_rL (kX1 d 149 [.ref 0, .int a2] x) fun v2 x1 =>
  mj_rI (kX1 d 150 [.ref 0] x1) fun v4 x3 =>
  
  if v4 = 0 then 
   if (lg_cmp v2 (0 : Int64)) = 0 then rX1_doIt d (419, [some (.ref 0), some (.int a1), some (.int a2), some (.int a3), none, none, none, none, none, none, none, none, none, none, none, some (.long v2), none], [], (mj_wI x3 0 79 (2 : Int32)))
   else rX1_doIt d (419, [some (.ref 0), some (.int a1), some (.int a2), some (.int a3), none, none, none, none, none, none, none, none, none, none, none, some (.long v2), none], [], x3)
  else rX1_doIt d (419, [some (.ref 0), some (.int a1), some (.int a2), some (.int a3), none, none, none, none, none, none, none, none, none, none, none, some (.long v2), none], [], x3) := (mj_run_to (cd := cdX1) (rt := 1) (tab := tX1_doIt) (cal := kX1 d) zX1_doIt 38 (393, [some (.ref 0), some (.int a1), some (.int a2), some (.int a3), none, none, none, none, none, none, none, none, none, none, none, none, none], [], x)).trans rfl
set_option maxRecDepth 100000 in
set_option maxHeartbeats 4000000 in
theorem bX1_doIt_419 (d : Nat) (a1 : Int32) (a2 : Int32) (a3 : Int32) (a15 : Int64) (x : mj_X) : rX1_doIt d (419, [some (.ref 0), some (.int a1), some (.int a2), some (.int a3), none, none, none, none, none, none, none, none, none, none, none, some (.long a15), none], [], x) = mj_rI (kX1 d 150 [.ref 0] x) fun v2 x1 =>
  
  if v2 = 0 then mj_rI (kX1 d 147 [.ref 0, .int a3] x1) fun v4 x3 =>
   some (some (.int v4), x3)
  else some (some (.int (4 : Int32)), x1) := (mj_run_to (cd := cdX1) (rt := 1) (tab := tX1_doIt) (cal := kX1 d) zX1_doIt 38 (419, [some (.ref 0), some (.int a1), some (.int a2), some (.int a3), none, none, none, none, none, none, none, none, none, none, none, some (.long a15), none], [], x)).trans rfl
set_option maxRecDepth 100000 in
set_option maxHeartbeats 4000000 in
theorem bX1_doIt_436 (d : Nat) (a1 : Int32) (a2 : Int32) (a3 : Int32) (x : mj_X) : rX1_doIt d (436, [some (.ref 0), some (.int a1), some (.int a2), some (.int a3), none, none, none, none, none, none, none, none, none, none, none, none, none], [], x) = mj_rI (kX1 d 160 [.ref 0, .int a2, .int a3] x) fun v2 x1 =>
  some (some (.int v2), x1) := (mj_run_to (cd := cdX1) (rt := 1) (tab := tX1_doIt) (cal := kX1 d) zX1_doIt 38 (436, [some (.ref 0), some (.int a1), some (.int a2), some (.int a3), none, none, none, none, none, none, none, none, none, none, none, none, none], [], x)).trans rfl
set_option maxRecDepth 100000 in
set_option maxHeartbeats 4000000 in
theorem bX1_doIt_443 (d : Nat) (a1 : Int32) (a2 : Int32) (a3 : Int32) (x : mj_X) : rX1_doIt d (443, [some (.ref 0), some (.int a1), some (.int a2), some (.int a3), none, none, none, none, none, none, none, none, none, none, none, none, none], [], x) = mj_rI (kX1 d 147 [.ref 0, .int a3] x) fun v2 x1 =>
  some (some (.int v2), x1) := (mj_run_to (cd := cdX1) (rt := 1) (tab := tX1_doIt) (cal := kX1 d) zX1_doIt 38 (443, [some (.ref 0), some (.int a1), some (.int a2), some (.int a3), none, none, none, none, none, none, none, none, none, none, none, none, none], [], x)).trans rfl
noncomputable abbrev rX1_begins (d : Nat) : mj_S → mj_R := mj_run cdX1 5 tX1_begins (kX1 d)
def zX1_begins (p : Nat) : Bool := false
set_option maxRecDepth 100000 in
set_option maxHeartbeats 4000000 in
theorem eX1_begins (d : Nat)  (x : mj_X) : kX1 (d + 1) 148 [.ref 0] x = 
  if (100000 : Int32) < ((x.1 0 78) + (1 : Int32)) then some (some (.int (0 : Int32)), (mj_wI x 0 78 ((x.1 0 78) + (1 : Int32))))
  else some (some (.int (1 : Int32)), (mj_wI x 0 78 ((x.1 0 78) + (1 : Int32)))) := (mj_run_to (cd := cdX1) (rt := 5) (tab := tX1_begins) (cal := kX1 d) zX1_begins 17 (0, [some (.ref 0)], [], x)).trans rfl
noncomputable abbrev rX1_eval (d : Nat) : mj_S → mj_R := mj_run cdX1 2 tX1_eval (kX1 d)
def zX1_eval (p : Nat) : Bool := bif Nat.blt p 574 then (bif Nat.blt p 431 then (bif Nat.blt p 172 then (bif Nat.blt p 98 then (bif Nat.beq p 68 then true else false) else (bif Nat.blt p 135 then (bif Nat.beq p 98 then true else false) else (bif Nat.beq p 135 then true else false))) else (bif Nat.blt p 219 then (bif Nat.blt p 192 then (bif Nat.beq p 172 then true else false) else (bif Nat.beq p 192 then true else false)) else (bif Nat.blt p 428 then (bif Nat.beq p 219 then true else false) else (bif Nat.beq p 428 then true else false)))) else (bif Nat.blt p 477 then (bif Nat.blt p 450 then (bif Nat.blt p 444 then (bif Nat.beq p 431 then true else false) else (bif Nat.beq p 444 then true else false)) else (bif Nat.blt p 466 then (bif Nat.beq p 450 then true else false) else (bif Nat.beq p 466 then true else false))) else (bif Nat.blt p 529 then (bif Nat.blt p 506 then (bif Nat.beq p 477 then true else false) else (bif Nat.beq p 506 then true else false)) else (bif Nat.blt p 567 then (bif Nat.beq p 529 then true else false) else (bif Nat.beq p 567 then true else false))))) else (bif Nat.blt p 725 then (bif Nat.blt p 661 then (bif Nat.blt p 604 then (bif Nat.beq p 574 then true else false) else (bif Nat.blt p 635 then (bif Nat.beq p 604 then true else false) else (bif Nat.beq p 635 then true else false))) else (bif Nat.blt p 676 then (bif Nat.blt p 673 then (bif Nat.beq p 661 then true else false) else (bif Nat.beq p 673 then true else false)) else (bif Nat.blt p 709 then (bif Nat.beq p 676 then true else false) else (bif Nat.beq p 709 then true else false)))) else (bif Nat.blt p 826 then (bif Nat.blt p 785 then (bif Nat.blt p 770 then (bif Nat.beq p 725 then true else false) else (bif Nat.beq p 770 then true else false)) else (bif Nat.blt p 800 then (bif Nat.beq p 785 then true else false) else (bif Nat.beq p 800 then true else false))) else (bif Nat.blt p 875 then (bif Nat.blt p 852 then (bif Nat.beq p 826 then true else false) else (bif Nat.beq p 852 then true else false)) else (bif Nat.blt p 882 then (bif Nat.beq p 875 then true else false) else (bif Nat.beq p 882 then true else false)))))
set_option maxRecDepth 100000 in
set_option maxHeartbeats 4000000 in
theorem eX1_eval (d : Nat) (a1 : Int32) (x : mj_X) : kX1 (d + 1) 149 [.ref 0, .int a1] x = mj_rI (kX1 d 148 [.ref 0] x) fun v2 x1 =>
  
  if v2 = 0 then some (some (.long (0 : Int64)), x1)
  else mj_g a1 4000 (mj_g a1 4000 (mj_g a1 4000 (
   if (x1.1 2 a1.toNatClampNeg) < (10 : Int32) then rX1_eval d (98, [some (.ref 0), some (.int a1), some (.int (x1.1 3 a1.toNatClampNeg)), some (.int (x1.1 4 a1.toNatClampNeg)), some (.int (x1.1 2 a1.toNatClampNeg)), none, none, none, none, none, none, none, none, none, none, none, none, none, none, none, none, none, none, none, none], [], x1)
   else 
    if (20 : Int32) < (x1.1 2 a1.toNatClampNeg) then rX1_eval d (98, [some (.ref 0), some (.int a1), some (.int (x1.1 3 a1.toNatClampNeg)), some (.int (x1.1 4 a1.toNatClampNeg)), some (.int (x1.1 2 a1.toNatClampNeg)), none, none, none, none, none, none, none, none, none, none, none, none, none, none, none, none, none, none, none, none], [], x1)
    else mj_rL (kX1 d 149 [.ref 0, .int (x1.1 3 a1.toNatClampNeg)] x1) fun v4 x3 =>
     mj_rI (kX1 d 150 [.ref 0] x3) fun v6 x5 =>
     
     if v6 = 0 then mj_rL (kX1 d 149 [.ref 0, .int (x1.1 4 a1.toNatClampNeg)] x5) fun v8 x7 =>
      rX1_eval d (68, [some (.ref 0), some (.int a1), some (.int (x1.1 3 a1.toNatClampNeg)), some (.int (x1.1 4 a1.toNatClampNeg)), some (.int (x1.1 2 a1.toNatClampNeg)), some (.long v4), none, none, none, none, none, none, none, none, none, none, none, none, none, none, none, none, none, none, none], [.long v8], x7)
     else rX1_eval d (68, [some (.ref 0), some (.int a1), some (.int (x1.1 3 a1.toNatClampNeg)), some (.int (x1.1 4 a1.toNatClampNeg)), some (.int (x1.1 2 a1.toNatClampNeg)), some (.long v4), none, none, none, none, none, none, none, none, none, none, none, none, none, none, none, none, none, none, none], [.long (0 : Int64)], x5)))) := (mj_run_to (cd := cdX1) (rt := 2) (tab := tX1_eval) (cal := kX1 d) zX1_eval 44 (0, [some (.ref 0), some (.int a1), none, none, none, none, none, none, none, none, none, none, none, none, none, none, none, none, none, none, none, none, none, none, none], [], x)).trans rfl
set_option maxRecDepth 100000 in
set_option maxHeartbeats 4000000 in
theorem bX1_eval_68 (d : Nat) (a1 : Int32) (a2 : Int32) (a3 : Int32) (a4 : Int32) (a5 : Int64) (s0 : Int64) (x : mj_X) : rX1_eval d (68, [some (.ref 0), some (.int a1), some (.int a2), some (.int a3), some (.int a4), some (.long a5), none, none, none, none, none, none, none, none, none, none, none, none, none, none, none, none, none, none, none], [.long s0], x) = mj_rI (kX1 d 150 [.ref 0] x) fun v2 x1 =>
  
  if v2 = 0 then mj_g a2 4000 (mj_rL (kX1 d 127 [.ref 0, .int a4, .int (x1.1 5 a2.toNatClampNeg), .long a5, .long s0] x1) fun v4 x3 =>
   some (some (.long v4), x3))
  else some (some (.long (0 : Int64)), x1) := (mj_run_to (cd := cdX1) (rt := 2) (tab := tX1_eval) (cal := kX1 d) zX1_eval 44 (68, [some (.ref 0), some (.int a1), some (.int a2), some (.int a3), some (.int a4), some (.long a5), none, none, none, none, none, none, none, none, none, none, none, none, none, none, none, none, none, none, none], [.long s0], x)).trans rfl
set_option maxRecDepth 100000 in
set_option maxHeartbeats 4000000 in
theorem bX1_eval_98 (d : Nat) (a1 : Int32) (a2 : Int32) (a3 : Int32) (a4 : Int32) (x : mj_X) : rX1_eval d (98, [some (.ref 0), some (.int a1), some (.int a2), some (.int a3), some (.int a4), none, none, none, none, none, none, none, none, none, none, none, none, none, none, none, none, none, none, none, none], [], x) = 
  if a4 < (23 : Int32) then rX1_eval d (192, [some (.ref 0), some (.int a1), some (.int a2), some (.int a3), some (.int a4), none, none, none, none, none, none, none, none, none, none, none, none, none, none, none, none, none, none, none, none], [], x)
  else 
   if (28 : Int32) < a4 then rX1_eval d (192, [some (.ref 0), some (.int a1), some (.int a2), some (.int a3), some (.int a4), none, none, none, none, none, none, none, none, none, none, none, none, none, none, none, none, none, none, none, none], [], x)
   else mj_rL (kX1 d 149 [.ref 0, .int a2] x) fun v2 x1 =>
    mj_rI (kX1 d 150 [.ref 0] x1) fun v4 x3 =>
    
    if v4 = 0 then mj_rL (kX1 d 149 [.ref 0, .int a3] x3) fun v6 x5 =>
     rX1_eval d (135, [some (.ref 0), some (.int a1), some (.int a2), some (.int a3), some (.int a4), some (.long v2), none, none, none, none, none, none, none, none, none, none, none, none, none, none, none, none, none, none, none], [.long v6], x5)
    else rX1_eval d (135, [some (.ref 0), some (.int a1), some (.int a2), some (.int a3), some (.int a4), some (.long v2), none, none, none, none, none, none, none, none, none, none, none, none, none, none, none, none, none, none, none], [.long (0 : Int64)], x3) := (mj_run_to (cd := cdX1) (rt := 2) (tab := tX1_eval) (cal := kX1 d) zX1_eval 44 (98, [some (.ref 0), some (.int a1), some (.int a2), some (.int a3), some (.int a4), none, none, none, none, none, none, none, none, none, none, none, none, none, none, none, none, none, none, none, none], [], x)).trans rfl
set_option maxRecDepth 100000 in
set_option maxHeartbeats 4000000 in
theorem bX1_eval_135 (d : Nat) (a1 : Int32) (a2 : Int32) (a3 : Int32) (a4 : Int32) (a5 : Int64) (s0 : Int64) (x : mj_X) : rX1_eval d (135, [some (.ref 0), some (.int a1), some (.int a2), some (.int a3), some (.int a4), some (.long a5), none, none, none, none, none, none, none, none, none, none, none, none, none, none, none, none, none, none, none], [.long s0], x) = mj_rI (kX1 d 150 [.ref 0] x) fun v2 x1 =>
  
  if v2 = 0 then mj_g a2 4000 (
   if a4 = (25 : Int32) then rX1_eval d (172, [some (.ref 0), some (.int a1), some (.int a2), some (.int a3), some (.int a4), some (.long a5), none, some (.long s0), none, none, none, none, none, none, none, none, none, none, none, none, none, none, none, none, none], [.long s0, .long a5, .int (x1.1 5 a2.toNatClampNeg), .int a4], x1)
   else 
    if a4 = (28 : Int32) then rX1_eval d (172, [some (.ref 0), some (.int a1), some (.int a2), some (.int a3), some (.int a4), some (.long a5), none, some (.long s0), none, none, none, none, none, none, none, none, none, none, none, none, none, none, none, none, none], [.long s0, .long a5, .int (x1.1 5 a2.toNatClampNeg), .int a4], x1)
    else mj_rI (kX1 d 131 [.int (x1.1 5 a2.toNatClampNeg), .long a5, .long s0, .int (-1 : Int32)] x1) fun v4 x3 =>
     mj_rI (kX1 d 132 [.int a4, .int v4] x3) fun v6 x5 =>
     
     if v6 = 0 then some (some (.long (0 : Int64)), x5)
     else some (some (.long (1 : Int64)), x5))
  else some (some (.long (0 : Int64)), x1) := (mj_run_to (cd := cdX1) (rt := 2) (tab := tX1_eval) (cal := kX1 d) zX1_eval 44 (135, [some (.ref 0), some (.int a1), some (.int a2), some (.int a3), some (.int a4), some (.long a5), none, none, none, none, none, none, none, none, none, none, none, none, none, none, none, none, none, none, none], [.long s0], x)).trans rfl
set_option maxRecDepth 100000 in
set_option maxHeartbeats 4000000 in
theorem bX1_eval_172 (d : Nat) (a1 : Int32) (a2 : Int32) (a3 : Int32) (a4 : Int32) (a5 : Int64) (a7 : Int64) (s0 : Int32) (s1 : Int32) (s2 : Int64) (s3 : Int64) (x : mj_X) : rX1_eval d (172, [some (.ref 0), some (.int a1), some (.int a2), some (.int a3), some (.int a4), some (.long a5), none, some (.long a7), none, none, none, none, none, none, none, none, none, none, none, none, none, none, none, none, none], [.long s3, .long s2, .int s1, .int s0], x) = mj_rI (kX1 d 131 [.int s1, .long s2, .long s3, .int (1 : Int32)] x) fun v2 x1 =>
  mj_rI (kX1 d 132 [.int s0, .int v2] x1) fun v4 x3 =>
  
  if v4 = 0 then some (some (.long (0 : Int64)), x3)
  else some (some (.long (1 : Int64)), x3) := (mj_run_to (cd := cdX1) (rt := 2) (tab := tX1_eval) (cal := kX1 d) zX1_eval 44 (172, [some (.ref 0), some (.int a1), some (.int a2), some (.int a3), some (.int a4), some (.long a5), none, some (.long a7), none, none, none, none, none, none, none, none, none, none, none, none, none, none, none, none, none], [.long s3, .long s2, .int s1, .int s0], x)).trans rfl
set_option maxRecDepth 100000 in
set_option maxHeartbeats 4000000 in
theorem bX1_eval_192 (d : Nat) (a1 : Int32) (a2 : Int32) (a3 : Int32) (a4 : Int32) (x : mj_X) : rX1_eval d (192, [some (.ref 0), some (.int a1), some (.int a2), some (.int a3), some (.int a4), none, none, none, none, none, none, none, none, none, none, none, none, none, none, none, none, none, none, none, none], [], x) = 
  if a4 < (35 : Int32) then rX1_eval d (219, [some (.ref 0), some (.int a1), some (.int a2), some (.int a3), some (.int a4), none, none, none, none, none, none, none, none, none, none, none, none, none, none, none, none, none, none, none, none], [], x)
  else 
   if (45 : Int32) < a4 then rX1_eval d (219, [some (.ref 0), some (.int a1), some (.int a2), some (.int a3), some (.int a4), none, none, none, none, none, none, none, none, none, none, none, none, none, none, none, none, none, none, none, none], [], x)
   else mj_rL (kX1 d 151 [.ref 0, .int a2, .int (a4 - (25 : Int32)), .int a3, .int (0 : Int32)] x) fun v2 x1 =>
    some (some (.long v2), x1) := (mj_run_to (cd := cdX1) (rt := 2) (tab := tX1_eval) (cal := kX1 d) zX1_eval 44 (192, [some (.ref 0), some (.int a1), some (.int a2), some (.int a3), some (.int a4), none, none, none, none, none, none, none, none, none, none, none, none, none, none, none, none, none, none, none, none], [], x)).trans rfl
set_option maxRecDepth 100000 in
set_option maxHeartbeats 4000000 in
theorem bX1_eval_219 (d : Nat) (a1 : Int32) (a2 : Int32) (a3 : Int32) (a4 : Int32) (x : mj_X) : rX1_eval d (219, [some (.ref 0), some (.int a1), some (.int a2), some (.int a3), some (.int a4), none, none, none, none, none, none, none, none, none, none, none, none, none, none, none, none, none, none, none, none], [], x) = mj_sw a4 1 (661) [207, 210, 223, 229, 661, 245, 256, 285, 346, 661, 661, 661, 661, 661, 661, 661, 661, 661, 661, 661, 353, 383, 661, 661, 661, 661, 661, 661, 414, 414, 488, 504, 661, 549, 661, 661, 661, 661, 661, 661, 661, 661, 661, 661, 661, 579, 605, 654] fun off => mj_j 221 off fun t => rX1_eval d (t, [some (.ref 0), some (.int a1), some (.int a2), some (.int a3), some (.int a4), none, none, none, none, none, none, none, none, none, none, none, none, none, none, none, none, none, none, none, none], [], x) := (mj_run_to (cd := cdX1) (rt := 2) (tab := tX1_eval) (cal := kX1 d) zX1_eval 44 (219, [some (.ref 0), some (.int a1), some (.int a2), some (.int a3), some (.int a4), none, none, none, none, none, none, none, none, none, none, none, none, none, none, none, none, none, none, none, none], [], x)).trans rfl
set_option maxRecDepth 100000 in
set_option maxHeartbeats 4000000 in
theorem bX1_eval_428 (d : Nat) (a1 : Int32) (a2 : Int32) (a3 : Int32) (a4 : Int32) (x : mj_X) : rX1_eval d (428, [some (.ref 0), some (.int a1), some (.int a2), some (.int a3), some (.int a4), none, none, none, none, none, none, none, none, none, none, none, none, none, none, none, none, none, none, none, none], [], x) = some (some (.long a2.toInt64), x) := (mj_run_to (cd := cdX1) (rt := 2) (tab := tX1_eval) (cal := kX1 d) zX1_eval 44 (428, [some (.ref 0), some (.int a1), some (.int a2), some (.int a3), some (.int a4), none, none, none, none, none, none, none, none, none, none, none, none, none, none, none, none, none, none, none, none], [], x)).trans rfl
set_option maxRecDepth 100000 in
set_option maxHeartbeats 4000000 in
theorem bX1_eval_431 (d : Nat) (a1 : Int32) (a2 : Int32) (a3 : Int32) (a4 : Int32) (x : mj_X) : rX1_eval d (431, [some (.ref 0), some (.int a1), some (.int a2), some (.int a3), some (.int a4), none, none, none, none, none, none, none, none, none, none, none, none, none, none, none, none, none, none, none, none], [], x) = some (some (.long ((a2.toInt64 <<< ((32 : Int32).toInt64 &&& 63)) ||| (a3.toInt64 &&& (4294967295 : Int64)))), x) := (mj_run_to (cd := cdX1) (rt := 2) (tab := tX1_eval) (cal := kX1 d) zX1_eval 44 (431, [some (.ref 0), some (.int a1), some (.int a2), some (.int a3), some (.int a4), none, none, none, none, none, none, none, none, none, none, none, none, none, none, none, none, none, none, none, none], [], x)).trans rfl
set_option maxRecDepth 100000 in
set_option maxHeartbeats 4000000 in
theorem bX1_eval_444 (d : Nat) (a1 : Int32) (a2 : Int32) (a3 : Int32) (a4 : Int32) (x : mj_X) : rX1_eval d (444, [some (.ref 0), some (.int a1), some (.int a2), some (.int a3), some (.int a4), none, none, none, none, none, none, none, none, none, none, none, none, none, none, none, none, none, none, none, none], [], x) = mj_rI (kX1 d 67 [.int a2] x) fun v2 x1 =>
  some (some (.long v2.toInt64), x1) := (mj_run_to (cd := cdX1) (rt := 2) (tab := tX1_eval) (cal := kX1 d) zX1_eval 44 (444, [some (.ref 0), some (.int a1), some (.int a2), some (.int a3), some (.int a4), none, none, none, none, none, none, none, none, none, none, none, none, none, none, none, none, none, none, none, none], [], x)).trans rfl
set_option maxRecDepth 100000 in
set_option maxHeartbeats 4000000 in
theorem bX1_eval_450 (d : Nat) (a1 : Int32) (a2 : Int32) (a3 : Int32) (a4 : Int32) (x : mj_X) : rX1_eval d (450, [some (.ref 0), some (.int a1), some (.int a2), some (.int a3), some (.int a4), none, none, none, none, none, none, none, none, none, none, none, none, none, none, none, none, none, none, none, none], [], x) = mj_rL (kX1 d 69 [.long ((a2.toInt64 <<< ((32 : Int32).toInt64 &&& 63)) ||| (a3.toInt64 &&& (4294967295 : Int64)))] x) fun v2 x1 =>
  some (some (.long v2), x1) := (mj_run_to (cd := cdX1) (rt := 2) (tab := tX1_eval) (cal := kX1 d) zX1_eval 44 (450, [some (.ref 0), some (.int a1), some (.int a2), some (.int a3), some (.int a4), none, none, none, none, none, none, none, none, none, none, none, none, none, none, none, none, none, none, none, none], [], x)).trans rfl
set_option maxRecDepth 100000 in
set_option maxHeartbeats 4000000 in
theorem bX1_eval_466 (d : Nat) (a1 : Int32) (a2 : Int32) (a3 : Int32) (a4 : Int32) (x : mj_X) : rX1_eval d (466, [some (.ref 0), some (.int a1), some (.int a2), some (.int a3), some (.int a4), none, none, none, none, none, none, none, none, none, none, none, none, none, none, none, none, none, none, none, none], [], x) = mj_rI (kX1 d 152 [.ref 0, .int a2] x) fun v2 x1 =>
  mj_g v2 44000 (some (some (.long (x1.2 100 v2.toNatClampNeg)), x1)) := (mj_run_to (cd := cdX1) (rt := 2) (tab := tX1_eval) (cal := kX1 d) zX1_eval 44 (466, [some (.ref 0), some (.int a1), some (.int a2), some (.int a3), some (.int a4), none, none, none, none, none, none, none, none, none, none, none, none, none, none, none, none, none, none, none, none], [], x)).trans rfl
set_option maxRecDepth 100000 in
set_option maxHeartbeats 4000000 in
theorem bX1_eval_477 (d : Nat) (a1 : Int32) (a2 : Int32) (a3 : Int32) (a4 : Int32) (x : mj_X) : rX1_eval d (477, [some (.ref 0), some (.int a1), some (.int a2), some (.int a3), some (.int a4), none, none, none, none, none, none, none, none, none, none, none, none, none, none, none, none, none, none, none, none], [], x) = mj_rL (kX1 d 149 [.ref 0, .int a3] x) fun v2 x1 =>
  mj_rI (kX1 d 150 [.ref 0] x1) fun v4 x3 =>
  
  if v4 = 0 then mj_rI (kX1 d 152 [.ref 0, .int a2] x3) fun v6 x5 =>
   mj_g v6 44000 (some (some (.long v2), (mj_wL x5 100 v6.toNatClampNeg v2)))
  else some (some (.long v2), x3) := (mj_run_to (cd := cdX1) (rt := 2) (tab := tX1_eval) (cal := kX1 d) zX1_eval 44 (477, [some (.ref 0), some (.int a1), some (.int a2), some (.int a3), some (.int a4), none, none, none, none, none, none, none, none, none, none, none, none, none, none, none, none, none, none, none, none], [], x)).trans rfl
set_option maxRecDepth 100000 in
set_option maxHeartbeats 4000000 in
theorem bX1_eval_506 (d : Nat) (a1 : Int32) (a2 : Int32) (a3 : Int32) (a4 : Int32) (x : mj_X) : rX1_eval d (506, [some (.ref 0), some (.int a1), some (.int a2), some (.int a3), some (.int a4), none, none, none, none, none, none, none, none, none, none, none, none, none, none, none, none, none, none, none, none], [], x) = mj_rL (kX1 d 149 [.ref 0, .int a2] x) fun v2 x1 =>
  mj_rI (kX1 d 150 [.ref 0] x1) fun v4 x3 =>
  
  if v4 = 0 then mj_rL (kX1 d 149 [.ref 0, .int a3] x3) fun v6 x5 =>
   rX1_eval d (529, [some (.ref 0), some (.int a1), some (.int a2), some (.int a3), some (.int a4), none, none, some (.long v2), none, none, none, none, none, none, none, none, none, none, none, none, none, none, none, none, none], [.long v6], x5)
  else rX1_eval d (529, [some (.ref 0), some (.int a1), some (.int a2), some (.int a3), some (.int a4), none, none, some (.long v2), none, none, none, none, none, none, none, none, none, none, none, none, none, none, none, none, none], [.long (0 : Int64)], x3) := (mj_run_to (cd := cdX1) (rt := 2) (tab := tX1_eval) (cal := kX1 d) zX1_eval 44 (506, [some (.ref 0), some (.int a1), some (.int a2), some (.int a3), some (.int a4), none, none, none, none, none, none, none, none, none, none, none, none, none, none, none, none, none, none, none, none], [], x)).trans rfl
set_option maxRecDepth 100000 in
set_option maxHeartbeats 4000000 in
theorem bX1_eval_529 (d : Nat) (a1 : Int32) (a2 : Int32) (a3 : Int32) (a4 : Int32) (a7 : Int64) (s0 : Int64) (x : mj_X) : rX1_eval d (529, [some (.ref 0), some (.int a1), some (.int a2), some (.int a3), some (.int a4), none, none, some (.long a7), none, none, none, none, none, none, none, none, none, none, none, none, none, none, none, none, none], [.long s0], x) = mj_rI (kX1 d 150 [.ref 0] x) fun v2 x1 =>
  
  if v2 = 0 then mj_rI (kX1 d 137 [.ref 0, .long a7, .long s0] x1) fun v4 x3 =>
   
   if v4 = 0 then some (some (.long (0 : Int64)), x3)
   else mj_rI (kX1 d 138 [.ref 0, .long a7, .long s0] x3) fun v6 x5 =>
    mj_g v6 20001 (some (some (.long (x5.2 87 v6.toNatClampNeg)), x5))
  else some (some (.long (0 : Int64)), x1) := (mj_run_to (cd := cdX1) (rt := 2) (tab := tX1_eval) (cal := kX1 d) zX1_eval 44 (529, [some (.ref 0), some (.int a1), some (.int a2), some (.int a3), some (.int a4), none, none, some (.long a7), none, none, none, none, none, none, none, none, none, none, none, none, none, none, none, none, none], [.long s0], x)).trans rfl
set_option maxRecDepth 100000 in
set_option maxHeartbeats 4000000 in
theorem bX1_eval_567 (d : Nat) (a1 : Int32) (a2 : Int32) (a3 : Int32) (a4 : Int32) (x : mj_X) : rX1_eval d (567, [some (.ref 0), some (.int a1), some (.int a2), some (.int a3), some (.int a4), none, none, none, none, none, none, none, none, none, none, none, none, none, none, none, none, none, none, none, none], [], x) = mj_rL (kX1 d 154 [.ref 0, .int a2, .int a3] x) fun v2 x1 =>
  some (some (.long v2), x1) := (mj_run_to (cd := cdX1) (rt := 2) (tab := tX1_eval) (cal := kX1 d) zX1_eval 44 (567, [some (.ref 0), some (.int a1), some (.int a2), some (.int a3), some (.int a4), none, none, none, none, none, none, none, none, none, none, none, none, none, none, none, none, none, none, none, none], [], x)).trans rfl
set_option maxRecDepth 100000 in
set_option maxHeartbeats 4000000 in
theorem bX1_eval_574 (d : Nat) (a1 : Int32) (a2 : Int32) (a3 : Int32) (a4 : Int32) (x : mj_X) : rX1_eval d (574, [some (.ref 0), some (.int a1), some (.int a2), some (.int a3), some (.int a4), none, none, none, none, none, none, none, none, none, none, none, none, none, none, none, none, none, none, none, none], [], x) = mj_rL (kX1 d 149 [.ref 0, .int a2] x) fun v2 x1 =>
  mj_rI (kX1 d 150 [.ref 0] x1) fun v4 x3 =>
  
  if v4 = 0 then mj_g a2 4000 (mj_rL (kX1 d 122 [.int (x3.1 5 a2.toNatClampNeg), .long v2] x3) fun v6 x5 =>
   some (some (.long v6), x5))
  else some (some (.long (0 : Int64)), x3) := (mj_run_to (cd := cdX1) (rt := 2) (tab := tX1_eval) (cal := kX1 d) zX1_eval 44 (574, [some (.ref 0), some (.int a1), some (.int a2), some (.int a3), some (.int a4), none, none, none, none, none, none, none, none, none, none, none, none, none, none, none, none, none, none, none, none], [], x)).trans rfl
set_option maxRecDepth 100000 in
set_option maxHeartbeats 4000000 in
theorem bX1_eval_604 (d : Nat) (a1 : Int32) (a2 : Int32) (a3 : Int32) (a4 : Int32) (x : mj_X) : rX1_eval d (604, [some (.ref 0), some (.int a1), some (.int a2), some (.int a3), some (.int a4), none, none, none, none, none, none, none, none, none, none, none, none, none, none, none, none, none, none, none, none], [], x) = mj_rL (kX1 d 149 [.ref 0, .int a3] x) fun v2 x1 =>
  mj_rI (kX1 d 150 [.ref 0] x1) fun v4 x3 =>
  
  if v4 = 0 then mj_g a3 4000 (mj_rL (kX1 d 130 [.int (x3.1 5 a3.toNatClampNeg), .int a2, .long v2] x3) fun v6 x5 =>
   some (some (.long v6), x5))
  else some (some (.long (0 : Int64)), x3) := (mj_run_to (cd := cdX1) (rt := 2) (tab := tX1_eval) (cal := kX1 d) zX1_eval 44 (604, [some (.ref 0), some (.int a1), some (.int a2), some (.int a3), some (.int a4), none, none, none, none, none, none, none, none, none, none, none, none, none, none, none, none, none, none, none, none], [], x)).trans rfl
set_option maxRecDepth 100000 in
set_option maxHeartbeats 4000000 in
theorem bX1_eval_635 (d : Nat) (a1 : Int32) (a2 : Int32) (a3 : Int32) (a4 : Int32) (x : mj_X) : rX1_eval d (635, [some (.ref 0), some (.int a1), some (.int a2), some (.int a3), some (.int a4), none, none, none, none, none, none, none, none, none, none, none, none, none, none, none, none, none, none, none, none], [], x) = mj_rL (kX1 d 149 [.ref 0, .int a2] x) fun v2 x1 =>
  mj_rI (kX1 d 150 [.ref 0] x1) fun v4 x3 =>
  
  if v4 = 0 then 
   if a4 = (29 : Int32) then rX1_eval d (661, [some (.ref 0), some (.int a1), some (.int a2), some (.int a3), some (.int a4), none, none, none, none, none, none, none, none, none, none, some (.long v2), none, none, none, none, none, none, none, none, none], [.int (1 : Int32)], x3)
   else rX1_eval d (661, [some (.ref 0), some (.int a1), some (.int a2), some (.int a3), some (.int a4), none, none, none, none, none, none, none, none, none, none, some (.long v2), none, none, none, none, none, none, none, none, none], [.int (0 : Int32)], x3)
  else rX1_eval d (676, [some (.ref 0), some (.int a1), some (.int a2), some (.int a3), some (.int a4), none, none, none, none, none, none, none, none, none, none, some (.long v2), none, none, none, none, none, none, none, none, none], [], x3) := (mj_run_to (cd := cdX1) (rt := 2) (tab := tX1_eval) (cal := kX1 d) zX1_eval 44 (635, [some (.ref 0), some (.int a1), some (.int a2), some (.int a3), some (.int a4), none, none, none, none, none, none, none, none, none, none, none, none, none, none, none, none, none, none, none, none], [], x)).trans rfl
set_option maxRecDepth 100000 in
set_option maxHeartbeats 4000000 in
theorem bX1_eval_661 (d : Nat) (a1 : Int32) (a2 : Int32) (a3 : Int32) (a4 : Int32) (a15 : Int64) (s0 : Int32) (x : mj_X) : rX1_eval d (661, [some (.ref 0), some (.int a1), some (.int a2), some (.int a3), some (.int a4), none, none, none, none, none, none, none, none, none, none, some (.long a15), none, none, none, none, none, none, none, none, none], [.int s0], x) = 
  if (lg_cmp a15 (0 : Int64)) = 0 then rX1_eval d (673, [some (.ref 0), some (.int a1), some (.int a2), some (.int a3), some (.int a4), none, none, none, none, none, none, none, none, none, none, some (.long a15), none, none, none, none, none, none, none, none, none], [.int (1 : Int32), .int s0], x)
  else rX1_eval d (673, [some (.ref 0), some (.int a1), some (.int a2), some (.int a3), some (.int a4), none, none, none, none, none, none, none, none, none, none, some (.long a15), none, none, none, none, none, none, none, none, none], [.int (0 : Int32), .int s0], x) := (mj_run_to (cd := cdX1) (rt := 2) (tab := tX1_eval) (cal := kX1 d) zX1_eval 44 (661, [some (.ref 0), some (.int a1), some (.int a2), some (.int a3), some (.int a4), none, none, none, none, none, none, none, none, none, none, some (.long a15), none, none, none, none, none, none, none, none, none], [.int s0], x)).trans rfl
set_option maxRecDepth 100000 in
set_option maxHeartbeats 4000000 in
theorem bX1_eval_673 (d : Nat) (a1 : Int32) (a2 : Int32) (a3 : Int32) (a4 : Int32) (a15 : Int64) (s0 : Int32) (s1 : Int32) (x : mj_X) : rX1_eval d (673, [some (.ref 0), some (.int a1), some (.int a2), some (.int a3), some (.int a4), none, none, none, none, none, none, none, none, none, none, some (.long a15), none, none, none, none, none, none, none, none, none], [.int s1, .int s0], x) = 
  if s0 = s1 then rX1_eval d (676, [some (.ref 0), some (.int a1), some (.int a2), some (.int a3), some (.int a4), none, none, none, none, none, none, none, none, none, none, some (.long a15), none, none, none, none, none, none, none, none, none], [], x)
  else mj_rL (kX1 d 149 [.ref 0, .int a3] x) fun v2 x1 =>
   
   if (lg_cmp v2 (0 : Int64)) = 0 then some (some (.long (0 : Int64)), x1)
   else some (some (.long (1 : Int64)), x1) := (mj_run_to (cd := cdX1) (rt := 2) (tab := tX1_eval) (cal := kX1 d) zX1_eval 44 (673, [some (.ref 0), some (.int a1), some (.int a2), some (.int a3), some (.int a4), none, none, none, none, none, none, none, none, none, none, some (.long a15), none, none, none, none, none, none, none, none, none], [.int s1, .int s0], x)).trans rfl
set_option maxRecDepth 100000 in
set_option maxHeartbeats 4000000 in
theorem bX1_eval_676 (d : Nat) (a1 : Int32) (a2 : Int32) (a3 : Int32) (a4 : Int32) (a15 : Int64) (x : mj_X) : rX1_eval d (676, [some (.ref 0), some (.int a1), some (.int a2), some (.int a3), some (.int a4), none, none, none, none, none, none, none, none, none, none, some (.long a15), none, none, none, none, none, none, none, none, none], [], x) = 
  if (lg_cmp a15 (0 : Int64)) = 0 then some (some (.long (0 : Int64)), x)
  else some (some (.long (1 : Int64)), x) := (mj_run_to (cd := cdX1) (rt := 2) (tab := tX1_eval) (cal := kX1 d) zX1_eval 44 (676, [some (.ref 0), some (.int a1), some (.int a2), some (.int a3), some (.int a4), none, none, none, none, none, none, none, none, none, none, some (.long a15), none, none, none, none, none, none, none, none, none], [], x)).trans rfl
set_option maxRecDepth 100000 in
set_option maxHeartbeats 4000000 in
theorem bX1_eval_709 (d : Nat) (a1 : Int32) (a2 : Int32) (a3 : Int32) (a4 : Int32) (x : mj_X) : rX1_eval d (709, [some (.ref 0), some (.int a1), some (.int a2), some (.int a3), some (.int a4), none, none, none, none, none, none, none, none, none, none, none, none, none, none, none, none, none, none, none, none], [], x) = mj_rL (kX1 d 149 [.ref 0, .int a2] x) fun v2 x1 =>
  
  if (lg_cmp v2 (0 : Int64)) = 0 then some (some (.long (1 : Int64)), x1)
  else some (some (.long (0 : Int64)), x1) := (mj_run_to (cd := cdX1) (rt := 2) (tab := tX1_eval) (cal := kX1 d) zX1_eval 44 (709, [some (.ref 0), some (.int a1), some (.int a2), some (.int a3), some (.int a4), none, none, none, none, none, none, none, none, none, none, none, none, none, none, none, none, none, none, none, none], [], x)).trans rfl
set_option maxRecDepth 100000 in
set_option maxHeartbeats 4000000 in
theorem bX1_eval_725 (d : Nat) (a1 : Int32) (a2 : Int32) (a3 : Int32) (a4 : Int32) (x : mj_X) : rX1_eval d (725, [some (.ref 0), some (.int a1), some (.int a2), some (.int a3), some (.int a4), none, none, none, none, none, none, none, none, none, none, none, none, none, none, none, none, none, none, none, none], [], x) = mj_rL (kX1 d 149 [.ref 0, .int a2] x) fun v2 x1 =>
  mj_rI (kX1 d 150 [.ref 0] x1) fun v4 x3 =>
  
  if v4 = 0 then 
   if (lg_cmp v2 (0 : Int64)) = 0 then mj_g a3 4000 (mj_rL (kX1 d 149 [.ref 0, .int (x3.1 4 a3.toNatClampNeg)] x3) fun v6 x5 =>
    some (some (.long v6), x5))
   else mj_g a3 4000 (mj_rL (kX1 d 149 [.ref 0, .int (x3.1 3 a3.toNatClampNeg)] x3) fun v8 x7 =>
    some (some (.long v8), x7))
  else some (some (.long (0 : Int64)), x3) := (mj_run_to (cd := cdX1) (rt := 2) (tab := tX1_eval) (cal := kX1 d) zX1_eval 44 (725, [some (.ref 0), some (.int a1), some (.int a2), some (.int a3), some (.int a4), none, none, none, none, none, none, none, none, none, none, none, none, none, none, none, none, none, none, none, none], [], x)).trans rfl
set_option maxRecDepth 100000 in
set_option maxHeartbeats 4000000 in
theorem bX1_eval_770 (d : Nat) (a1 : Int32) (a2 : Int32) (a3 : Int32) (a4 : Int32) (x : mj_X) : rX1_eval d (770, [some (.ref 0), some (.int a1), some (.int a2), some (.int a3), some (.int a4), none, none, none, none, none, none, none, none, none, none, none, none, none, none, none, none, none, none, none, none], [], x) = 
  if (a3 - a3 / (2 : Int32) * (2 : Int32)) = 0 then rX1_eval d (785, [some (.ref 0), some (.int a1), some (.int a2), some (.int a3), some (.int a4), none, none, none, none, none, none, none, none, none, none, none, none, none, none, none, none, none, none, none, none], [.int (10 : Int32), .int a2, .ref 0], x)
  else rX1_eval d (785, [some (.ref 0), some (.int a1), some (.int a2), some (.int a3), some (.int a4), none, none, none, none, none, none, none, none, none, none, none, none, none, none, none, none, none, none, none, none], [.int (11 : Int32), .int a2, .ref 0], x) := (mj_run_to (cd := cdX1) (rt := 2) (tab := tX1_eval) (cal := kX1 d) zX1_eval 44 (770, [some (.ref 0), some (.int a1), some (.int a2), some (.int a3), some (.int a4), none, none, none, none, none, none, none, none, none, none, none, none, none, none, none, none, none, none, none, none], [], x)).trans rfl
set_option maxRecDepth 100000 in
set_option maxHeartbeats 4000000 in
theorem bX1_eval_785 (d : Nat) (a1 : Int32) (a2 : Int32) (a3 : Int32) (a4 : Int32) (s1 : Int32) (s2 : Int32) (x : mj_X) : rX1_eval d (785, [some (.ref 0), some (.int a1), some (.int a2), some (.int a3), some (.int a4), none, none, none, none, none, none, none, none, none, none, none, none, none, none, none, none, none, none, none, none], [.int s2, .int s1, .ref 0], x) = 
  if a3 < (2 : Int32) then mj_rL (kX1 d 151 [.ref 0, .int s1, .int s2, .int (-1 : Int32), .int (0 : Int32)] x) fun v2 x1 =>
   some (some (.long v2), x1)
  else mj_rL (kX1 d 151 [.ref 0, .int s1, .int s2, .int (-1 : Int32), .int (1 : Int32)] x) fun v4 x3 =>
   some (some (.long v4), x3) := (mj_run_to (cd := cdX1) (rt := 2) (tab := tX1_eval) (cal := kX1 d) zX1_eval 44 (785, [some (.ref 0), some (.int a1), some (.int a2), some (.int a3), some (.int a4), none, none, none, none, none, none, none, none, none, none, none, none, none, none, none, none, none, none, none, none], [.int s2, .int s1, .ref 0], x)).trans rfl
set_option maxRecDepth 100000 in
set_option maxHeartbeats 4000000 in
theorem bX1_eval_800 (d : Nat) (a1 : Int32) (a2 : Int32) (a3 : Int32) (a4 : Int32) (x : mj_X) : rX1_eval d (800, [some (.ref 0), some (.int a1), some (.int a2), some (.int a3), some (.int a4), none, none, none, none, none, none, none, none, none, none, none, none, none, none, none, none, none, none, none, none], [], x) = mj_rL (kX1 d 149 [.ref 0, .int a3] x) fun v2 x1 =>
  mj_rI (kX1 d 150 [.ref 0] x1) fun v4 x3 =>
  
  if v4 = 0 then mj_rL (kX1 d 111 [.ref 0, .int a2, .long v2] x3) fun v6 x5 =>
   some (some (.long v6), x5)
  else some (some (.long (0 : Int64)), x3) := (mj_run_to (cd := cdX1) (rt := 2) (tab := tX1_eval) (cal := kX1 d) zX1_eval 44 (800, [some (.ref 0), some (.int a1), some (.int a2), some (.int a3), some (.int a4), none, none, none, none, none, none, none, none, none, none, none, none, none, none, none, none, none, none, none, none], [], x)).trans rfl
set_option maxRecDepth 100000 in
set_option maxHeartbeats 4000000 in
theorem bX1_eval_826 (d : Nat) (a1 : Int32) (a2 : Int32) (a3 : Int32) (a4 : Int32) (x : mj_X) : rX1_eval d (826, [some (.ref 0), some (.int a1), some (.int a2), some (.int a3), some (.int a4), none, none, none, none, none, none, none, none, none, none, none, none, none, none, none, none, none, none, none, none], [], x) = mj_rL (kX1 d 149 [.ref 0, .int a2] x) fun v2 x1 =>
  mj_rI (kX1 d 150 [.ref 0] x1) fun v4 x3 =>
  
  if v4 = 0 then 
   if (lg_cmp v2 (0 : Int64)) = 0 then rX1_eval d (852, [some (.ref 0), some (.int a1), some (.int a2), some (.int a3), some (.int a4), none, none, none, none, none, none, none, none, none, none, none, none, none, none, none, none, none, none, some (.long v2), none], [], (mj_wI x3 0 79 (2 : Int32)))
   else rX1_eval d (852, [some (.ref 0), some (.int a1), some (.int a2), some (.int a3), some (.int a4), none, none, none, none, none, none, none, none, none, none, none, none, none, none, none, none, none, none, some (.long v2), none], [], x3)
  else rX1_eval d (852, [some (.ref 0), some (.int a1), some (.int a2), some (.int a3), some (.int a4), none, none, none, none, none, none, none, none, none, none, none, none, none, none, none, none, none, none, some (.long v2), none], [], x3) := (mj_run_to (cd := cdX1) (rt := 2) (tab := tX1_eval) (cal := kX1 d) zX1_eval 44 (826, [some (.ref 0), some (.int a1), some (.int a2), some (.int a3), some (.int a4), none, none, none, none, none, none, none, none, none, none, none, none, none, none, none, none, none, none, none, none], [], x)).trans rfl
set_option maxRecDepth 100000 in
set_option maxHeartbeats 4000000 in
theorem bX1_eval_852 (d : Nat) (a1 : Int32) (a2 : Int32) (a3 : Int32) (a4 : Int32) (a23 : Int64) (x : mj_X) : rX1_eval d (852, [some (.ref 0), some (.int a1), some (.int a2), some (.int a3), some (.int a4), none, none, none, none, none, none, none, none, none, none, none, none, none, none, none, none, none, none, some (.long a23), none], [], x) = mj_rI (kX1 d 150 [.ref 0] x) fun v2 x1 =>
  
  if v2 = 0 then mj_g (a23.toInt32 - (1 : Int32)) 100020 (some (some (.long (x1.1 85 (a23.toInt32 - (1 : Int32)).toNatClampNeg).toInt64), x1))
  else some (some (.long (0 : Int64)), x1) := (mj_run_to (cd := cdX1) (rt := 2) (tab := tX1_eval) (cal := kX1 d) zX1_eval 44 (852, [some (.ref 0), some (.int a1), some (.int a2), some (.int a3), some (.int a4), none, none, none, none, none, none, none, none, none, none, none, none, none, none, none, none, none, none, some (.long a23), none], [], x)).trans rfl
set_option maxRecDepth 100000 in
set_option maxHeartbeats 4000000 in
theorem bX1_eval_875 (d : Nat) (a1 : Int32) (a2 : Int32) (a3 : Int32) (a4 : Int32) (x : mj_X) : rX1_eval d (875, [some (.ref 0), some (.int a1), some (.int a2), some (.int a3), some (.int a4), none, none, none, none, none, none, none, none, none, none, none, none, none, none, none, none, none, none, none, none], [], x) = mj_rL (kX1 d 155 [.ref 0, .int a2, .int a3] x) fun v2 x1 =>
  some (some (.long v2), x1) := (mj_run_to (cd := cdX1) (rt := 2) (tab := tX1_eval) (cal := kX1 d) zX1_eval 44 (875, [some (.ref 0), some (.int a1), some (.int a2), some (.int a3), some (.int a4), none, none, none, none, none, none, none, none, none, none, none, none, none, none, none, none, none, none, none, none], [], x)).trans rfl
set_option maxRecDepth 100000 in
set_option maxHeartbeats 4000000 in
theorem bX1_eval_882 (d : Nat) (a1 : Int32) (a2 : Int32) (a3 : Int32) (a4 : Int32) (x : mj_X) : rX1_eval d (882, [some (.ref 0), some (.int a1), some (.int a2), some (.int a3), some (.int a4), none, none, none, none, none, none, none, none, none, none, none, none, none, none, none, none, none, none, none, none], [], x) = some (some (.long (0 : Int64)), x) := (mj_run_to (cd := cdX1) (rt := 2) (tab := tX1_eval) (cal := kX1 d) zX1_eval 44 (882, [some (.ref 0), some (.int a1), some (.int a2), some (.int a3), some (.int a4), none, none, none, none, none, none, none, none, none, none, none, none, none, none, none, none, none, none, none, none], [], x)).trans rfl
noncomputable abbrev rX1_isOver (d : Nat) : mj_S → mj_R := mj_run cdX1 5 tX1_isOver (kX1 d)
def zX1_isOver (p : Nat) : Bool := false
set_option maxRecDepth 100000 in
set_option maxHeartbeats 4000000 in
theorem eX1_isOver (d : Nat)  (x : mj_X) : kX1 (d + 1) 150 [.ref 0] x = 
  if (x.1 0 79) = 0 then 
   if (x.1 0 78) ≤ (100000 : Int32) then some (some (.int (0 : Int32)), x)
   else some (some (.int (1 : Int32)), x)
  else some (some (.int (1 : Int32)), x) := (mj_run_to (cd := cdX1) (rt := 5) (tab := tX1_isOver) (cal := kX1 d) zX1_isOver 17 (0, [some (.ref 0)], [], x)).trans rfl
noncomputable abbrev rX1_change (d : Nat) : mj_S → mj_R := mj_run cdX1 2 tX1_change (kX1 d)
def zX1_change (p : Nat) : Bool := bif Nat.blt p 135 then (bif Nat.blt p 82 then (bif Nat.blt p 54 then (bif Nat.beq p 33 then true else false) else (bif Nat.beq p 54 then true else false)) else (bif Nat.blt p 109 then (bif Nat.beq p 82 then true else false) else (bif Nat.beq p 109 then true else false))) else (bif Nat.blt p 179 then (bif Nat.blt p 159 then (bif Nat.beq p 135 then true else false) else (bif Nat.beq p 159 then true else false)) else (bif Nat.blt p 254 then (bif Nat.beq p 179 then true else false) else (bif Nat.beq p 254 then true else false)))
set_option maxRecDepth 100000 in
set_option maxHeartbeats 4000000 in
theorem eX1_change (d : Nat) (a1 : Int32) (a2 : Int32) (a3 : Int32) (a4 : Int32) (x : mj_X) : kX1 (d + 1) 151 [.ref 0, .int a1, .int a2, .int a3, .int a4] x = mj_rI (kX1 d 148 [.ref 0] x) fun v2 x1 =>
  
  if v2 = 0 then some (some (.long (0 : Int64)), x1)
  else mj_g a1 4000 (mj_g a1 4000 (
   if (x1.1 2 a1.toNatClampNeg) = (6 : Int32) then rX1_change d (33, [some (.ref 0), some (.int a1), some (.int a2), some (.int a3), some (.int a4), some (.int (x1.1 5 a1.toNatClampNeg)), none, none, none, none, none, none, none, none, none, none, none, none], [.int (1 : Int32)], x1)
   else rX1_change d (33, [some (.ref 0), some (.int a1), some (.int a2), some (.int a3), some (.int a4), some (.int (x1.1 5 a1.toNatClampNeg)), none, none, none, none, none, none, none, none, none, none, none, none], [.int (0 : Int32)], x1))) := (mj_run_to (cd := cdX1) (rt := 2) (tab := tX1_change) (cal := kX1 d) zX1_change 52 (0, [some (.ref 0), some (.int a1), some (.int a2), some (.int a3), some (.int a4), none, none, none, none, none, none, none, none, none, none, none, none, none], [], x)).trans rfl
set_option maxRecDepth 100000 in
set_option maxHeartbeats 4000000 in
theorem bX1_change_33 (d : Nat) (a1 : Int32) (a2 : Int32) (a3 : Int32) (a4 : Int32) (a5 : Int32) (s0 : Int32) (x : mj_X) : rX1_change d (33, [some (.ref 0), some (.int a1), some (.int a2), some (.int a3), some (.int a4), some (.int a5), none, none, none, none, none, none, none, none, none, none, none, none], [.int s0], x) = 
  if s0 = 0 then mj_g a1 4000 (mj_rL (kX1 d 149 [.ref 0, .int (x.1 3 a1.toNatClampNeg)] x) fun v2 x1 =>
   rX1_change d (54, [some (.ref 0), some (.int a1), some (.int a2), some (.int a3), some (.int a4), some (.int a5), some (.int s0), none, none, none, none, none, none, none, none, none, none, none], [.long v2], x1))
  else rX1_change d (54, [some (.ref 0), some (.int a1), some (.int a2), some (.int a3), some (.int a4), some (.int a5), some (.int s0), none, none, none, none, none, none, none, none, none, none, none], [.long (0 : Int64)], x) := (mj_run_to (cd := cdX1) (rt := 2) (tab := tX1_change) (cal := kX1 d) zX1_change 52 (33, [some (.ref 0), some (.int a1), some (.int a2), some (.int a3), some (.int a4), some (.int a5), none, none, none, none, none, none, none, none, none, none, none, none], [.int s0], x)).trans rfl
set_option maxRecDepth 100000 in
set_option maxHeartbeats 4000000 in
theorem bX1_change_54 (d : Nat) (a1 : Int32) (a2 : Int32) (a3 : Int32) (a4 : Int32) (a5 : Int32) (a6 : Int32) (s0 : Int64) (x : mj_X) : rX1_change d (54, [some (.ref 0), some (.int a1), some (.int a2), some (.int a3), some (.int a4), some (.int a5), some (.int a6), none, none, none, none, none, none, none, none, none, none, none], [.long s0], x) = 
  if a6 = 0 then mj_rI (kX1 d 150 [.ref 0] x) fun v2 x1 =>
   
   if v2 = 0 then mj_g a1 4000 (mj_rL (kX1 d 149 [.ref 0, .int (x1.1 4 a1.toNatClampNeg)] x1) fun v4 x3 =>
    rX1_change d (82, [some (.ref 0), some (.int a1), some (.int a2), some (.int a3), some (.int a4), some (.int a5), some (.int a6), some (.long s0), none, none, none, none, none, none, none, none, none, none], [.long v4], x3))
   else rX1_change d (82, [some (.ref 0), some (.int a1), some (.int a2), some (.int a3), some (.int a4), some (.int a5), some (.int a6), some (.long s0), none, none, none, none, none, none, none, none, none, none], [.long (0 : Int64)], x1)
  else rX1_change d (82, [some (.ref 0), some (.int a1), some (.int a2), some (.int a3), some (.int a4), some (.int a5), some (.int a6), some (.long s0), none, none, none, none, none, none, none, none, none, none], [.long (0 : Int64)], x) := (mj_run_to (cd := cdX1) (rt := 2) (tab := tX1_change) (cal := kX1 d) zX1_change 52 (54, [some (.ref 0), some (.int a1), some (.int a2), some (.int a3), some (.int a4), some (.int a5), some (.int a6), none, none, none, none, none, none, none, none, none, none, none], [.long s0], x)).trans rfl
set_option maxRecDepth 100000 in
set_option maxHeartbeats 4000000 in
theorem bX1_change_82 (d : Nat) (a1 : Int32) (a2 : Int32) (a3 : Int32) (a4 : Int32) (a5 : Int32) (a6 : Int32) (a7 : Int64) (s0 : Int64) (x : mj_X) : rX1_change d (82, [some (.ref 0), some (.int a1), some (.int a2), some (.int a3), some (.int a4), some (.int a5), some (.int a6), some (.long a7), none, none, none, none, none, none, none, none, none, none], [.long s0], x) = mj_rI (kX1 d 150 [.ref 0] x) fun v2 x1 =>
  
  if v2 = 0 then 
   if a6 = 0 then mj_rI (kX1 d 137 [.ref 0, .long a7, .long s0] x1) fun v4 x3 =>
    
    if v4 = 0 then some (some (.long (0 : Int64)), x3)
    else rX1_change d (109, [some (.ref 0), some (.int a1), some (.int a2), some (.int a3), some (.int a4), some (.int a5), some (.int a6), some (.long a7), none, some (.long s0), none, none, none, none, none, none, none, none], [], x3)
   else rX1_change d (109, [some (.ref 0), some (.int a1), some (.int a2), some (.int a3), some (.int a4), some (.int a5), some (.int a6), some (.long a7), none, some (.long s0), none, none, none, none, none, none, none, none], [], x1)
  else some (some (.long (0 : Int64)), x1) := (mj_run_to (cd := cdX1) (rt := 2) (tab := tX1_change) (cal := kX1 d) zX1_change 52 (82, [some (.ref 0), some (.int a1), some (.int a2), some (.int a3), some (.int a4), some (.int a5), some (.int a6), some (.long a7), none, none, none, none, none, none, none, none, none, none], [.long s0], x)).trans rfl
set_option maxRecDepth 100000 in
set_option maxHeartbeats 4000000 in
theorem bX1_change_109 (d : Nat) (a1 : Int32) (a2 : Int32) (a3 : Int32) (a4 : Int32) (a5 : Int32) (a6 : Int32) (a7 : Int64) (a9 : Int64) (x : mj_X) : rX1_change d (109, [some (.ref 0), some (.int a1), some (.int a2), some (.int a3), some (.int a4), some (.int a5), some (.int a6), some (.long a7), none, some (.long a9), none, none, none, none, none, none, none, none], [], x) = 
  if a6 = 0 then mj_rI (kX1 d 138 [.ref 0, .long a7, .long a9] x) fun v2 x1 =>
   rX1_change d (135, [some (.ref 0), some (.int a1), some (.int a2), some (.int a3), some (.int a4), some (.int a5), some (.int a6), some (.long a7), none, some (.long a9), none, none, none, none, none, none, none, none], [.int v2], x1)
  else mj_g a1 4000 (mj_rI (kX1 d 152 [.ref 0, .int (x.1 3 a1.toNatClampNeg)] x) fun v4 x3 =>
   rX1_change d (135, [some (.ref 0), some (.int a1), some (.int a2), some (.int a3), some (.int a4), some (.int a5), some (.int a6), some (.long a7), none, some (.long a9), none, none, none, none, none, none, none, none], [.int v4], x3)) := (mj_run_to (cd := cdX1) (rt := 2) (tab := tX1_change) (cal := kX1 d) zX1_change 52 (109, [some (.ref 0), some (.int a1), some (.int a2), some (.int a3), some (.int a4), some (.int a5), some (.int a6), some (.long a7), none, some (.long a9), none, none, none, none, none, none, none, none], [], x)).trans rfl
set_option maxRecDepth 100000 in
set_option maxHeartbeats 4000000 in
theorem bX1_change_135 (d : Nat) (a1 : Int32) (a2 : Int32) (a3 : Int32) (a4 : Int32) (a5 : Int32) (a6 : Int32) (a7 : Int64) (a9 : Int64) (s0 : Int32) (x : mj_X) : rX1_change d (135, [some (.ref 0), some (.int a1), some (.int a2), some (.int a3), some (.int a4), some (.int a5), some (.int a6), some (.long a7), none, some (.long a9), none, none, none, none, none, none, none, none], [.int s0], x) = 
  if a6 = 0 then mj_g s0 20001 (rX1_change d (159, [some (.ref 0), some (.int a1), some (.int a2), some (.int a3), some (.int a4), some (.int a5), some (.int a6), some (.long a7), none, some (.long a9), none, some (.int s0), none, none, none, none, none, none], [.long (x.2 87 s0.toNatClampNeg)], x))
  else mj_g s0 44000 (rX1_change d (159, [some (.ref 0), some (.int a1), some (.int a2), some (.int a3), some (.int a4), some (.int a5), some (.int a6), some (.long a7), none, some (.long a9), none, some (.int s0), none, none, none, none, none, none], [.long (x.2 100 s0.toNatClampNeg)], x)) := (mj_run_to (cd := cdX1) (rt := 2) (tab := tX1_change) (cal := kX1 d) zX1_change 52 (135, [some (.ref 0), some (.int a1), some (.int a2), some (.int a3), some (.int a4), some (.int a5), some (.int a6), some (.long a7), none, some (.long a9), none, none, none, none, none, none, none, none], [.int s0], x)).trans rfl
set_option maxRecDepth 100000 in
set_option maxHeartbeats 4000000 in
theorem bX1_change_159 (d : Nat) (a1 : Int32) (a2 : Int32) (a3 : Int32) (a4 : Int32) (a5 : Int32) (a6 : Int32) (a7 : Int64) (a9 : Int64) (a11 : Int32) (s0 : Int64) (x : mj_X) : rX1_change d (159, [some (.ref 0), some (.int a1), some (.int a2), some (.int a3), some (.int a4), some (.int a5), some (.int a6), some (.long a7), none, some (.long a9), none, some (.int a11), none, none, none, none, none, none], [.long s0], x) = 
  if a3 = (-1 : Int32) then mj_rL (kX1 d 153 [.int a5] x) fun v2 x1 =>
   rX1_change d (179, [some (.ref 0), some (.int a1), some (.int a2), some (.int a3), some (.int a4), some (.int a5), some (.int a6), some (.long a7), none, some (.long a9), none, some (.int a11), some (.long s0), none, none, none, none, none], [.long v2], x1)
  else mj_rL (kX1 d 149 [.ref 0, .int a3] x) fun v4 x3 =>
   rX1_change d (179, [some (.ref 0), some (.int a1), some (.int a2), some (.int a3), some (.int a4), some (.int a5), some (.int a6), some (.long a7), none, some (.long a9), none, some (.int a11), some (.long s0), none, none, none, none, none], [.long v4], x3) := (mj_run_to (cd := cdX1) (rt := 2) (tab := tX1_change) (cal := kX1 d) zX1_change 52 (159, [some (.ref 0), some (.int a1), some (.int a2), some (.int a3), some (.int a4), some (.int a5), some (.int a6), some (.long a7), none, some (.long a9), none, some (.int a11), none, none, none, none, none, none], [.long s0], x)).trans rfl
set_option maxRecDepth 100000 in
set_option maxHeartbeats 4000000 in
theorem bX1_change_179 (d : Nat) (a1 : Int32) (a2 : Int32) (a3 : Int32) (a4 : Int32) (a5 : Int32) (a6 : Int32) (a7 : Int64) (a9 : Int64) (a11 : Int32) (a12 : Int64) (s0 : Int64) (x : mj_X) : rX1_change d (179, [some (.ref 0), some (.int a1), some (.int a2), some (.int a3), some (.int a4), some (.int a5), some (.int a6), some (.long a7), none, some (.long a9), none, some (.int a11), some (.long a12), none, none, none, none, none], [.long s0], x) = mj_rI (kX1 d 150 [.ref 0] x) fun v2 x1 =>
  
  if v2 = 0 then mj_rL (kX1 d 127 [.ref 0, .int a2, .int a5, .long a12, .long s0] x1) fun v4 x3 =>
   mj_rI (kX1 d 150 [.ref 0] x3) fun v6 x5 =>
   
   if v6 = 0 then 
    if a6 = 0 then mj_g a1 4000 (mj_g (x5.1 3 a1.toNatClampNeg) 4000 (
     if (x5.1 5 (x5.1 3 a1.toNatClampNeg).toNatClampNeg) = (5 : Int32) then rX1_change d (254, [some (.ref 0), some (.int a1), some (.int a2), some (.int a3), some (.int a4), some (.int a5), some (.int a6), some (.long a7), none, some (.long a9), none, some (.int a11), some (.long a12), none, some (.long s0), none, some (.long v4), none], [.long v4.toInt32.toInt8.toInt32.toInt64], x5)
     else rX1_change d (254, [some (.ref 0), some (.int a1), some (.int a2), some (.int a3), some (.int a4), some (.int a5), some (.int a6), some (.long a7), none, some (.long a9), none, some (.int a11), some (.long a12), none, some (.long s0), none, some (.long v4), none], [.long v4], x5)))
    else mj_g a11 44000 (
     if a4 = 0 then some (some (.long v4), (mj_wL x5 100 a11.toNatClampNeg v4))
     else some (some (.long a12), (mj_wL x5 100 a11.toNatClampNeg v4)))
   else some (some (.long (0 : Int64)), x5)
  else some (some (.long (0 : Int64)), x1) := (mj_run_to (cd := cdX1) (rt := 2) (tab := tX1_change) (cal := kX1 d) zX1_change 52 (179, [some (.ref 0), some (.int a1), some (.int a2), some (.int a3), some (.int a4), some (.int a5), some (.int a6), some (.long a7), none, some (.long a9), none, some (.int a11), some (.long a12), none, none, none, none, none], [.long s0], x)).trans rfl
set_option maxRecDepth 100000 in
set_option maxHeartbeats 4000000 in
theorem bX1_change_254 (d : Nat) (a1 : Int32) (a2 : Int32) (a3 : Int32) (a4 : Int32) (a5 : Int32) (a6 : Int32) (a7 : Int64) (a9 : Int64) (a11 : Int32) (a12 : Int64) (a14 : Int64) (a16 : Int64) (s0 : Int64) (x : mj_X) : rX1_change d (254, [some (.ref 0), some (.int a1), some (.int a2), some (.int a3), some (.int a4), some (.int a5), some (.int a6), some (.long a7), none, some (.long a9), none, some (.int a11), some (.long a12), none, some (.long a14), none, some (.long a16), none], [.long s0], x) = mj_g a11 20001 (
  if a4 = 0 then some (some (.long s0), (mj_wL x 87 a11.toNatClampNeg s0))
  else some (some (.long a12), (mj_wL x 87 a11.toNatClampNeg s0))) := (mj_run_to (cd := cdX1) (rt := 2) (tab := tX1_change) (cal := kX1 d) zX1_change 52 (254, [some (.ref 0), some (.int a1), some (.int a2), some (.int a3), some (.int a4), some (.int a5), some (.int a6), some (.long a7), none, some (.long a9), none, some (.int a11), some (.long a12), none, some (.long a14), none, some (.long a16), none], [.long s0], x)).trans rfl
noncomputable abbrev rX1_variable (d : Nat) : mj_S → mj_R := mj_run cdX1 1 tX1_variable (kX1 d)
def zX1_variable (p : Nat) : Bool := false
set_option maxRecDepth 100000 in
set_option maxHeartbeats 4000000 in
theorem eX1_variable (d : Nat) (a1 : Int32) (x : mj_X) : kX1 (d + 1) 152 [.ref 0, .int a1] x = some (some (.int (((4000 : Int32) * (x.1 0 100)) + a1)), x) := (mj_run_to (cd := cdX1) (rt := 1) (tab := tX1_variable) (cal := kX1 d) zX1_variable 9 (0, [some (.ref 0), some (.int a1)], [], x)).trans rfl
noncomputable abbrev rX1_unit (d : Nat) : mj_S → mj_R := mj_run cdX1 2 tX1_unit (kX1 d)
def zX1_unit (p : Nat) : Bool := false
set_option maxRecDepth 100000 in
set_option maxHeartbeats 4000000 in
theorem eX1_unit (d : Nat) (a0 : Int32) (x : mj_X) : kX1 (d + 1) 153 [.int a0] x = 
  if (2 : Int32) < a0 then 
   if a0 = (3 : Int32) then some (some (.long (1065353216 : Int64)), x)
   else some (some (.long (4607182418800017408 : Int64)), x)
  else some (some (.long (1 : Int64)), x) := (mj_run_to (cd := cdX1) (rt := 2) (tab := tX1_unit) (cal := kX1 d) zX1_unit 16 (0, [some (.int a0)], [], x)).trans rfl
noncomputable abbrev rX1_putInto (d : Nat) : mj_S → mj_R := mj_run cdX1 2 tX1_putInto (kX1 d)
def zX1_putInto (p : Nat) : Bool := bif Nat.blt p 59 then (bif Nat.beq p 41 then true else false) else (bif Nat.blt p 105 then (bif Nat.beq p 59 then true else false) else (bif Nat.beq p 105 then true else false))
set_option maxRecDepth 100000 in
set_option maxHeartbeats 4000000 in
theorem eX1_putInto (d : Nat) (a1 : Int32) (a2 : Int32) (x : mj_X) : kX1 (d + 1) 154 [.ref 0, .int a1, .int a2] x = mj_rI (kX1 d 148 [.ref 0] x) fun v2 x1 =>
  
  if v2 = 0 then some (some (.long (0 : Int64)), x1)
  else mj_g a1 4000 (mj_rL (kX1 d 149 [.ref 0, .int (x1.1 3 a1.toNatClampNeg)] x1) fun v4 x3 =>
   mj_rI (kX1 d 150 [.ref 0] x3) fun v6 x5 =>
   
   if v6 = 0 then mj_g a1 4000 (mj_rL (kX1 d 149 [.ref 0, .int (x5.1 4 a1.toNatClampNeg)] x5) fun v8 x7 =>
    rX1_putInto d (41, [some (.ref 0), some (.int a1), some (.int a2), some (.long v4), none, none, none, none, none], [.long v8], x7))
   else rX1_putInto d (41, [some (.ref 0), some (.int a1), some (.int a2), some (.long v4), none, none, none, none, none], [.long (0 : Int64)], x5)) := (mj_run_to (cd := cdX1) (rt := 2) (tab := tX1_putInto) (cal := kX1 d) zX1_putInto 32 (0, [some (.ref 0), some (.int a1), some (.int a2), none, none, none, none, none, none], [], x)).trans rfl
set_option maxRecDepth 100000 in
set_option maxHeartbeats 4000000 in
theorem bX1_putInto_41 (d : Nat) (a1 : Int32) (a2 : Int32) (a3 : Int64) (s0 : Int64) (x : mj_X) : rX1_putInto d (41, [some (.ref 0), some (.int a1), some (.int a2), some (.long a3), none, none, none, none, none], [.long s0], x) = mj_rI (kX1 d 150 [.ref 0] x) fun v2 x1 =>
  
  if v2 = 0 then mj_rL (kX1 d 149 [.ref 0, .int a2] x1) fun v4 x3 =>
   rX1_putInto d (59, [some (.ref 0), some (.int a1), some (.int a2), some (.long a3), none, some (.long s0), none, none, none], [.long v4], x3)
  else rX1_putInto d (59, [some (.ref 0), some (.int a1), some (.int a2), some (.long a3), none, some (.long s0), none, none, none], [.long (0 : Int64)], x1) := (mj_run_to (cd := cdX1) (rt := 2) (tab := tX1_putInto) (cal := kX1 d) zX1_putInto 32 (41, [some (.ref 0), some (.int a1), some (.int a2), some (.long a3), none, none, none, none, none], [.long s0], x)).trans rfl
set_option maxRecDepth 100000 in
set_option maxHeartbeats 4000000 in
theorem bX1_putInto_59 (d : Nat) (a1 : Int32) (a2 : Int32) (a3 : Int64) (a5 : Int64) (s0 : Int64) (x : mj_X) : rX1_putInto d (59, [some (.ref 0), some (.int a1), some (.int a2), some (.long a3), none, some (.long a5), none, none, none], [.long s0], x) = mj_rI (kX1 d 150 [.ref 0] x) fun v2 x1 =>
  
  if v2 = 0 then mj_rI (kX1 d 137 [.ref 0, .long a3, .long a5] x1) fun v4 x3 =>
   
   if v4 = 0 then some (some (.long (0 : Int64)), x3)
   else mj_g a1 4000 (mj_g (x3.1 3 a1.toNatClampNeg) 4000 (
    if (x3.1 5 (x3.1 3 a1.toNatClampNeg).toNatClampNeg) = (5 : Int32) then rX1_putInto d (105, [some (.ref 0), some (.int a1), some (.int a2), some (.long a3), none, some (.long a5), none, some (.long s0), none], [.long s0.toInt32.toInt8.toInt32.toInt64], x3)
    else rX1_putInto d (105, [some (.ref 0), some (.int a1), some (.int a2), some (.long a3), none, some (.long a5), none, some (.long s0), none], [.long s0], x3)))
  else some (some (.long (0 : Int64)), x1) := (mj_run_to (cd := cdX1) (rt := 2) (tab := tX1_putInto) (cal := kX1 d) zX1_putInto 32 (59, [some (.ref 0), some (.int a1), some (.int a2), some (.long a3), none, some (.long a5), none, none, none], [.long s0], x)).trans rfl
set_option maxRecDepth 100000 in
set_option maxHeartbeats 4000000 in
theorem bX1_putInto_105 (d : Nat) (a1 : Int32) (a2 : Int32) (a3 : Int64) (a5 : Int64) (a7 : Int64) (s0 : Int64) (x : mj_X) : rX1_putInto d (105, [some (.ref 0), some (.int a1), some (.int a2), some (.long a3), none, some (.long a5), none, some (.long a7), none], [.long s0], x) = mj_rI (kX1 d 138 [.ref 0, .long a3, .long a5] x) fun v2 x1 =>
  mj_g v2 20001 (some (some (.long s0), (mj_wL x1 87 v2.toNatClampNeg s0))) := (mj_run_to (cd := cdX1) (rt := 2) (tab := tX1_putInto) (cal := kX1 d) zX1_putInto 32 (105, [some (.ref 0), some (.int a1), some (.int a2), some (.long a3), none, some (.long a5), none, some (.long a7), none], [.long s0], x)).trans rfl
noncomputable abbrev rX1_call (d : Nat) : mj_S → mj_R := mj_run cdX1 2 tX1_call (kX1 d)
def zX1_call (p : Nat) : Bool := bif Nat.blt p 83 then (bif Nat.beq p 21 then true else false) else (bif Nat.blt p 122 then (bif Nat.beq p 83 then true else false) else (bif Nat.beq p 122 then true else false))
set_option maxRecDepth 100000 in
set_option maxHeartbeats 4000000 in
theorem eX1_call (d : Nat) (a1 : Int32) (a2 : Int32) (x : mj_X) : kX1 (d + 1) 155 [.ref 0, .int a1, .int a2] x = mj_g a1 40 (rX1_call d (21, [some (.ref 0), some (.int a1), some (.int a2), some (.int ((x.1 0 100) + (1 : Int32))), some (.int (0 : Int32)), some (.int (x.1 10 a1.toNatClampNeg)), some (.int a2), none, none], [], x)) := (mj_run_to (cd := cdX1) (rt := 2) (tab := tX1_call) (cal := kX1 d) zX1_call 51 (0, [some (.ref 0), some (.int a1), some (.int a2), none, none, none, none, none, none], [], x)).trans rfl
set_option maxRecDepth 100000 in
set_option maxHeartbeats 4000000 in
theorem bX1_call_21 (d : Nat) (a1 : Int32) (a2 : Int32) (a3 : Int32) (a4 : Int32) (a5 : Int32) (a6 : Int32) (o7 : Option Value) (x : mj_X) : rX1_call d (21, [some (.ref 0), some (.int a1), some (.int a2), some (.int a3), some (.int a4), some (.int a5), some (.int a6), o7, none], [], x) = 
  if a6 = (-1 : Int32) then rX1_call d (83, [some (.ref 0), some (.int a1), some (.int a2), some (.int a3), some (.int a4), some (.int a5), some (.int a6), o7, none], [], x)
  else mj_rI (kX1 d 150 [.ref 0] x) fun v2 x1 =>
   
   if v2 = 0 then mj_g a6 4000 (mj_rL (kX1 d 149 [.ref 0, .int (x1.1 3 a6.toNatClampNeg)] x1) fun v4 x3 =>
    mj_g (x3.1 0 104) 4400 (mj_g a6 4000 (rX1_call d (21, [some (.ref 0), some (.int a1), some (.int a2), some (.int a3), some (.int (a4 + (1 : Int32))), some (.int a5), some (.int (x3.1 4 a6.toNatClampNeg)), some (.long v4), none], [], (mj_wI (mj_wL x3 104 (x3.1 0 104).toNatClampNeg v4) 0 104 ((x3.1 0 104) + (1 : Int32)))))))
   else rX1_call d (83, [some (.ref 0), some (.int a1), some (.int a2), some (.int a3), some (.int a4), some (.int a5), some (.int a6), o7, none], [], x1) := (mj_run_to (cd := cdX1) (rt := 2) (tab := tX1_call) (cal := kX1 d) zX1_call 51 (21, [some (.ref 0), some (.int a1), some (.int a2), some (.int a3), some (.int a4), some (.int a5), some (.int a6), o7, none], [], x)).trans rfl
set_option maxRecDepth 100000 in
set_option maxHeartbeats 4000000 in
theorem bX1_call_83 (d : Nat) (a1 : Int32) (a2 : Int32) (a3 : Int32) (a4 : Int32) (a5 : Int32) (a6 : Int32) (o7 : Option Value) (x : mj_X) : rX1_call d (83, [some (.ref 0), some (.int a1), some (.int a2), some (.int a3), some (.int a4), some (.int a5), some (.int a6), o7, none], [], x) = mj_rI (kX1 d 150 [.ref 0] (mj_wI x 0 104 ((x.1 0 104) - a4))) fun v2 x1 =>
  
  if v2 = 0 then 
   if (x1.1 0 100) = (10 : Int32) then some (some (.long (0 : Int64)), (mj_wI x1 0 79 (5 : Int32)))
   else rX1_call d (122, [some (.ref 0), some (.int a1), some (.int a2), some (.int a3), some (.int a4), some (.int a5), some (.int (0 : Int32)), o7, none], [], x1)
  else some (some (.long (0 : Int64)), x1) := (mj_run_to (cd := cdX1) (rt := 2) (tab := tX1_call) (cal := kX1 d) zX1_call 51 (83, [some (.ref 0), some (.int a1), some (.int a2), some (.int a3), some (.int a4), some (.int a5), some (.int a6), o7, none], [], x)).trans rfl
set_option maxRecDepth 100000 in
set_option maxHeartbeats 4000000 in
theorem bX1_call_122 (d : Nat) (a1 : Int32) (a2 : Int32) (a3 : Int32) (a4 : Int32) (a5 : Int32) (a6 : Int32) (o7 : Option Value) (x : mj_X) : rX1_call d (122, [some (.ref 0), some (.int a1), some (.int a2), some (.int a3), some (.int a4), some (.int a5), some (.int a6), o7, none], [], x) = 
  if a4 ≤ a6 then mj_rV (kX1 d 146 [.ref 0, .int a1] (mj_wI x 0 100 a3)) fun x1 =>
   mj_rI (kX1 d 150 [.ref 0] (mj_wI x1 0 100 (a3 - (1 : Int32)))) fun v3 x2 =>
   
   if v3 = 0 then some (some (.long (x2.2 0 102)), x2)
   else some (some (.long (0 : Int64)), x2)
  else mj_g a5 4000 (mj_g ((x.1 0 104) + a6) 4400 (mj_g (((4000 : Int32) * a3) + (x.1 3 a5.toNatClampNeg)) 44000 (mj_g a5 4000 (rX1_call d (122, [some (.ref 0), some (.int a1), some (.int a2), some (.int a3), some (.int a4), some (.int (x.1 4 a5.toNatClampNeg)), some (.int (a6 + (1 : Int32))), o7, none], [], (mj_wL x 100 (((4000 : Int32) * a3) + (x.1 3 a5.toNatClampNeg)).toNatClampNeg (x.2 104 ((x.1 0 104) + a6).toNatClampNeg))))))) := (mj_run_to (cd := cdX1) (rt := 2) (tab := tX1_call) (cal := kX1 d) zX1_call 51 (122, [some (.ref 0), some (.int a1), some (.int a2), some (.int a3), some (.int a4), some (.int a5), some (.int a6), o7, none], [], x)).trans rfl
noncomputable abbrev rX1_loops (d : Nat) : mj_S → mj_R := mj_run cdX1 1 tX1_loops (kX1 d)
def zX1_loops (p : Nat) : Bool := bif Nat.blt p 54 then (bif Nat.blt p 39 then (bif Nat.beq p 26 then true else false) else (bif Nat.beq p 39 then true else false)) else (bif Nat.blt p 85 then (bif Nat.beq p 54 then true else false) else (bif Nat.beq p 85 then true else false))
set_option maxRecDepth 100000 in
set_option maxHeartbeats 4000000 in
theorem eX1_loops (d : Nat) (a1 : Int32) (a2 : Int32) (a3 : Int32) (x : mj_X) : kX1 (d + 1) 156 [.ref 0, .int a1, .int a2, .int a3] x = 
  if a1 = (69 : Int32) then mj_g a2 4000 (rX1_loops d (26, [some (.ref 0), some (.int a1), some (.int a2), some (.int a3), none, none, none, none, none], [.int (x.1 3 a2.toNatClampNeg)], x))
  else 
   if a1 = (68 : Int32) then rX1_loops d (26, [some (.ref 0), some (.int a1), some (.int a2), some (.int a3), none, none, none, none, none], [.int a3], x)
   else rX1_loops d (26, [some (.ref 0), some (.int a1), some (.int a2), some (.int a3), none, none, none, none, none], [.int a2], x) := (mj_run_to (cd := cdX1) (rt := 1) (tab := tX1_loops) (cal := kX1 d) zX1_loops 30 (0, [some (.ref 0), some (.int a1), some (.int a2), some (.int a3), none, none, none, none, none], [], x)).trans rfl
set_option maxRecDepth 100000 in
set_option maxHeartbeats 4000000 in
theorem bX1_loops_26 (d : Nat) (a1 : Int32) (a2 : Int32) (a3 : Int32) (s0 : Int32) (x : mj_X) : rX1_loops d (26, [some (.ref 0), some (.int a1), some (.int a2), some (.int a3), none, none, none, none, none], [.int s0], x) = 
  if a1 = (68 : Int32) then rX1_loops d (39, [some (.ref 0), some (.int a1), some (.int a2), some (.int a3), some (.int s0), none, none, none, none], [.int a2], x)
  else rX1_loops d (39, [some (.ref 0), some (.int a1), some (.int a2), some (.int a3), some (.int s0), none, none, none, none], [.int a3], x) := (mj_run_to (cd := cdX1) (rt := 1) (tab := tX1_loops) (cal := kX1 d) zX1_loops 30 (26, [some (.ref 0), some (.int a1), some (.int a2), some (.int a3), none, none, none, none, none], [.int s0], x)).trans rfl
set_option maxRecDepth 100000 in
set_option maxHeartbeats 4000000 in
theorem bX1_loops_39 (d : Nat) (a1 : Int32) (a2 : Int32) (a3 : Int32) (a4 : Int32) (s0 : Int32) (x : mj_X) : rX1_loops d (39, [some (.ref 0), some (.int a1), some (.int a2), some (.int a3), some (.int a4), none, none, none, none], [.int s0], x) = 
  if a1 = (68 : Int32) then rX1_loops d (54, [some (.ref 0), some (.int a1), some (.int a2), some (.int a3), some (.int a4), some (.int s0), some (.int (1 : Int32)), none, none], [], x)
  else rX1_loops d (54, [some (.ref 0), some (.int a1), some (.int a2), some (.int a3), some (.int a4), some (.int s0), some (.int (0 : Int32)), none, none], [], x) := (mj_run_to (cd := cdX1) (rt := 1) (tab := tX1_loops) (cal := kX1 d) zX1_loops 30 (39, [some (.ref 0), some (.int a1), some (.int a2), some (.int a3), some (.int a4), none, none, none, none], [.int s0], x)).trans rfl
set_option maxRecDepth 100000 in
set_option maxHeartbeats 4000000 in
theorem bX1_loops_54 (d : Nat) (a1 : Int32) (a2 : Int32) (a3 : Int32) (a4 : Int32) (a5 : Int32) (a6 : Int32) (o7 : Option Value) (x : mj_X) : rX1_loops d (54, [some (.ref 0), some (.int a1), some (.int a2), some (.int a3), some (.int a4), some (.int a5), some (.int a6), o7, none], [], x) = 
  if a6 = 0 then mj_rL (kX1 d 149 [.ref 0, .int a4] x) fun v2 x1 =>
   mj_rI (kX1 d 150 [.ref 0] x1) fun v4 x3 =>
   
   if v4 = 0 then 
    if (lg_cmp v2 (0 : Int64)) = 0 then some (some (.int (0 : Int32)), x3)
    else rX1_loops d (85, [some (.ref 0), some (.int a1), some (.int a2), some (.int a3), some (.int a4), some (.int a5), some (.int a6), some (.long v2), none], [], x3)
   else some (some (.int (4 : Int32)), x3)
  else rX1_loops d (85, [some (.ref 0), some (.int a1), some (.int a2), some (.int a3), some (.int a4), some (.int a5), some (.int a6), o7, none], [], x) := (mj_run_to (cd := cdX1) (rt := 1) (tab := tX1_loops) (cal := kX1 d) zX1_loops 30 (54, [some (.ref 0), some (.int a1), some (.int a2), some (.int a3), some (.int a4), some (.int a5), some (.int a6), o7, none], [], x)).trans rfl
set_option maxRecDepth 100000 in
set_option maxHeartbeats 4000000 in
theorem bX1_loops_85 (d : Nat) (a1 : Int32) (a2 : Int32) (a3 : Int32) (a4 : Int32) (a5 : Int32) (a6 : Int32) (o7 : Option Value) (x : mj_X) : rX1_loops d (85, [some (.ref 0), some (.int a1), some (.int a2), some (.int a3), some (.int a4), some (.int a5), some (.int a6), o7, none], [], x) = mj_rI (kX1 d 147 [.ref 0, .int a5] x) fun v2 x1 =>
  mj_rI (kX1 d 157 [.ref 0, .int v2] x1) fun v4 x3 =>
  
  if v4 = 0 then some (some (.int (x3.1 0 105)), x3)
  else 
   if a1 = (69 : Int32) then mj_g a2 4000 (mj_rI (kX1 d 147 [.ref 0, .int (x3.1 4 a2.toNatClampNeg)] x3) fun v6 x5 =>
    
    if v6 = 0 then rX1_loops d (54, [some (.ref 0), some (.int a1), some (.int a2), some (.int a3), some (.int a4), some (.int a5), some (.int (0 : Int32)), some (.int v6), none], [], x5)
    else some (some (.int v6), x5))
   else rX1_loops d (54, [some (.ref 0), some (.int a1), some (.int a2), some (.int a3), some (.int a4), some (.int a5), some (.int (0 : Int32)), o7, none], [], x3) := (mj_run_to (cd := cdX1) (rt := 1) (tab := tX1_loops) (cal := kX1 d) zX1_loops 30 (85, [some (.ref 0), some (.int a1), some (.int a2), some (.int a3), some (.int a4), some (.int a5), some (.int a6), o7, none], [], x)).trans rfl
noncomputable abbrev rX1_goesRound (d : Nat) : mj_S → mj_R := mj_run cdX1 5 tX1_goesRound (kX1 d)
def zX1_goesRound (p : Nat) : Bool := bif Nat.blt p 45 then (bif Nat.beq p 25 then true else false) else (bif Nat.beq p 45 then true else false)
set_option maxRecDepth 100000 in
set_option maxHeartbeats 4000000 in
theorem eX1_goesRound (d : Nat) (a1 : Int32) (x : mj_X) : kX1 (d + 1) 157 [.ref 0, .int a1] x = 
  if a1 = 0 then some (some (.int (1 : Int32)), (mj_wI x 0 105 a1))
  else 
   if a1 = (2 : Int32) then 
    if (x.1 0 101) = 0 then some (some (.int (1 : Int32)), (mj_wI x 0 105 a1))
    else rX1_goesRound d (25, [some (.ref 0), some (.int a1)], [], (mj_wI x 0 105 a1))
   else rX1_goesRound d (25, [some (.ref 0), some (.int a1)], [], (mj_wI x 0 105 a1)) := (mj_run_to (cd := cdX1) (rt := 5) (tab := tX1_goesRound) (cal := kX1 d) zX1_goesRound 26 (0, [some (.ref 0), some (.int a1)], [], x)).trans rfl
set_option maxRecDepth 100000 in
set_option maxHeartbeats 4000000 in
theorem bX1_goesRound_25 (d : Nat) (a1 : Int32) (x : mj_X) : rX1_goesRound d (25, [some (.ref 0), some (.int a1)], [], x) = 
  if a1 = (1 : Int32) then 
   if (x.1 0 101) = 0 then some (some (.int (0 : Int32)), (mj_wI x 0 105 (0 : Int32)))
   else rX1_goesRound d (45, [some (.ref 0), some (.int a1)], [], x)
  else rX1_goesRound d (45, [some (.ref 0), some (.int a1)], [], x) := (mj_run_to (cd := cdX1) (rt := 5) (tab := tX1_goesRound) (cal := kX1 d) zX1_goesRound 26 (25, [some (.ref 0), some (.int a1)], [], x)).trans rfl
set_option maxRecDepth 100000 in
set_option maxHeartbeats 4000000 in
theorem bX1_goesRound_45 (d : Nat) (a1 : Int32) (x : mj_X) : rX1_goesRound d (45, [some (.ref 0), some (.int a1)], [], x) = 
  if a1 = (1 : Int32) then some (some (.int (0 : Int32)), (mj_wI x 0 101 ((x.1 0 101) - (1 : Int32))))
  else 
   if a1 = (2 : Int32) then some (some (.int (0 : Int32)), (mj_wI x 0 101 ((x.1 0 101) - (1 : Int32))))
   else some (some (.int (0 : Int32)), x) := (mj_run_to (cd := cdX1) (rt := 5) (tab := tX1_goesRound) (cal := kX1 d) zX1_goesRound 26 (45, [some (.ref 0), some (.int a1)], [], x)).trans rfl
noncomputable abbrev rX1_catches (d : Nat) : mj_S → mj_R := mj_run cdX1 1 tX1_catches (kX1 d)
def zX1_catches (p : Nat) : Bool := bif Nat.blt p 77 then (bif Nat.blt p 58 then (bif Nat.beq p 26 then true else false) else (bif Nat.beq p 58 then true else false)) else (bif Nat.blt p 103 then (bif Nat.beq p 77 then true else false) else (bif Nat.blt p 142 then (bif Nat.beq p 103 then true else false) else (bif Nat.beq p 142 then true else false)))
set_option maxRecDepth 100000 in
set_option maxHeartbeats 4000000 in
theorem eX1_catches (d : Nat) (a1 : Int32) (a2 : Int32) (x : mj_X) : kX1 (d + 1) 158 [.ref 0, .int a1, .int a2] x = mj_rI (kX1 d 147 [.ref 0, .int a1] x) fun v2 x1 =>
  
  if v2 = (4 : Int32) then 
   if (x1.1 0 78) ≤ (100000 : Int32) then rX1_catches d (26, [some (.ref 0), some (.int a1), some (.int a2), some (.int v2), some (.int a2), none, none, none], [], x1)
   else some (some (.int v2), x1)
  else some (some (.int v2), x1) := (mj_run_to (cd := cdX1) (rt := 1) (tab := tX1_catches) (cal := kX1 d) zX1_catches 26 (0, [some (.ref 0), some (.int a1), some (.int a2), none, none, none, none, none], [], x)).trans rfl
set_option maxRecDepth 100000 in
set_option maxHeartbeats 4000000 in
theorem bX1_catches_26 (d : Nat) (a1 : Int32) (a2 : Int32) (a3 : Int32) (a4 : Int32) (o5 : Option Value) (o6 : Option Value) (o7 : Option Value) (x : mj_X) : rX1_catches d (26, [some (.ref 0), some (.int a1), some (.int a2), some (.int a3), some (.int a4), o5, o6, o7], [], x) = 
  if a4 = (-1 : Int32) then some (some (.int (4 : Int32)), x)
  else mj_g a4 4000 (mj_g (x.1 3 a4.toNatClampNeg) 4000 (
   if (x.1 2 (x.1 3 a4.toNatClampNeg).toNatClampNeg) = (78 : Int32) then rX1_catches d (58, [some (.ref 0), some (.int a1), some (.int a2), some (.int a3), some (.int a4), some (.int (x.1 3 a4.toNatClampNeg)), o6, o7], [.int (1 : Int32)], x)
   else rX1_catches d (58, [some (.ref 0), some (.int a1), some (.int a2), some (.int a3), some (.int a4), some (.int (x.1 3 a4.toNatClampNeg)), o6, o7], [.int (0 : Int32)], x))) := (mj_run_to (cd := cdX1) (rt := 1) (tab := tX1_catches) (cal := kX1 d) zX1_catches 26 (26, [some (.ref 0), some (.int a1), some (.int a2), some (.int a3), some (.int a4), o5, o6, o7], [], x)).trans rfl
set_option maxRecDepth 100000 in
set_option maxHeartbeats 4000000 in
theorem bX1_catches_58 (d : Nat) (a1 : Int32) (a2 : Int32) (a3 : Int32) (a4 : Int32) (a5 : Int32) (o6 : Option Value) (o7 : Option Value) (s0 : Int32) (x : mj_X) : rX1_catches d (58, [some (.ref 0), some (.int a1), some (.int a2), some (.int a3), some (.int a4), some (.int a5), o6, o7], [.int s0], x) = 
  if s0 = 0 then rX1_catches d (77, [some (.ref 0), some (.int a1), some (.int a2), some (.int a3), some (.int a4), some (.int a5), some (.int s0), o7], [.int a5], x)
  else mj_g a5 4000 (rX1_catches d (77, [some (.ref 0), some (.int a1), some (.int a2), some (.int a3), some (.int a4), some (.int a5), some (.int s0), o7], [.int (x.1 4 a5.toNatClampNeg)], x)) := (mj_run_to (cd := cdX1) (rt := 1) (tab := tX1_catches) (cal := kX1 d) zX1_catches 26 (58, [some (.ref 0), some (.int a1), some (.int a2), some (.int a3), some (.int a4), some (.int a5), o6, o7], [.int s0], x)).trans rfl
set_option maxRecDepth 100000 in
set_option maxHeartbeats 4000000 in
theorem bX1_catches_77 (d : Nat) (a1 : Int32) (a2 : Int32) (a3 : Int32) (a4 : Int32) (a5 : Int32) (a6 : Int32) (o7 : Option Value) (s0 : Int32) (x : mj_X) : rX1_catches d (77, [some (.ref 0), some (.int a1), some (.int a2), some (.int a3), some (.int a4), some (.int a5), some (.int a6), o7], [.int s0], x) = mj_g s0 4000 (
  if (x.1 3 s0.toNatClampNeg) = 0 then rX1_catches d (103, [some (.ref 0), some (.int a1), some (.int a2), some (.int a3), some (.int a4), some (.int a5), some (.int a6), some (.int s0)], [], x)
  else mj_g s0 4000 (
   if (x.1 3 s0.toNatClampNeg) = (x.1 0 79) then rX1_catches d (103, [some (.ref 0), some (.int a1), some (.int a2), some (.int a3), some (.int a4), some (.int a5), some (.int a6), some (.int s0)], [], x)
   else mj_g a4 4000 (rX1_catches d (26, [some (.ref 0), some (.int a1), some (.int a2), some (.int a3), some (.int (x.1 4 a4.toNatClampNeg)), some (.int a5), some (.int a6), some (.int s0)], [], x)))) := (mj_run_to (cd := cdX1) (rt := 1) (tab := tX1_catches) (cal := kX1 d) zX1_catches 26 (77, [some (.ref 0), some (.int a1), some (.int a2), some (.int a3), some (.int a4), some (.int a5), some (.int a6), o7], [.int s0], x)).trans rfl
set_option maxRecDepth 100000 in
set_option maxHeartbeats 4000000 in
theorem bX1_catches_103 (d : Nat) (a1 : Int32) (a2 : Int32) (a3 : Int32) (a4 : Int32) (a5 : Int32) (a6 : Int32) (a7 : Int32) (x : mj_X) : rX1_catches d (103, [some (.ref 0), some (.int a1), some (.int a2), some (.int a3), some (.int a4), some (.int a5), some (.int a6), some (.int a7)], [], x) = 
  if a6 = 0 then rX1_catches d (142, [some (.ref 0), some (.int a1), some (.int a2), some (.int a3), some (.int a4), some (.int a5), some (.int a6), some (.int a7)], [], x)
  else mj_g a5 4000 (mj_rI (kX1 d 152 [.ref 0, .int (x.1 3 a5.toNatClampNeg)] x) fun v2 x1 =>
   
   if (x1.1 0 79) = (7 : Int32) then mj_g v2 44000 (rX1_catches d (142, [some (.ref 0), some (.int a1), some (.int a2), some (.int a3), some (.int a4), some (.int a5), some (.int a6), some (.int a7)], [], (mj_wL x1 100 v2.toNatClampNeg (x1.1 0 80).toInt64)))
   else mj_g v2 44000 (rX1_catches d (142, [some (.ref 0), some (.int a1), some (.int a2), some (.int a3), some (.int a4), some (.int a5), some (.int a6), some (.int a7)], [], (mj_wL x1 100 v2.toNatClampNeg (0 : Int64))))) := (mj_run_to (cd := cdX1) (rt := 1) (tab := tX1_catches) (cal := kX1 d) zX1_catches 26 (103, [some (.ref 0), some (.int a1), some (.int a2), some (.int a3), some (.int a4), some (.int a5), some (.int a6), some (.int a7)], [], x)).trans rfl
set_option maxRecDepth 100000 in
set_option maxHeartbeats 4000000 in
theorem bX1_catches_142 (d : Nat) (a1 : Int32) (a2 : Int32) (a3 : Int32) (a4 : Int32) (a5 : Int32) (a6 : Int32) (a7 : Int32) (x : mj_X) : rX1_catches d (142, [some (.ref 0), some (.int a1), some (.int a2), some (.int a3), some (.int a4), some (.int a5), some (.int a6), some (.int a7)], [], x) = mj_g a7 4000 (mj_rI (kX1 d 147 [.ref 0, .int (x.1 4 a7.toNatClampNeg)] (mj_wI (mj_wI x 0 79 (0 : Int32)) 0 80 (0 : Int32))) fun v2 x1 =>
  some (some (.int v2), x1)) := (mj_run_to (cd := cdX1) (rt := 1) (tab := tX1_catches) (cal := kX1 d) zX1_catches 26 (142, [some (.ref 0), some (.int a1), some (.int a2), some (.int a3), some (.int a4), some (.int a5), some (.int a6), some (.int a7)], [], x)).trans rfl
noncomputable abbrev rX1_both (d : Nat) : mj_S → mj_R := mj_run cdX1 1 tX1_both (kX1 d)
def zX1_both (p : Nat) : Bool := bif Nat.beq p 52 then true else false
set_option maxRecDepth 100000 in
set_option maxHeartbeats 4000000 in
theorem eX1_both (d : Nat) (a1 : Int32) (a2 : Int32) (x : mj_X) : kX1 (d + 1) 159 [.ref 0, .int a1, .int a2] x = mj_rI (kX1 d 147 [.ref 0, .int a1] x) fun v2 x1 =>
  
  if (x1.1 0 78) ≤ (100000 : Int32) then rX1_both d (52, [some (.ref 0), some (.int a1), some (.int a2), some (.int v2), some (.int (x1.1 0 79)), some (.int (x1.1 0 80)), some (.int (x1.1 0 101)), some (.long (x1.2 0 102)), none, none], [], (mj_wI (mj_wI x1 0 79 (0 : Int32)) 0 80 (0 : Int32)))
  else some (some (.int (4 : Int32)), x1) := (mj_run_to (cd := cdX1) (rt := 1) (tab := tX1_both) (cal := kX1 d) zX1_both 31 (0, [some (.ref 0), some (.int a1), some (.int a2), none, none, none, none, none, none, none], [], x)).trans rfl
set_option maxRecDepth 100000 in
set_option maxHeartbeats 4000000 in
theorem bX1_both_52 (d : Nat) (a1 : Int32) (a2 : Int32) (a3 : Int32) (a4 : Int32) (a5 : Int32) (a6 : Int32) (a7 : Int64) (x : mj_X) : rX1_both d (52, [some (.ref 0), some (.int a1), some (.int a2), some (.int a3), some (.int a4), some (.int a5), some (.int a6), some (.long a7), none, none], [], x) = mj_rI (kX1 d 147 [.ref 0, .int a2] x) fun v2 x1 =>
  
  if v2 = 0 then some (some (.int a3), (mj_wL (mj_wI (mj_wI (mj_wI x1 0 79 a4) 0 80 a5) 0 101 a6) 0 102 a7))
  else some (some (.int v2), x1) := (mj_run_to (cd := cdX1) (rt := 1) (tab := tX1_both) (cal := kX1 d) zX1_both 31 (52, [some (.ref 0), some (.int a1), some (.int a2), some (.int a3), some (.int a4), some (.int a5), some (.int a6), some (.long a7), none, none], [], x)).trans rfl
noncomputable abbrev rX1_cases (d : Nat) : mj_S → mj_R := mj_run cdX1 1 tX1_cases (kX1 d)
def zX1_cases (p : Nat) : Bool := bif Nat.blt p 78 then (bif Nat.blt p 60 then (bif Nat.beq p 21 then true else false) else (bif Nat.beq p 60 then true else false)) else (bif Nat.blt p 103 then (bif Nat.beq p 78 then true else false) else (bif Nat.blt p 136 then (bif Nat.beq p 103 then true else false) else (bif Nat.beq p 136 then true else false)))
set_option maxRecDepth 100000 in
set_option maxHeartbeats 4000000 in
theorem eX1_cases (d : Nat) (a1 : Int32) (a2 : Int32) (x : mj_X) : kX1 (d + 1) 160 [.ref 0, .int a1, .int a2] x = mj_rL (kX1 d 149 [.ref 0, .int a1] x) fun v2 x1 =>
  mj_rI (kX1 d 150 [.ref 0] x1) fun v4 x3 =>
  
  if v4 = 0 then rX1_cases d (21, [some (.ref 0), some (.int a1), some (.int a2), some (.long v2), none, some (.int (-1 : Int32)), some (.int a2), none], [], x3)
  else some (some (.int (4 : Int32)), x3) := (mj_run_to (cd := cdX1) (rt := 1) (tab := tX1_cases) (cal := kX1 d) zX1_cases 44 (0, [some (.ref 0), some (.int a1), some (.int a2), none, none, none, none, none], [], x)).trans rfl
set_option maxRecDepth 100000 in
set_option maxHeartbeats 4000000 in
theorem bX1_cases_21 (d : Nat) (a1 : Int32) (a2 : Int32) (a3 : Int64) (a5 : Int32) (a6 : Int32) (o7 : Option Value) (x : mj_X) : rX1_cases d (21, [some (.ref 0), some (.int a1), some (.int a2), some (.long a3), none, some (.int a5), some (.int a6), o7], [], x) = 
  if a6 = (-1 : Int32) then rX1_cases d (136, [some (.ref 0), some (.int a1), some (.int a2), some (.long a3), none, some (.int a5), some (.int a5), o7], [], x)
  else mj_g a6 4000 (mj_g (x.1 3 a6.toNatClampNeg) 4000 (
   if (x.1 2 (x.1 3 a6.toNatClampNeg).toNatClampNeg) = (83 : Int32) then mj_g (x.1 3 a6.toNatClampNeg) 4000 (
    if (x.1 3 (x.1 3 a6.toNatClampNeg).toNatClampNeg) = a3.toInt32 then rX1_cases d (78, [some (.ref 0), some (.int a1), some (.int a2), some (.long a3), none, some (.int a5), some (.int a6), some (.int (x.1 3 a6.toNatClampNeg))], [], x)
    else rX1_cases d (60, [some (.ref 0), some (.int a1), some (.int a2), some (.long a3), none, some (.int a5), some (.int a6), some (.int (x.1 3 a6.toNatClampNeg))], [], x))
   else rX1_cases d (60, [some (.ref 0), some (.int a1), some (.int a2), some (.long a3), none, some (.int a5), some (.int a6), some (.int (x.1 3 a6.toNatClampNeg))], [], x))) := (mj_run_to (cd := cdX1) (rt := 1) (tab := tX1_cases) (cal := kX1 d) zX1_cases 44 (21, [some (.ref 0), some (.int a1), some (.int a2), some (.long a3), none, some (.int a5), some (.int a6), o7], [], x)).trans rfl
set_option maxRecDepth 100000 in
set_option maxHeartbeats 4000000 in
theorem bX1_cases_60 (d : Nat) (a1 : Int32) (a2 : Int32) (a3 : Int64) (a5 : Int32) (a6 : Int32) (a7 : Int32) (x : mj_X) : rX1_cases d (60, [some (.ref 0), some (.int a1), some (.int a2), some (.long a3), none, some (.int a5), some (.int a6), some (.int a7)], [], x) = mj_g a7 4000 (
  if (x.1 2 a7.toNatClampNeg) = (84 : Int32) then 
   if a5 = (-1 : Int32) then rX1_cases d (78, [some (.ref 0), some (.int a1), some (.int a2), some (.long a3), none, some (.int a5), some (.int a6), some (.int a7)], [], x)
   else mj_g a6 4000 (rX1_cases d (21, [some (.ref 0), some (.int a1), some (.int a2), some (.long a3), none, some (.int a5), some (.int (x.1 4 a6.toNatClampNeg)), some (.int a7)], [], x))
  else mj_g a6 4000 (rX1_cases d (21, [some (.ref 0), some (.int a1), some (.int a2), some (.long a3), none, some (.int a5), some (.int (x.1 4 a6.toNatClampNeg)), some (.int a7)], [], x))) := (mj_run_to (cd := cdX1) (rt := 1) (tab := tX1_cases) (cal := kX1 d) zX1_cases 44 (60, [some (.ref 0), some (.int a1), some (.int a2), some (.long a3), none, some (.int a5), some (.int a6), some (.int a7)], [], x)).trans rfl
set_option maxRecDepth 100000 in
set_option maxHeartbeats 4000000 in
theorem bX1_cases_78 (d : Nat) (a1 : Int32) (a2 : Int32) (a3 : Int64) (a5 : Int32) (a6 : Int32) (a7 : Int32) (x : mj_X) : rX1_cases d (78, [some (.ref 0), some (.int a1), some (.int a2), some (.long a3), none, some (.int a5), some (.int a6), some (.int a7)], [], x) = mj_g a7 4000 (
  if (x.1 2 a7.toNatClampNeg) = (83 : Int32) then rX1_cases d (103, [some (.ref 0), some (.int a1), some (.int a2), some (.long a3), none, some (.int a5), some (.int a6), some (.int a7)], [.int a6], x)
  else 
   if a5 = (-1 : Int32) then rX1_cases d (103, [some (.ref 0), some (.int a1), some (.int a2), some (.long a3), none, some (.int a5), some (.int a6), some (.int a7)], [.int a6], x)
   else rX1_cases d (103, [some (.ref 0), some (.int a1), some (.int a2), some (.long a3), none, some (.int a5), some (.int a6), some (.int a7)], [.int a5], x)) := (mj_run_to (cd := cdX1) (rt := 1) (tab := tX1_cases) (cal := kX1 d) zX1_cases 44 (78, [some (.ref 0), some (.int a1), some (.int a2), some (.long a3), none, some (.int a5), some (.int a6), some (.int a7)], [], x)).trans rfl
set_option maxRecDepth 100000 in
set_option maxHeartbeats 4000000 in
theorem bX1_cases_103 (d : Nat) (a1 : Int32) (a2 : Int32) (a3 : Int64) (a5 : Int32) (a6 : Int32) (a7 : Int32) (s0 : Int32) (x : mj_X) : rX1_cases d (103, [some (.ref 0), some (.int a1), some (.int a2), some (.long a3), none, some (.int a5), some (.int a6), some (.int a7)], [.int s0], x) = mj_g a7 4000 (
  if (x.1 2 a7.toNatClampNeg) = (83 : Int32) then rX1_cases d (136, [some (.ref 0), some (.int a1), some (.int a2), some (.long a3), none, some (.int s0), some (.int s0), some (.int a7)], [], x)
  else mj_g a6 4000 (rX1_cases d (21, [some (.ref 0), some (.int a1), some (.int a2), some (.long a3), none, some (.int s0), some (.int (x.1 4 a6.toNatClampNeg)), some (.int a7)], [], x))) := (mj_run_to (cd := cdX1) (rt := 1) (tab := tX1_cases) (cal := kX1 d) zX1_cases 44 (103, [some (.ref 0), some (.int a1), some (.int a2), some (.long a3), none, some (.int a5), some (.int a6), some (.int a7)], [.int s0], x)).trans rfl
set_option maxRecDepth 100000 in
set_option maxHeartbeats 4000000 in
theorem bX1_cases_136 (d : Nat) (a1 : Int32) (a2 : Int32) (a3 : Int64) (a5 : Int32) (a6 : Int32) (o7 : Option Value) (x : mj_X) : rX1_cases d (136, [some (.ref 0), some (.int a1), some (.int a2), some (.long a3), none, some (.int a5), some (.int a6), o7], [], x) = 
  if a6 = (-1 : Int32) then some (some (.int (0 : Int32)), x)
  else mj_g a6 4000 (mj_g (x.1 3 a6.toNatClampNeg) 4000 (mj_rI (kX1 d 147 [.ref 0, .int (x.1 4 (x.1 3 a6.toNatClampNeg).toNatClampNeg)] x) fun v2 x1 =>
   
   if v2 = (1 : Int32) then 
    if (x1.1 0 101) = 0 then some (some (.int (0 : Int32)), x1)
    else some (some (.int (1 : Int32)), (mj_wI x1 0 101 ((x1.1 0 101) - (1 : Int32))))
   else 
    if v2 = 0 then mj_g a6 4000 (rX1_cases d (136, [some (.ref 0), some (.int a1), some (.int a2), some (.long a3), none, some (.int a5), some (.int (x1.1 4 a6.toNatClampNeg)), some (.int v2)], [], x1))
    else some (some (.int v2), x1))) := (mj_run_to (cd := cdX1) (rt := 1) (tab := tX1_cases) (cal := kX1 d) zX1_cases 44 (136, [some (.ref 0), some (.int a1), some (.int a2), some (.long a3), none, some (.int a5), some (.int a6), o7], [], x)).trans rfl
noncomputable abbrev rX1_body (d : Nat) : mj_S → mj_R := mj_run cdX1 0 tX1_body (kX1 d)
def zX1_body (p : Nat) : Bool := false
set_option maxRecDepth 100000 in
set_option maxHeartbeats 4000000 in
theorem eX1_body (d : Nat) (a1 : Int32) (x : mj_X) : kX1 (d + 1) 146 [.ref 0, .int a1] x = mj_g a1 40 (mj_rI (kX1 d 147 [.ref 0, .int (x.1 11 a1.toNatClampNeg)] x) fun v2 x1 =>
  mj_g a1 40 (
  if (x1.1 9 a1.toNatClampNeg) = 0 then some (none, (mj_wL x1 0 102 (0 : Int64)))
  else some (none, x1))) := (mj_run_to (cd := cdX1) (rt := 0) (tab := tX1_body) (cal := kX1 d) zX1_body 19 (0, [some (.ref 0), some (.int a1)], [], x)).trans rfl
noncomputable abbrev rX1_byTree (d : Nat) : mj_S → mj_R := mj_run cdX1 0 tX1_byTree (kX1 d)
def zX1_byTree (p : Nat) : Bool := bif Nat.beq p 14 then true else false
set_option maxRecDepth 100000 in
set_option maxHeartbeats 4000000 in
theorem eX1_byTree (d : Nat) (a1 : Int32) (x : mj_X) : kX1 (d + 1) 145 [.ref 0, .int a1] x = mj_g a1 40 (rX1_byTree d (14, [some (.ref 0), some (.int a1), some (.int (0 : Int32)), some (.int (x.1 10 a1.toNatClampNeg))], [], (mj_wI x 0 100 (0 : Int32)))) := (mj_run_to (cd := cdX1) (rt := 0) (tab := tX1_byTree) (cal := kX1 d) zX1_byTree 32 (0, [some (.ref 0), some (.int a1), none, none], [], x)).trans rfl
set_option maxRecDepth 100000 in
set_option maxHeartbeats 4000000 in
theorem bX1_byTree_14 (d : Nat) (a1 : Int32) (a2 : Int32) (a3 : Int32) (x : mj_X) : rX1_byTree d (14, [some (.ref 0), some (.int a1), some (.int a2), some (.int a3)], [], x) = 
  if a3 = (-1 : Int32) then mj_rV (kX1 d 146 [.ref 0, .int a1] x) fun x1 =>
   some (none, (mj_wL x1 0 88 (x1.2 0 102)))
  else mj_g a3 4000 (mj_g a2 8 (mj_g (x.1 3 a3.toNatClampNeg) 44000 (mj_g a3 4000 (rX1_byTree d (14, [some (.ref 0), some (.int a1), some (.int (a2 + (1 : Int32))), some (.int (x.1 4 a3.toNatClampNeg))], [], (mj_wL x 100 (x.1 3 a3.toNatClampNeg).toNatClampNeg (x.2 91 a2.toNatClampNeg))))))) := (mj_run_to (cd := cdX1) (rt := 0) (tab := tX1_byTree) (cal := kX1 d) zX1_byTree 32 (14, [some (.ref 0), some (.int a1), some (.int a2), some (.int a3)], [], x)).trans rfl
