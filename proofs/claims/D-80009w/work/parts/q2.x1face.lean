noncomputable abbrev rX1_fits (d : Nat) : mj_S → mj_R := mj_run cdX1 5 tX1_fits (kX1 d)
def zX1_fits (p : Nat) : Bool := bif Nat.blt p 55 then (bif Nat.beq p 9 then true else false) else (bif Nat.beq p 55 then true else false)
set_option maxRecDepth 100000 in
set_option maxHeartbeats 4000000 in
theorem eX1_fits (d : Nat) (a1 : Int32) (x : mj_X) : kX1 (d + 1) 109 [.ref 0, .int a1] x = mj_g a1 40 (rX1_fits d (9, [some (.ref 0), some (.int a1), some (.int (x.1 10 a1.toNatClampNeg)), some (.int (0 : Int32))], [], x)) := (mj_run_to (cd := cdX1) (rt := 5) (tab := tX1_fits) (cal := kX1 d) zX1_fits 32 (0, [some (.ref 0), some (.int a1), none, none], [], x)).trans rfl
set_option maxRecDepth 100000 in
set_option maxHeartbeats 4000000 in
theorem bX1_fits_9 (d : Nat) (a1 : Int32) (a2 : Int32) (a3 : Int32) (x : mj_X) : rX1_fits d (9, [some (.ref 0), some (.int a1), some (.int a2), some (.int a3)], [], x) = 
  if a2 = (-1 : Int32) then rX1_fits d (55, [some (.ref 0), some (.int a1), some (.int a2), some (.int a3)], [], x)
  else 
   if (x.1 0 75) ≤ a3 then rX1_fits d (55, [some (.ref 0), some (.int a1), some (.int a2), some (.int a3)], [], x)
   else mj_g a2 4000 (mj_g (x.1 3 a2.toNatClampNeg) 4000 (mj_g a3 8 (
    if (x.1 5 (x.1 3 a2.toNatClampNeg).toNatClampNeg) = (x.1 77 a3.toNatClampNeg) then mj_g a2 4000 (rX1_fits d (9, [some (.ref 0), some (.int a1), some (.int (x.1 4 a2.toNatClampNeg)), some (.int (a3 + (1 : Int32)))], [], x))
    else rX1_fits d (55, [some (.ref 0), some (.int a1), some (.int a2), some (.int a3)], [], x)))) := (mj_run_to (cd := cdX1) (rt := 5) (tab := tX1_fits) (cal := kX1 d) zX1_fits 32 (9, [some (.ref 0), some (.int a1), some (.int a2), some (.int a3)], [], x)).trans rfl
set_option maxRecDepth 100000 in
set_option maxHeartbeats 4000000 in
theorem bX1_fits_55 (d : Nat) (a1 : Int32) (a2 : Int32) (a3 : Int32) (x : mj_X) : rX1_fits d (55, [some (.ref 0), some (.int a1), some (.int a2), some (.int a3)], [], x) = 
  if a2 = (-1 : Int32) then 
   if a3 = (x.1 0 75) then some (some (.int (1 : Int32)), x)
   else some (some (.int (0 : Int32)), x)
  else some (some (.int (0 : Int32)), x) := (mj_run_to (cd := cdX1) (rt := 5) (tab := tX1_fits) (cal := kX1 d) zX1_fits 32 (55, [some (.ref 0), some (.int a1), some (.int a2), some (.int a3)], [], x)).trans rfl
noncomputable abbrev rX1_begin (d : Nat) : mj_S → mj_R := mj_run cdX1 0 tX1_begin (kX1 d)
def zX1_begin (p : Nat) : Bool := bif Nat.beq p 37 then true else false
set_option maxRecDepth 100000 in
set_option maxHeartbeats 4000000 in
theorem eX1_begin (d : Nat)  (x : mj_X) : kX1 (d + 1) 110 [.ref 0] x = rX1_begin d (37, [some (.ref 0), some (.int (0 : Int32)), none], [], (mj_wI (mj_wL (mj_wI (mj_wI (mj_wI (mj_wI (mj_wI x 0 78 (0 : Int32)) 0 79 (0 : Int32)) 0 80 (0 : Int32)) 0 81 (0 : Int32)) 0 82 (0 : Int32)) 0 88 (0 : Int64)) 0 89 (0 : Int32))) := (mj_run_to (cd := cdX1) (rt := 0) (tab := tX1_begin) (cal := kX1 d) zX1_begin 87 (0, [some (.ref 0), none, none], [], x)).trans rfl
set_option maxRecDepth 100000 in
set_option maxHeartbeats 4000000 in
theorem bX1_begin_37 (d : Nat) (a1 : Int32) (o2 : Option Value) (x : mj_X) : rX1_begin d (37, [some (.ref 0), some (.int a1), o2], [], x) = 
  if (x.1 0 75) ≤ a1 then some (none, x)
  else 
   if (x.1 0 79) = 0 then mj_g a1 8 (
    if (x.1 77 a1.toNatClampNeg) < (5 : Int32) then 
     if (x.1 77 a1.toNatClampNeg) = (3 : Int32) then mj_g a1 8 (mj_rI (kX1 d 67 [.int (x.2 78 a1.toNatClampNeg).toInt32] x) fun v2 x1 =>
      mj_g a1 8 (rX1_begin d (37, [some (.ref 0), some (.int (a1 + (1 : Int32))), some (.int (x.1 77 a1.toNatClampNeg))], [], (mj_wL x1 91 a1.toNatClampNeg v2.toInt64))))
     else 
      if (x.1 77 a1.toNatClampNeg) = (4 : Int32) then mj_g a1 8 (mj_rL (kX1 d 69 [.long (x.2 78 a1.toNatClampNeg)] x) fun v4 x3 =>
       mj_g a1 8 (rX1_begin d (37, [some (.ref 0), some (.int (a1 + (1 : Int32))), some (.int (x.1 77 a1.toNatClampNeg))], [], (mj_wL x3 91 a1.toNatClampNeg v4))))
      else mj_g a1 8 (mj_g a1 8 (rX1_begin d (37, [some (.ref 0), some (.int (a1 + (1 : Int32))), some (.int (x.1 77 a1.toNatClampNeg))], [], (mj_wL x 91 a1.toNatClampNeg (x.2 78 a1.toNatClampNeg)))))
    else mj_g a1 8 (
     if 0 ≤ (lg_cmp (x.2 78 a1.toNatClampNeg) (0 : Int64)) then mj_g a1 8 (mj_rL (kX1 d 111 [.ref 0, .int (x.1 77 a1.toNatClampNeg), .long (x.2 78 a1.toNatClampNeg)] x) fun v6 x5 =>
      mj_g a1 8 (rX1_begin d (37, [some (.ref 0), some (.int (a1 + (1 : Int32))), some (.int (x.1 77 a1.toNatClampNeg))], [], (mj_wL x5 91 a1.toNatClampNeg v6))))
     else mj_g a1 8 (rX1_begin d (37, [some (.ref 0), some (.int (a1 + (1 : Int32))), some (.int (x.1 77 a1.toNatClampNeg))], [], (mj_wL x 91 a1.toNatClampNeg (0 : Int64))))))
   else some (none, x) := (mj_run_to (cd := cdX1) (rt := 0) (tab := tX1_begin) (cal := kX1 d) zX1_begin 87 (37, [some (.ref 0), some (.int a1), o2], [], x)).trans rfl
noncomputable abbrev rX1_result (d : Nat) : mj_S → mj_R := mj_run cdX1 2 tX1_result (kX1 d)
def zX1_result (p : Nat) : Bool := false
set_option maxRecDepth 100000 in
set_option maxHeartbeats 4000000 in
theorem eX1_result (d : Nat)  (x : mj_X) : kX1 (d + 1) 161 [.ref 0] x = 
  if (5 : Int32) ≤ (x.1 0 89) then 
   if (lg_cmp (x.2 0 88) (0 : Int64)) = 0 then some (some (.long (-1 : Int64)), x)
   else mj_g ((x.2 0 88).toInt32 - (1 : Int32)) 100020 (some (some (.long (x.1 85 ((x.2 0 88).toInt32 - (1 : Int32)).toNatClampNeg).toInt64), x))
  else some (some (.long (x.2 0 88)), x) := (mj_run_to (cd := cdX1) (rt := 2) (tab := tX1_result) (cal := kX1 d) zX1_result 27 (0, [some (.ref 0)], [], x)).trans rfl
noncomputable abbrev rX1_element_2 (d : Nat) : mj_S → mj_R := mj_run cdX1 2 tX1_element_2 (kX1 d)
def zX1_element_2 (p : Nat) : Bool := false
set_option maxRecDepth 100000 in
set_option maxHeartbeats 4000000 in
theorem eX1_element_2 (d : Nat) (a1 : Int32) (x : mj_X) : kX1 (d + 1) 162 [.ref 0, .int a1] x = 
  if (x.1 0 89) < (5 : Int32) then some (some (.long (0 : Int64)), x)
  else 
   if (lg_cmp (x.2 0 88) (0 : Int64)) = 0 then some (some (.long (0 : Int64)), x)
   else 
    if a1 < 0 then some (some (.long (0 : Int64)), x)
    else mj_g ((x.2 0 88).toInt32 - (1 : Int32)) 100020 (
     if a1 < (x.1 85 ((x.2 0 88).toInt32 - (1 : Int32)).toNatClampNeg) then mj_g ((x.2 0 88).toInt32 - (1 : Int32)) 100020 (mj_g ((x.1 84 ((x.2 0 88).toInt32 - (1 : Int32)).toNatClampNeg) + a1) 20001 (some (some (.long (x.2 87 ((x.1 84 ((x.2 0 88).toInt32 - (1 : Int32)).toNatClampNeg) + a1).toNatClampNeg)), x)))
     else some (some (.long (0 : Int64)), x)) := (mj_run_to (cd := cdX1) (rt := 2) (tab := tX1_element_2) (cal := kX1 d) zX1_element_2 45 (0, [some (.ref 0), some (.int a1)], [], x)).trans rfl
noncomputable abbrev rX1_thrown (d : Nat) : mj_S → mj_R := mj_run cdX1 1 tX1_thrown (kX1 d)
def zX1_thrown (p : Nat) : Bool := false
set_option maxRecDepth 100000 in
set_option maxHeartbeats 4000000 in
theorem eX1_thrown (d : Nat) (a1 : Int32) (x : mj_X) : kX1 (d + 1) 163 [.ref 0, .int a1] x = 
  if a1 = 0 then some (some (.int (x.1 0 79)), x)
  else 
   if a1 = (1 : Int32) then some (some (.int (x.1 0 80)), x)
   else 
    if a1 = (2 : Int32) then some (some (.int (x.1 0 78)), x)
    else 
     if a1 = (3 : Int32) then some (some (.int (x.1 0 81)), x)
     else some (some (.int (-1 : Int32)), x) := (mj_run_to (cd := cdX1) (rt := 1) (tab := tX1_thrown) (cal := kX1 d) zX1_thrown 31 (0, [some (.ref 0), some (.int a1)], [], x)).trans rfl
noncomputable abbrev rX1_agree (d : Nat) : mj_S → mj_R := mj_run cdX1 1 tX1_agree (kX1 d)
def zX1_agree (p : Nat) : Bool := bif Nat.blt p 155 then (bif Nat.blt p 59 then (bif Nat.beq p 41 then true else false) else (bif Nat.beq p 59 then true else false)) else (bif Nat.blt p 161 then (bif Nat.beq p 155 then true else false) else (bif Nat.beq p 161 then true else false))
set_option maxRecDepth 100000 in
set_option maxHeartbeats 4000000 in
theorem eX1_agree (d : Nat) (a1 : Int32) (x : mj_X) : kX1 (d + 1) 164 [.ref 0, .int a1] x = mj_rI (kX1 d 108 [.ref 0, .int a1, .int (1 : Int32)] x) fun v2 x1 =>
  
  if v2 = (-1 : Int32) then some (some (.int (-1 : Int32)), x1)
  else mj_rL (kX1 d 161 [.ref 0] x1) fun v4 x3 =>
   
   if (x3.1 0 89) < (5 : Int32) then rX1_agree d (41, [some (.ref 0), some (.int a1), some (.int v2), some (.long v4), none, none, none, none, none, none, none, none], [.int (0 : Int32)], x3)
   else 
    if (lg_cmp (x3.2 0 88) (0 : Int64)) = 0 then rX1_agree d (41, [some (.ref 0), some (.int a1), some (.int v2), some (.long v4), none, none, none, none, none, none, none, none], [.int (0 : Int32)], x3)
    else rX1_agree d (41, [some (.ref 0), some (.int a1), some (.int v2), some (.long v4), none, none, none, none, none, none, none, none], [.int (1 : Int32)], x3) := (mj_run_to (cd := cdX1) (rt := 1) (tab := tX1_agree) (cal := kX1 d) zX1_agree 62 (0, [some (.ref 0), some (.int a1), none, none, none, none, none, none, none, none, none, none], [], x)).trans rfl
set_option maxRecDepth 100000 in
set_option maxHeartbeats 4000000 in
theorem bX1_agree_41 (d : Nat) (a1 : Int32) (a2 : Int32) (a3 : Int64) (s0 : Int32) (x : mj_X) : rX1_agree d (41, [some (.ref 0), some (.int a1), some (.int a2), some (.long a3), none, none, none, none, none, none, none, none], [.int s0], x) = 
  if s0 = 0 then rX1_agree d (59, [some (.ref 0), some (.int a1), some (.int a2), some (.long a3), none, some (.int s0), some (.int (0 : Int32)), some (.int (0 : Int32)), none, none, none, none], [], x)
  else rX1_agree d (59, [some (.ref 0), some (.int a1), some (.int a2), some (.long a3), none, some (.int s0), some (.int a3.toInt32), some (.int (0 : Int32)), none, none, none, none], [], x) := (mj_run_to (cd := cdX1) (rt := 1) (tab := tX1_agree) (cal := kX1 d) zX1_agree 62 (41, [some (.ref 0), some (.int a1), some (.int a2), some (.long a3), none, none, none, none, none, none, none, none], [.int s0], x)).trans rfl
set_option maxRecDepth 100000 in
set_option maxHeartbeats 4000000 in
theorem bX1_agree_59 (d : Nat) (a1 : Int32) (a2 : Int32) (a3 : Int64) (a5 : Int32) (a6 : Int32) (a7 : Int32) (x : mj_X) : rX1_agree d (59, [some (.ref 0), some (.int a1), some (.int a2), some (.long a3), none, some (.int a5), some (.int a6), some (.int a7), none, none, none, none], [], x) = 
  if a6 ≤ a7 then mj_rI (kX1 d 108 [.ref 0, .int a1, .int (0 : Int32)] x) fun v2 x1 =>
   
   if a2 = (3 : Int32) then some (some (.int (3 : Int32)), x1)
   else 
    if v2 = (3 : Int32) then some (some (.int (3 : Int32)), x1)
    else 
     if a2 = v2 then mj_rL (kX1 d 161 [.ref 0] x1) fun v4 x3 =>
      
      if (lg_cmp a3 v4) = 0 then 
       if (x.1 0 79) = (x3.1 0 79) then 
        if (x.1 0 80) = (x3.1 0 80) then rX1_agree d (161, [some (.ref 0), some (.int a1), some (.int a2), some (.long a3), none, some (.int a5), some (.int a6), some (.int (x.1 0 79)), some (.int (x.1 0 80)), some (.int v2), some (.int (1 : Int32)), some (.int (0 : Int32))], [], x3)
        else rX1_agree d (155, [some (.ref 0), some (.int a1), some (.int a2), some (.long a3), none, some (.int a5), some (.int a6), some (.int (x.1 0 79)), some (.int (x.1 0 80)), some (.int v2), none, none], [], x3)
       else rX1_agree d (155, [some (.ref 0), some (.int a1), some (.int a2), some (.long a3), none, some (.int a5), some (.int a6), some (.int (x.1 0 79)), some (.int (x.1 0 80)), some (.int v2), none, none], [], x3)
      else rX1_agree d (155, [some (.ref 0), some (.int a1), some (.int a2), some (.long a3), none, some (.int a5), some (.int a6), some (.int (x.1 0 79)), some (.int (x.1 0 80)), some (.int v2), none, none], [], x3)
     else rX1_agree d (155, [some (.ref 0), some (.int a1), some (.int a2), some (.long a3), none, some (.int a5), some (.int a6), some (.int (x.1 0 79)), some (.int (x.1 0 80)), some (.int v2), none, none], [], x1)
  else mj_rL (kX1 d 162 [.ref 0, .int a7] x) fun v6 x5 =>
   mj_g a7 4001 (rX1_agree d (59, [some (.ref 0), some (.int a1), some (.int a2), some (.long a3), none, some (.int a5), some (.int a6), some (.int (a7 + (1 : Int32))), none, none, none, none], [], (mj_wL x5 92 a7.toNatClampNeg v6))) := (mj_run_to (cd := cdX1) (rt := 1) (tab := tX1_agree) (cal := kX1 d) zX1_agree 62 (59, [some (.ref 0), some (.int a1), some (.int a2), some (.long a3), none, some (.int a5), some (.int a6), some (.int a7), none, none, none, none], [], x)).trans rfl
set_option maxRecDepth 100000 in
set_option maxHeartbeats 4000000 in
theorem bX1_agree_155 (d : Nat) (a1 : Int32) (a2 : Int32) (a3 : Int64) (a5 : Int32) (a6 : Int32) (a7 : Int32) (a8 : Int32) (a9 : Int32) (x : mj_X) : rX1_agree d (155, [some (.ref 0), some (.int a1), some (.int a2), some (.long a3), none, some (.int a5), some (.int a6), some (.int a7), some (.int a8), some (.int a9), none, none], [], x) = rX1_agree d (161, [some (.ref 0), some (.int a1), some (.int a2), some (.long a3), none, some (.int a5), some (.int a6), some (.int a7), some (.int a8), some (.int a9), some (.int (0 : Int32)), some (.int (0 : Int32))], [], x) := (mj_run_to (cd := cdX1) (rt := 1) (tab := tX1_agree) (cal := kX1 d) zX1_agree 62 (155, [some (.ref 0), some (.int a1), some (.int a2), some (.long a3), none, some (.int a5), some (.int a6), some (.int a7), some (.int a8), some (.int a9), none, none], [], x)).trans rfl
set_option maxRecDepth 100000 in
set_option maxHeartbeats 4000000 in
theorem bX1_agree_161 (d : Nat) (a1 : Int32) (a2 : Int32) (a3 : Int64) (a5 : Int32) (a6 : Int32) (a7 : Int32) (a8 : Int32) (a9 : Int32) (a10 : Int32) (a11 : Int32) (x : mj_X) : rX1_agree d (161, [some (.ref 0), some (.int a1), some (.int a2), some (.long a3), none, some (.int a5), some (.int a6), some (.int a7), some (.int a8), some (.int a9), some (.int a10), some (.int a11)], [], x) = 
  if a6 ≤ a11 then 
   if a10 = 0 then some (some (.int (0 : Int32)), x)
   else some (some (.int (1 : Int32)), x)
  else 
   if a10 = 0 then 
    if a10 = 0 then some (some (.int (0 : Int32)), x)
    else some (some (.int (1 : Int32)), x)
   else mj_g a11 4001 (mj_rL (kX1 d 162 [.ref 0, .int a11] x) fun v2 x1 =>
    
    if (lg_cmp (x.2 92 a11.toNatClampNeg) v2) = 0 then rX1_agree d (161, [some (.ref 0), some (.int a1), some (.int a2), some (.long a3), none, some (.int a5), some (.int a6), some (.int a7), some (.int a8), some (.int a9), some (.int (1 : Int32)), some (.int (a11 + (1 : Int32)))], [], x1)
    else rX1_agree d (161, [some (.ref 0), some (.int a1), some (.int a2), some (.long a3), none, some (.int a5), some (.int a6), some (.int a7), some (.int a8), some (.int a9), some (.int (0 : Int32)), some (.int (a11 + (1 : Int32)))], [], x1)) := (mj_run_to (cd := cdX1) (rt := 1) (tab := tX1_agree) (cal := kX1 d) zX1_agree 62 (161, [some (.ref 0), some (.int a1), some (.int a2), some (.long a3), none, some (.int a5), some (.int a6), some (.int a7), some (.int a8), some (.int a9), some (.int a10), some (.int a11)], [], x)).trans rfl
