noncomputable abbrev rX0_pool (d : Nat) : mj_S → mj_R := mj_run cdX0 1 tX0_pool (kX0 d)
def zX0_pool (p : Nat) : Bool := bif Nat.beq p 11 then true else false
set_option maxRecDepth 100000 in
set_option maxHeartbeats 4000000 in
theorem eX0_pool (d : Nat) (a1 : Int32) (a2 : Int64) (x : mj_X) : kX0 (d + 1) 51 [.ref 0, .int a1, .long a2] x = mj_g (x.1 0 7) 41 (rX0_pool d (11, [some (.ref 0), some (.int a1), some (.long a2), none, some (.int (x.1 17 (x.1 0 7).toNatClampNeg))], [], x)) := (mj_run_to (cd := cdX0) (rt := 1) (tab := tX0_pool) (cal := kX0 d) zX0_pool 86 (0, [some (.ref 0), some (.int a1), some (.long a2), none, none], [], x)).trans rfl
set_option maxRecDepth 100000 in
set_option maxHeartbeats 4000000 in
theorem bX0_pool_11 (d : Nat) (a1 : Int32) (a2 : Int64) (a4 : Int32) (x : mj_X) : rX0_pool d (11, [some (.ref 0), some (.int a1), some (.long a2), none, some (.int a4)], [], x) = 
  if (x.1 0 43) ≤ a4 then 
   if (x.1 0 43) = (Int32.ofNat 8000) then some (some (.int (0 : Int32)), (mj_wI x 0 29 (1 : Int32)))
   else mj_g (x.1 0 43) 8000 (mj_g (x.1 0 43) 8000 (mj_g (x.1 0 43) 8000 (mj_rI (kX0 d 27 [.int a1] (mj_wI (mj_wI (mj_wL (mj_wI x 19 (x.1 0 43).toNatClampNeg a1.toInt8.toInt32.toInt8.toInt32) 20 (x.1 0 43).toNatClampNeg a2) 18 (x.1 0 43).toNatClampNeg (x.1 0 44)) 0 43 ((x.1 0 43) + (1 : Int32)))) fun v2 x1 =>
    
    if v2 = 0 then some (some (.int (x.1 0 44)), (mj_wI x1 0 44 ((x.1 0 44) + (1 : Int32))))
    else some (some (.int (x.1 0 44)), (mj_wI x1 0 44 ((x.1 0 44) + (2 : Int32)))))))
  else mj_g a4 8000 (
   if (x.1 19 a4.toNatClampNeg) = a1 then mj_g a4 8000 (
    if (lg_cmp (x.2 20 a4.toNatClampNeg) a2) = 0 then mj_g a4 8000 (some (some (.int (x.1 18 a4.toNatClampNeg)), x))
    else rX0_pool d (11, [some (.ref 0), some (.int a1), some (.long a2), none, some (.int (a4 + (1 : Int32)))], [], x))
   else rX0_pool d (11, [some (.ref 0), some (.int a1), some (.long a2), none, some (.int (a4 + (1 : Int32)))], [], x)) := (mj_run_to (cd := cdX0) (rt := 1) (tab := tX0_pool) (cal := kX0 d) zX0_pool 86 (11, [some (.ref 0), some (.int a1), some (.long a2), none, some (.int a4)], [], x)).trans rfl
noncomputable abbrev rX0_opOf (d : Nat) : mj_S → mj_R := mj_run cdX0 1 tX0_opOf (kX0 d)
def zX0_opOf (p : Nat) : Bool := false
set_option maxRecDepth 100000 in
set_option maxHeartbeats 4000000 in
theorem eX0_opOf (d : Nat) (a0 : Int32) (a1 : Int32) (x : mj_X) : kX0 (d + 1) 52 [.int a0, .int a1] x = 
  if a0 < (18 : Int32) then 
   if a0 < (15 : Int32) then some (some (.int ((((96 : Int32) + ((4 : Int32) * (a0 - (10 : Int32)))) + a1) - (1 : Int32))), x)
   else some (some (.int ((((126 : Int32) + ((2 : Int32) * (a0 - (15 : Int32)))) + a1) - (1 : Int32))), x)
  else some (some (.int ((((120 : Int32) + ((2 : Int32) * (a0 - (18 : Int32)))) + a1) - (1 : Int32))), x) := (mj_run_to (cd := cdX0) (rt := 1) (tab := tX0_opOf) (cal := kX0 d) zX0_opOf 44 (0, [some (.int a0), some (.int a1)], [], x)).trans rfl
noncomputable abbrev rX0_twice (d : Nat) : mj_S → mj_R := mj_run cdX0 0 tX0_twice (kX0 d)
def zX0_twice (p : Nat) : Bool := false
set_option maxRecDepth 100000 in
set_option maxHeartbeats 4000000 in
theorem eX0_twice (d : Nat) (a1 : Int32) (x : mj_X) : kX0 (d + 1) 53 [.ref 0, .int a1] x = mj_g a1 4000 (mj_rV (kX0 d 35 [.ref 0, .int (x.1 2 a1.toNatClampNeg), .int (1 : Int32)] x) fun x1 =>
  mj_g a1 4000 (mj_rV (kX0 d 35 [.ref 0, .int (x1.1 3 a1.toNatClampNeg), .int (1 : Int32)] x1) fun x2 =>
  mj_rV (kX0 d 37 [.ref 0, .int (92 : Int32)] x2) fun x3 =>
  mj_g a1 4000 (mj_g (x3.1 2 a1.toNatClampNeg) 4000 (mj_rI (kX0 d 45 [.int (x3.1 4 (x3.1 2 a1.toNatClampNeg).toNatClampNeg)] x3) fun v5 x4 =>
  mj_rV (kX0 d 37 [.ref 0, .int ((46 : Int32) + v5)] x4) fun x6 =>
  some (none, x6))))) := (mj_run_to (cd := cdX0) (rt := 0) (tab := tX0_twice) (cal := kX0 d) zX0_twice 32 (0, [some (.ref 0), some (.int a1)], [], x)).trans rfl
noncomputable abbrev rX0_invoke (d : Nat) : mj_S → mj_R := mj_run cdX0 0 tX0_invoke (kX0 d)
def zX0_invoke (p : Nat) : Bool := false
set_option maxRecDepth 100000 in
set_option maxHeartbeats 4000000 in
theorem eX0_invoke (d : Nat) (a1 : Int32) (a2 : Int64) (x : mj_X) : kX0 (d + 1) 54 [.ref 0, .int a1, .long a2] x = 
  if (x.1 0 30) = 0 then some (none, x)
  else mj_rI (kX0 d 51 [.ref 0, .int a1, .long a2] x) fun v2 x1 =>
   mj_rV (kX0 d 37 [.ref 0, .int (184 : Int32)] x1) fun x3 =>
   mj_rV (kX0 d 42 [.ref 0, .int v2] x3) fun x4 =>
   some (none, x4) := (mj_run_to (cd := cdX0) (rt := 0) (tab := tX0_invoke) (cal := kX0 d) zX0_invoke 18 (0, [some (.ref 0), some (.int a1), some (.long a2), none, none], [], x)).trans rfl
noncomputable abbrev rX0_drop (d : Nat) : mj_S → mj_R := mj_run cdX0 0 tX0_drop (kX0 d)
def zX0_drop (p : Nat) : Bool := false
set_option maxRecDepth 100000 in
set_option maxHeartbeats 4000000 in
theorem eX0_drop (d : Nat) (a1 : Int32) (x : mj_X) : kX0 (d + 1) 55 [.ref 0, .int a1] x = 
  if a1 = 0 then some (none, x)
  else mj_rI (kX0 d 27 [.int a1] x) fun v2 x1 =>
   
   if v2 = 0 then mj_rV (kX0 d 37 [.ref 0, .int (87 : Int32)] x1) fun x3 =>
    some (none, x3)
   else mj_rV (kX0 d 37 [.ref 0, .int (88 : Int32)] x1) fun x4 =>
    some (none, x4) := (mj_run_to (cd := cdX0) (rt := 0) (tab := tX0_drop) (cal := kX0 d) zX0_drop 16 (0, [some (.ref 0), some (.int a1)], [], x)).trans rfl
noncomputable abbrev rX0_compound (d : Nat) : mj_S → mj_R := mj_run cdX0 0 tX0_compound (kX0 d)
def zX0_compound (p : Nat) : Bool := bif Nat.blt p 130 then (bif Nat.beq p 69 then true else false) else (bif Nat.blt p 213 then (bif Nat.beq p 130 then true else false) else (bif Nat.beq p 213 then true else false))
set_option maxRecDepth 100000 in
set_option maxHeartbeats 4000000 in
theorem eX0_compound (d : Nat) (a1 : Int32) (a2 : Int32) (a3 : Int32) (a4 : Int32) (x : mj_X) : kX0 (d + 1) 56 [.ref 0, .int a1, .int a2, .int a3, .int a4] x = mj_g a1 4000 (mj_g a1 4000 (mj_g a2 4000 (
  if (x.1 1 a2.toNatClampNeg) = (6 : Int32) then mj_g a2 4000 (mj_g (x.1 2 a2.toNatClampNeg) 4000 (
   if (((x.1 1 a1.toNatClampNeg) - (35 : Int32)) + (10 : Int32)) = (10 : Int32) then mj_g a3 4000 (rX0_compound d (69, [some (.ref 0), some (.int a1), some (.int a2), some (.int a3), some (.int a4), some (.int (x.1 4 a1.toNatClampNeg)), some (.int (((x.1 1 a1.toNatClampNeg) - (35 : Int32)) + (10 : Int32))), some (.int (x.1 35 (x.1 2 a2.toNatClampNeg).toNatClampNeg)), none], [.int (x.1 2 a3.toNatClampNeg)], x))
   else mj_g a3 4000 (rX0_compound d (69, [some (.ref 0), some (.int a1), some (.int a2), some (.int a3), some (.int a4), some (.int (x.1 4 a1.toNatClampNeg)), some (.int (((x.1 1 a1.toNatClampNeg) - (35 : Int32)) + (10 : Int32))), some (.int (x.1 35 (x.1 2 a2.toNatClampNeg).toNatClampNeg)), none], [.int (-(x.1 2 a3.toNatClampNeg))], x))))
  else mj_rV (kX0 d 53 [.ref 0, .int a2] x) fun x1 =>
   mj_rV (kX0 d 35 [.ref 0, .int a3, .int (1 : Int32)] x1) fun x2 =>
   mj_rI (kX0 d 52 [.int (((x.1 1 a1.toNatClampNeg) - (35 : Int32)) + (10 : Int32)), .int (x.1 4 a1.toNatClampNeg)] x2) fun v4 x3 =>
   mj_rV (kX0 d 37 [.ref 0, .int v4] x3) fun x5 =>
   mj_rV (kX0 d 43 [.ref 0, .int a2] x5) fun x6 =>
   
   if a4 = 0 then rX0_compound d (213, [some (.ref 0), some (.int a1), some (.int a2), some (.int a3), some (.int a4), some (.int (x.1 4 a1.toNatClampNeg)), some (.int (((x.1 1 a1.toNatClampNeg) - (35 : Int32)) + (10 : Int32))), none, none], [], x6)
   else mj_rV (kX0 d 44 [.ref 0, .int (x.1 4 a1.toNatClampNeg)] x6) fun x7 =>
    rX0_compound d (213, [some (.ref 0), some (.int a1), some (.int a2), some (.int a3), some (.int a4), some (.int (x.1 4 a1.toNatClampNeg)), some (.int (((x.1 1 a1.toNatClampNeg) - (35 : Int32)) + (10 : Int32))), none, none], [], x7)))) := (mj_run_to (cd := cdX0) (rt := 0) (tab := tX0_compound) (cal := kX0 d) zX0_compound 67 (0, [some (.ref 0), some (.int a1), some (.int a2), some (.int a3), some (.int a4), none, none, none, none], [], x)).trans rfl
set_option maxRecDepth 100000 in
set_option maxHeartbeats 4000000 in
theorem bX0_compound_69 (d : Nat) (a1 : Int32) (a2 : Int32) (a3 : Int32) (a4 : Int32) (a5 : Int32) (a6 : Int32) (a7 : Int32) (s0 : Int32) (x : mj_X) : rX0_compound d (69, [some (.ref 0), some (.int a1), some (.int a2), some (.int a3), some (.int a4), some (.int a5), some (.int a6), some (.int a7), none], [.int s0], x) = 
  if a5 = (1 : Int32) then 
   if (11 : Int32) < a6 then rX0_compound d (130, [some (.ref 0), some (.int a1), some (.int a2), some (.int a3), some (.int a4), some (.int a5), some (.int a6), some (.int a7), some (.int s0)], [], x)
   else mj_g a3 4000 (
    if (x.1 1 a3.toNatClampNeg) = (1 : Int32) then mj_rI (kX0 d 2 [.long s0.toInt64, .long (-32768 : Int64), .long (32767 : Int64)] x) fun v2 x1 =>
     
     if v2 = 0 then rX0_compound d (130, [some (.ref 0), some (.int a1), some (.int a2), some (.int a3), some (.int a4), some (.int a5), some (.int a6), some (.int a7), some (.int s0)], [], x1)
     else mj_rV (kX0 d 48 [.ref 0, .int a7, .int s0] x1) fun x3 =>
      
      if a4 = 0 then some (none, x3)
      else mj_rV (kX0 d 47 [.ref 0, .int (1 : Int32), .int a7] x3) fun x4 =>
       some (none, x4)
    else rX0_compound d (130, [some (.ref 0), some (.int a1), some (.int a2), some (.int a3), some (.int a4), some (.int a5), some (.int a6), some (.int a7), some (.int s0)], [], x))
  else rX0_compound d (130, [some (.ref 0), some (.int a1), some (.int a2), some (.int a3), some (.int a4), some (.int a5), some (.int a6), some (.int a7), some (.int s0)], [], x) := (mj_run_to (cd := cdX0) (rt := 0) (tab := tX0_compound) (cal := kX0 d) zX0_compound 67 (69, [some (.ref 0), some (.int a1), some (.int a2), some (.int a3), some (.int a4), some (.int a5), some (.int a6), some (.int a7), none], [.int s0], x)).trans rfl
set_option maxRecDepth 100000 in
set_option maxHeartbeats 4000000 in
theorem bX0_compound_130 (d : Nat) (a1 : Int32) (a2 : Int32) (a3 : Int32) (a4 : Int32) (a5 : Int32) (a6 : Int32) (a7 : Int32) (a8 : Int32) (x : mj_X) : rX0_compound d (130, [some (.ref 0), some (.int a1), some (.int a2), some (.int a3), some (.int a4), some (.int a5), some (.int a6), some (.int a7), some (.int a8)], [], x) = mj_rV (kX0 d 47 [.ref 0, .int a5, .int a7] x) fun x1 =>
  mj_rV (kX0 d 35 [.ref 0, .int a3, .int (1 : Int32)] x1) fun x2 =>
  mj_rI (kX0 d 52 [.int a6, .int a5] x2) fun v4 x3 =>
  mj_rV (kX0 d 37 [.ref 0, .int v4] x3) fun x5 =>
  
  if a4 = 0 then mj_rV (kX0 d 39 [.ref 0, .int a5, .int a7] x5) fun x6 =>
   some (none, x6)
  else mj_rV (kX0 d 36 [.ref 0, .int a5] x5) fun x7 =>
   mj_rV (kX0 d 39 [.ref 0, .int a5, .int a7] x7) fun x8 =>
   some (none, x8) := (mj_run_to (cd := cdX0) (rt := 0) (tab := tX0_compound) (cal := kX0 d) zX0_compound 67 (130, [some (.ref 0), some (.int a1), some (.int a2), some (.int a3), some (.int a4), some (.int a5), some (.int a6), some (.int a7), some (.int a8)], [], x)).trans rfl
set_option maxRecDepth 100000 in
set_option maxHeartbeats 4000000 in
theorem bX0_compound_213 (d : Nat) (a1 : Int32) (a2 : Int32) (a3 : Int32) (a4 : Int32) (a5 : Int32) (a6 : Int32) (x : mj_X) : rX0_compound d (213, [some (.ref 0), some (.int a1), some (.int a2), some (.int a3), some (.int a4), some (.int a5), some (.int a6), none, none], [], x) = mj_g a2 4000 (mj_g (x.1 2 a2.toNatClampNeg) 4000 (mj_rI (kX0 d 45 [.int (x.1 4 (x.1 2 a2.toNatClampNeg).toNatClampNeg)] x) fun v2 x1 =>
  mj_rV (kX0 d 37 [.ref 0, .int ((79 : Int32) + v2)] x1) fun x3 =>
  some (none, x3))) := (mj_run_to (cd := cdX0) (rt := 0) (tab := tX0_compound) (cal := kX0 d) zX0_compound 67 (213, [some (.ref 0), some (.int a1), some (.int a2), some (.int a3), some (.int a4), some (.int a5), some (.int a6), none, none], [], x)).trans rfl
noncomputable abbrev rX0_plain (d : Nat) : mj_S → mj_R := mj_run cdX0 0 tX0_plain (kX0 d)
def zX0_plain (p : Nat) : Bool := bif Nat.beq p 340 then true else false
set_option maxRecDepth 100000 in
set_option maxHeartbeats 4000000 in
theorem eX0_plain (d : Nat) (a1 : Int32) (a2 : Int32) (a3 : Int32) (x : mj_X) : kX0 (d + 1) 57 [.ref 0, .int a1, .int a2, .int a3] x = mj_g a1 4000 (
  if (4 : Int32) < (x.1 1 a1.toNatClampNeg) then 
   if (x.1 1 a1.toNatClampNeg) = (51 : Int32) then mj_rV (kX0 d 37 [.ref 0, .int (1 : Int32)] x) fun x1 =>
    some (none, x1)
   else 
    if (x.1 1 a1.toNatClampNeg) = (6 : Int32) then mj_g a1 4000 (mj_g a2 4000 (mj_rV (kX0 d 47 [.ref 0, .int (x.1 4 a1.toNatClampNeg), .int (x.1 35 a2.toNatClampNeg)] x) fun x2 =>
     some (none, x2)))
    else 
     if (x.1 1 a1.toNatClampNeg) = (8 : Int32) then mj_rV (kX0 d 35 [.ref 0, .int a2, .int (1 : Int32)] x) fun x3 =>
      mj_rV (kX0 d 35 [.ref 0, .int a3, .int (1 : Int32)] x3) fun x4 =>
      mj_g a2 4000 (mj_rI (kX0 d 45 [.int (x4.1 4 a2.toNatClampNeg)] x4) fun v6 x5 =>
      mj_rV (kX0 d 37 [.ref 0, .int ((46 : Int32) + v6)] x5) fun x7 =>
      some (none, x7))
     else mj_rI (kX0 d 2 [.long (x.1 1 a1.toNatClampNeg).toInt64, .long (10 : Int64), .long (20 : Int64)] x) fun v9 x8 =>
      
      if v9 = 0 then 
       if (x.1 1 a1.toNatClampNeg) = (21 : Int32) then mj_rV (kX0 d 35 [.ref 0, .int a2, .int (1 : Int32)] x8) fun x10 =>
        mj_g a1 4000 (mj_rI (kX0 d 41 [.int (x10.1 4 a1.toNatClampNeg)] x10) fun v12 x11 =>
        mj_rV (kX0 d 37 [.ref 0, .int ((116 : Int32) + v12)] x11) fun x13 =>
        some (none, x13))
       else 
        if (x.1 1 a1.toNatClampNeg) = (22 : Int32) then mj_rV (kX0 d 35 [.ref 0, .int a3, .int (1 : Int32)] x8) fun x14 =>
         mj_g a3 4000 (mj_rV (kX0 d 63 [.ref 0, .int (x14.1 4 a3.toNatClampNeg), .int a2] x14) fun x15 =>
         some (none, x15))
        else 
         if (x.1 1 a1.toNatClampNeg) = (32 : Int32) then mj_rI (kX0 d 64 [.ref 0] x8) fun v17 x16 =>
          mj_rI (kX0 d 64 [.ref 0] x16) fun v19 x18 =>
          mj_rV (kX0 d 65 [.ref 0, .int a2, .int (0 : Int32), .int v17] x18) fun x20 =>
          mj_g a3 4000 (mj_rV (kX0 d 35 [.ref 0, .int (x20.1 2 a3.toNatClampNeg), .int (1 : Int32)] x20) fun x21 =>
          mj_rV (kX0 d 66 [.ref 0, .int v19] x21) fun x22 =>
          mj_rV (kX0 d 70 [.ref 0, .int v17] x22) fun x23 =>
          mj_g a3 4000 (mj_rV (kX0 d 35 [.ref 0, .int (x23.1 3 a3.toNatClampNeg), .int (1 : Int32)] x23) fun x24 =>
          mj_rV (kX0 d 70 [.ref 0, .int v19] x24) fun x25 =>
          some (none, x25)))
         else 
          if (x.1 1 a1.toNatClampNeg) = (46 : Int32) then mj_rV (kX0 d 35 [.ref 0, .int a3, .int (1 : Int32)] x8) fun x26 =>
           mj_rV (kX0 d 37 [.ref 0, .int (188 : Int32)] x26) fun x27 =>
           
           if a2 = (5 : Int32) then rX0_plain d (340, [some (.ref 0), some (.int a1), some (.int a2), some (.int a3), some (.int (x.1 1 a1.toNatClampNeg)), none, none], [.int (8 : Int32), .ref 0], x27)
           else 
            if a2 = (6 : Int32) then rX0_plain d (340, [some (.ref 0), some (.int a1), some (.int a2), some (.int a3), some (.int (x.1 1 a1.toNatClampNeg)), none, none], [.int (10 : Int32), .ref 0], x27)
            else 
             if a2 = (7 : Int32) then rX0_plain d (340, [some (.ref 0), some (.int a1), some (.int a2), some (.int a3), some (.int (x.1 1 a1.toNatClampNeg)), none, none], [.int (11 : Int32), .ref 0], x27)
             else rX0_plain d (340, [some (.ref 0), some (.int a1), some (.int a2), some (.int a3), some (.int (x.1 1 a1.toNatClampNeg)), none, none], [.int (7 : Int32), .ref 0], x27)
          else 
           if (x.1 1 a1.toNatClampNeg) = (47 : Int32) then mj_rV (kX0 d 35 [.ref 0, .int a2, .int (1 : Int32)] x8) fun x28 =>
            mj_rV (kX0 d 37 [.ref 0, .int (190 : Int32)] x28) fun x29 =>
            some (none, x29)
           else mj_rI (kX0 d 64 [.ref 0] x8) fun v31 x30 =>
            mj_rI (kX0 d 64 [.ref 0] x30) fun v33 x32 =>
            mj_rV (kX0 d 65 [.ref 0, .int a1, .int (0 : Int32), .int v31] x32) fun x34 =>
            mj_rV (kX0 d 37 [.ref 0, .int (4 : Int32)] x34) fun x35 =>
            mj_rV (kX0 d 66 [.ref 0, .int v33] x35) fun x36 =>
            mj_rV (kX0 d 70 [.ref 0, .int v31] x36) fun x37 =>
            mj_rV (kX0 d 37 [.ref 0, .int (3 : Int32)] x37) fun x38 =>
            mj_rV (kX0 d 70 [.ref 0, .int v33] x38) fun x39 =>
            some (none, x39)
      else mj_rV (kX0 d 35 [.ref 0, .int a2, .int (1 : Int32)] x8) fun x40 =>
       mj_rV (kX0 d 35 [.ref 0, .int a3, .int (1 : Int32)] x40) fun x41 =>
       mj_g a1 4000 (mj_rI (kX0 d 52 [.int (x.1 1 a1.toNatClampNeg), .int (x41.1 4 a1.toNatClampNeg)] x41) fun v43 x42 =>
       mj_rV (kX0 d 37 [.ref 0, .int v43] x42) fun x44 =>
       some (none, x44))
  else mj_g a1 4000 (mj_rL (kX0 d 58 [.ref 0, .int a1] x) fun v46 x45 =>
   mj_rV (kX0 d 50 [.ref 0, .int (x.1 4 a1.toNatClampNeg), .long v46] x45) fun x47 =>
   some (none, x47))) := (mj_run_to (cd := cdX0) (rt := 0) (tab := tX0_plain) (cal := kX0 d) zX0_plain 233 (0, [some (.ref 0), some (.int a1), some (.int a2), some (.int a3), none, none, none], [], x)).trans rfl
set_option maxRecDepth 100000 in
set_option maxHeartbeats 4000000 in
theorem bX0_plain_340 (d : Nat) (a1 : Int32) (a2 : Int32) (a3 : Int32) (a4 : Int32) (s1 : Int32) (x : mj_X) : rX0_plain d (340, [some (.ref 0), some (.int a1), some (.int a2), some (.int a3), some (.int a4), none, none], [.int s1, .ref 0], x) = mj_rV (kX0 d 38 [.ref 0, .int s1] x) fun x1 =>
  some (none, x1) := (mj_run_to (cd := cdX0) (rt := 0) (tab := tX0_plain) (cal := kX0 d) zX0_plain 233 (340, [some (.ref 0), some (.int a1), some (.int a2), some (.int a3), some (.int a4), none, none], [.int s1, .ref 0], x)).trans rfl
noncomputable abbrev rX0_cast (d : Nat) : mj_S → mj_R := mj_run cdX0 0 tX0_cast (kX0 d)
def zX0_cast (p : Nat) : Bool := bif Nat.blt p 52 then (bif Nat.beq p 10 then true else false) else (bif Nat.blt p 79 then (bif Nat.beq p 52 then true else false) else (bif Nat.beq p 79 then true else false))
set_option maxRecDepth 100000 in
set_option maxHeartbeats 4000000 in
theorem eX0_cast (d : Nat) (a1 : Int32) (a2 : Int32) (x : mj_X) : kX0 (d + 1) 63 [.ref 0, .int a1, .int a2] x = 
  if a2 ≤ (4 : Int32) then rX0_cast d (10, [some (.ref 0), some (.int a1), some (.int a2), none, none, none], [.int a2], x)
  else rX0_cast d (10, [some (.ref 0), some (.int a1), some (.int a2), none, none, none], [.int (1 : Int32)], x) := (mj_run_to (cd := cdX0) (rt := 0) (tab := tX0_cast) (cal := kX0 d) zX0_cast 27 (0, [some (.ref 0), some (.int a1), some (.int a2), none, none, none], [], x)).trans rfl
set_option maxRecDepth 100000 in
set_option maxHeartbeats 4000000 in
theorem bX0_cast_10 (d : Nat) (a1 : Int32) (a2 : Int32) (s0 : Int32) (x : mj_X) : rX0_cast d (10, [some (.ref 0), some (.int a1), some (.int a2), none, none, none], [.int s0], x) = 
  if a1 = s0 then rX0_cast d (79, [some (.ref 0), some (.int a1), some (.int a2), some (.int s0), none, none], [], x)
  else 
   if a1 = (1 : Int32) then rX0_cast d (52, [some (.ref 0), some (.int a1), some (.int a2), some (.int s0), none, none], [.int (133 : Int32)], x)
   else 
    if a1 = (2 : Int32) then rX0_cast d (52, [some (.ref 0), some (.int a1), some (.int a2), some (.int s0), none, none], [.int (136 : Int32)], x)
    else 
     if a1 = (3 : Int32) then rX0_cast d (52, [some (.ref 0), some (.int a1), some (.int a2), some (.int s0), none, none], [.int (139 : Int32)], x)
     else rX0_cast d (52, [some (.ref 0), some (.int a1), some (.int a2), some (.int s0), none, none], [.int (142 : Int32)], x) := (mj_run_to (cd := cdX0) (rt := 0) (tab := tX0_cast) (cal := kX0 d) zX0_cast 27 (10, [some (.ref 0), some (.int a1), some (.int a2), none, none, none], [.int s0], x)).trans rfl
set_option maxRecDepth 100000 in
set_option maxHeartbeats 4000000 in
theorem bX0_cast_52 (d : Nat) (a1 : Int32) (a2 : Int32) (a3 : Int32) (s0 : Int32) (x : mj_X) : rX0_cast d (52, [some (.ref 0), some (.int a1), some (.int a2), some (.int a3), none, none], [.int s0], x) = 
  if a1 ≤ a3 then mj_rV (kX0 d 37 [.ref 0, .int (s0 + (a3 - (2 : Int32)))] x) fun x1 =>
   rX0_cast d (79, [some (.ref 0), some (.int a1), some (.int a2), some (.int a3), some (.int s0), some (.int (a3 - (2 : Int32)))], [], x1)
  else mj_rV (kX0 d 37 [.ref 0, .int (s0 + (a3 - (1 : Int32)))] x) fun x2 =>
   rX0_cast d (79, [some (.ref 0), some (.int a1), some (.int a2), some (.int a3), some (.int s0), some (.int (a3 - (1 : Int32)))], [], x2) := (mj_run_to (cd := cdX0) (rt := 0) (tab := tX0_cast) (cal := kX0 d) zX0_cast 27 (52, [some (.ref 0), some (.int a1), some (.int a2), some (.int a3), none, none], [.int s0], x)).trans rfl
set_option maxRecDepth 100000 in
set_option maxHeartbeats 4000000 in
theorem bX0_cast_79 (d : Nat) (a1 : Int32) (a2 : Int32) (a3 : Int32) (o4 : Option Value) (o5 : Option Value) (x : mj_X) : rX0_cast d (79, [some (.ref 0), some (.int a1), some (.int a2), some (.int a3), o4, o5], [], x) = 
  if a2 ≤ (4 : Int32) then some (none, x)
  else mj_rV (kX0 d 37 [.ref 0, .int (((145 : Int32) + a2) - (9 : Int32))] x) fun x1 =>
   some (none, x1) := (mj_run_to (cd := cdX0) (rt := 0) (tab := tX0_cast) (cal := kX0 d) zX0_cast 27 (79, [some (.ref 0), some (.int a1), some (.int a2), some (.int a3), o4, o5], [], x)).trans rfl
noncomputable abbrev rX0_label (d : Nat) : mj_S → mj_R := mj_run cdX0 1 tX0_label (kX0 d)
def zX0_label (p : Nat) : Bool := bif Nat.beq p 35 then true else false
set_option maxRecDepth 100000 in
set_option maxHeartbeats 4000000 in
theorem eX0_label (d : Nat)  (x : mj_X) : kX0 (d + 1) 64 [.ref 0] x = 
  if (x.1 0 38) = (-1 : Int32) then rX0_label d (35, [some (.ref 0), some (.int (x.1 0 37))], [], (mj_wI x 0 37 ((x.1 0 37) + (1 : Int32))))
  else mj_g (x.1 0 38) 50000 (rX0_label d (35, [some (.ref 0), some (.int (x.1 0 38))], [], (mj_wI x 0 38 (x.1 36 (x.1 0 38).toNatClampNeg)))) := (mj_run_to (cd := cdX0) (rt := 1) (tab := tX0_label) (cal := kX0 d) zX0_label 25 (0, [some (.ref 0), none], [], x)).trans rfl
set_option maxRecDepth 100000 in
set_option maxHeartbeats 4000000 in
theorem bX0_label_35 (d : Nat) (a1 : Int32) (x : mj_X) : rX0_label d (35, [some (.ref 0), some (.int a1)], [], x) = mj_g a1 50000 (mj_g a1 50000 (some (some (.int a1), (mj_wI (mj_wI x 36 a1.toNatClampNeg (-1 : Int32)) 37 a1.toNatClampNeg (0 : Int32))))) := (mj_run_to (cd := cdX0) (rt := 1) (tab := tX0_label) (cal := kX0 d) zX0_label 25 (35, [some (.ref 0), some (.int a1)], [], x)).trans rfl
noncomputable abbrev rX0_jump2 (d : Nat) : mj_S → mj_R := mj_run cdX0 0 tX0_jump2 (kX0 d)
def zX0_jump2 (p : Nat) : Bool := false
set_option maxRecDepth 100000 in
set_option maxHeartbeats 4000000 in
theorem eX0_jump2 (d : Nat) (a1 : Int32) (x : mj_X) : kX0 (d + 1) 66 [.ref 0, .int a1] x = 
  if (x.1 0 30) = 0 then some (none, x)
  else mj_rV (kX0 d 67 [.ref 0, .int a1] x) fun x1 =>
   some (none, x1) := (mj_run_to (cd := cdX0) (rt := 0) (tab := tX0_jump2) (cal := kX0 d) zX0_jump2 10 (0, [some (.ref 0), some (.int a1)], [], x)).trans rfl
noncomputable abbrev rX0_jump (d : Nat) : mj_S → mj_R := mj_run cdX0 0 tX0_jump (kX0 d)
def zX0_jump (p : Nat) : Bool := bif Nat.beq p 22 then true else false
set_option maxRecDepth 100000 in
set_option maxHeartbeats 4000000 in
theorem eX0_jump (d : Nat) (a1 : Int32) (x : mj_X) : kX0 (d + 1) 67 [.ref 0, .int a1] x = 
  if (x.1 0 31) = 0 then rX0_jump d (22, [some (.ref 0), some (.int a1), some (.int (x.1 0 28))], [.int (167 : Int32), .ref 0], x)
  else rX0_jump d (22, [some (.ref 0), some (.int a1), some (.int (x.1 0 28))], [.int (200 : Int32), .ref 0], x) := (mj_run_to (cd := cdX0) (rt := 0) (tab := tX0_jump) (cal := kX0 d) zX0_jump 14 (0, [some (.ref 0), some (.int a1), none], [], x)).trans rfl
set_option maxRecDepth 100000 in
set_option maxHeartbeats 4000000 in
theorem bX0_jump_22 (d : Nat) (a1 : Int32) (a2 : Int32) (s1 : Int32) (x : mj_X) : rX0_jump d (22, [some (.ref 0), some (.int a1), some (.int a2)], [.int s1, .ref 0], x) = mj_rV (kX0 d 37 [.ref 0, .int s1] x) fun x1 =>
  mj_rV (kX0 d 68 [.ref 0, .int a2, .int a1, .int (x1.1 0 31)] x1) fun x2 =>
  some (none, (mj_wI x2 0 30 (0 : Int32))) := (mj_run_to (cd := cdX0) (rt := 0) (tab := tX0_jump) (cal := kX0 d) zX0_jump 14 (22, [some (.ref 0), some (.int a1), some (.int a2)], [.int s1, .ref 0], x)).trans rfl
noncomputable abbrev rX0_offset (d : Nat) : mj_S → mj_R := mj_run cdX0 0 tX0_offset (kX0 d)
def zX0_offset (p : Nat) : Bool := bif Nat.beq p 63 then true else false
set_option maxRecDepth 100000 in
set_option maxHeartbeats 4000000 in
theorem eX0_offset (d : Nat) (a1 : Int32) (a2 : Int32) (a3 : Int32) (x : mj_X) : kX0 (d + 1) 68 [.ref 0, .int a1, .int a2, .int a3] x = 
  if (x.1 0 30) = 0 then some (none, x)
  else 
   if (x.1 0 29) = 0 then 
    if (x.1 0 42) = (45000 : Int32) then some (none, (mj_wI x 0 29 (1 : Int32)))
    else mj_g a2 50000 (
     if a3 = 0 then rX0_offset d (63, [some (.ref 0), some (.int a1), some (.int a2), some (.int a3)], [.int (x.1 0 28), .int (x.1 0 42), .ref 40], (mj_wI x 37 a2.toNatClampNeg (1 : Int32)))
     else rX0_offset d (63, [some (.ref 0), some (.int a1), some (.int a2), some (.int a3)], [.int ((-1 : Int32) - (x.1 0 28)), .int (x.1 0 42), .ref 40], (mj_wI x 37 a2.toNatClampNeg (1 : Int32))))
   else some (none, x) := (mj_run_to (cd := cdX0) (rt := 0) (tab := tX0_offset) (cal := kX0 d) zX0_offset 38 (0, [some (.ref 0), some (.int a1), some (.int a2), some (.int a3)], [], x)).trans rfl
set_option maxRecDepth 100000 in
set_option maxHeartbeats 4000000 in
theorem bX0_offset_63 (d : Nat) (a1 : Int32) (a2 : Int32) (a3 : Int32) (s1 : Int32) (s2 : Int32) (x : mj_X) : rX0_offset d (63, [some (.ref 0), some (.int a1), some (.int a2), some (.int a3)], [.int s2, .int s1, .ref 40], x) = mj_g s1 45000 (mj_g (x.1 0 42) 45000 (mj_g (x.1 0 42) 45000 (
  if a3 = 0 then mj_rV (kX0 d 42 [.ref 0, .int (0 : Int32)] (mj_wI (mj_wI (mj_wI (mj_wI x 40 s1.toNatClampNeg s2) 41 (x.1 0 42).toNatClampNeg a1) 42 (x.1 0 42).toNatClampNeg a2) 0 42 ((x.1 0 42) + (1 : Int32)))) fun x1 =>
   some (none, x1)
  else mj_rV (kX0 d 69 [.ref 0, .int (0 : Int32)] (mj_wI (mj_wI (mj_wI (mj_wI x 40 s1.toNatClampNeg s2) 41 (x.1 0 42).toNatClampNeg a1) 42 (x.1 0 42).toNatClampNeg a2) 0 42 ((x.1 0 42) + (1 : Int32)))) fun x2 =>
   some (none, x2)))) := (mj_run_to (cd := cdX0) (rt := 0) (tab := tX0_offset) (cal := kX0 d) zX0_offset 38 (63, [some (.ref 0), some (.int a1), some (.int a2), some (.int a3)], [.int s2, .int s1, .ref 40], x)).trans rfl
noncomputable abbrev rX0_four (d : Nat) : mj_S → mj_R := mj_run cdX0 0 tX0_four (kX0 d)
def zX0_four (p : Nat) : Bool := false
set_option maxRecDepth 100000 in
set_option maxHeartbeats 4000000 in
theorem eX0_four (d : Nat) (a1 : Int32) (x : mj_X) : kX0 (d + 1) 69 [.ref 0, .int a1] x = mj_rV (kX0 d 42 [.ref 0, .int (a1 >>> ((16 : Int32) &&& 31))] x) fun x1 =>
  mj_rV (kX0 d 42 [.ref 0, .int a1] x1) fun x2 =>
  some (none, x2) := (mj_run_to (cd := cdX0) (rt := 0) (tab := tX0_four) (cal := kX0 d) zX0_four 11 (0, [some (.ref 0), some (.int a1)], [], x)).trans rfl
noncomputable abbrev rX0_putLast (d : Nat) : mj_S → mj_R := mj_run cdX0 0 tX0_putLast (kX0 d)
def zX0_putLast (p : Nat) : Bool := false
set_option maxRecDepth 100000 in
set_option maxHeartbeats 4000000 in
theorem eX0_putLast (d : Nat) (a1 : Int32) (x : mj_X) : kX0 (d + 1) 70 [.ref 0, .int a1] x = mj_rV (kX0 d 71 [.ref 0, .int a1] x) fun x1 =>
  mj_rV (kX0 d 72 [.ref 0, .int a1] x1) fun x2 =>
  some (none, x2) := (mj_run_to (cd := cdX0) (rt := 0) (tab := tX0_putLast) (cal := kX0 d) zX0_putLast 9 (0, [some (.ref 0), some (.int a1)], [], x)).trans rfl
noncomputable abbrev rX0_put (d : Nat) : mj_S → mj_R := mj_run cdX0 0 tX0_put (kX0 d)
def zX0_put (p : Nat) : Bool := false
set_option maxRecDepth 100000 in
set_option maxHeartbeats 4000000 in
theorem eX0_put (d : Nat) (a1 : Int32) (x : mj_X) : kX0 (d + 1) 71 [.ref 0, .int a1] x = mj_g a1 50000 (
  if (x.1 0 30) = 0 then mj_g a1 50000 (
   if (x.1 37 a1.toNatClampNeg) = 0 then some (none, (mj_wI (mj_wI x 36 a1.toNatClampNeg (x.1 0 28)) 0 30 (0 : Int32)))
   else some (none, (mj_wI (mj_wI x 36 a1.toNatClampNeg (x.1 0 28)) 0 30 (1 : Int32))))
  else some (none, (mj_wI (mj_wI x 36 a1.toNatClampNeg (x.1 0 28)) 0 30 (1 : Int32)))) := (mj_run_to (cd := cdX0) (rt := 0) (tab := tX0_put) (cal := kX0 d) zX0_put 28 (0, [some (.ref 0), some (.int a1)], [], x)).trans rfl
noncomputable abbrev rX0_seal (d : Nat) : mj_S → mj_R := mj_run cdX0 0 tX0_seal (kX0 d)
def zX0_seal (p : Nat) : Bool := false
set_option maxRecDepth 100000 in
set_option maxHeartbeats 4000000 in
theorem eX0_seal (d : Nat) (a1 : Int32) (x : mj_X) : kX0 (d + 1) 72 [.ref 0, .int a1] x = mj_g a1 50000 (
  if (x.1 37 a1.toNatClampNeg) = 0 then mj_g a1 50000 (some (none, (mj_wI (mj_wI x 36 a1.toNatClampNeg (x.1 0 38)) 0 38 a1)))
  else some (none, x)) := (mj_run_to (cd := cdX0) (rt := 0) (tab := tX0_seal) (cal := kX0 d) zX0_seal 18 (0, [some (.ref 0), some (.int a1)], [], x)).trans rfl
noncomputable abbrev rX0_contrary (d : Nat) : mj_S → mj_R := mj_run cdX0 1 tX0_contrary (kX0 d)
def zX0_contrary (p : Nat) : Bool := false
set_option maxRecDepth 100000 in
set_option maxHeartbeats 4000000 in
theorem eX0_contrary (d : Nat) (a0 : Int32) (x : mj_X) : kX0 (d + 1) 73 [.int a0] x = some (some (.int (((a0 - (1 : Int32)) ^^^ (1 : Int32)) + (1 : Int32))), x) := (mj_run_to (cd := cdX0) (rt := 1) (tab := tX0_contrary) (cal := kX0 d) zX0_contrary 10 (0, [some (.int a0)], [], x)).trans rfl
noncomputable abbrev rX0_jumpIf (d : Nat) : mj_S → mj_R := mj_run cdX0 0 tX0_jumpIf (kX0 d)
def zX0_jumpIf (p : Nat) : Bool := false
set_option maxRecDepth 100000 in
set_option maxHeartbeats 4000000 in
theorem eX0_jumpIf (d : Nat) (a1 : Int32) (a2 : Int32) (x : mj_X) : kX0 (d + 1) 74 [.ref 0, .int a1, .int a2] x = 
  if (x.1 0 31) = 0 then mj_rV (kX0 d 37 [.ref 0, .int a1] x) fun x1 =>
   mj_rV (kX0 d 68 [.ref 0, .int (x.1 0 28), .int a2, .int (0 : Int32)] x1) fun x2 =>
   some (none, x2)
  else mj_rI (kX0 d 73 [.int a1] x) fun v4 x3 =>
   mj_rV (kX0 d 37 [.ref 0, .int v4] x3) fun x5 =>
   mj_rV (kX0 d 42 [.ref 0, .int (8 : Int32)] x5) fun x6 =>
   mj_rV (kX0 d 37 [.ref 0, .int (200 : Int32)] x6) fun x7 =>
   mj_rV (kX0 d 68 [.ref 0, .int (x6.1 0 28), .int a2, .int (1 : Int32)] x7) fun x8 =>
   some (none, x8) := (mj_run_to (cd := cdX0) (rt := 0) (tab := tX0_jumpIf) (cal := kX0 d) zX0_jumpIf 36 (0, [some (.ref 0), some (.int a1), some (.int a2), none], [], x)).trans rfl
noncomputable abbrev rX0_actAlone (d : Nat) : mj_S → mj_R := mj_run cdX0 0 tX0_actAlone (kX0 d)
def zX0_actAlone (p : Nat) : Bool := false
set_option maxRecDepth 100000 in
set_option maxHeartbeats 4000000 in
theorem eX0_actAlone (d : Nat) (a1 : Int32) (x : mj_X) : kX0 (d + 1) 75 [.ref 0, .int a1] x = mj_rV (kX0 d 34 [.ref 0, .int a1] x) fun x1 =>
  some (none, (mj_wI x1 0 32 (x.1 0 32))) := (mj_run_to (cd := cdX0) (rt := 0) (tab := tX0_actAlone) (cal := kX0 d) zX0_actAlone 12 (0, [some (.ref 0), some (.int a1), none], [], x)).trans rfl
noncomputable abbrev rX0_ifElse (d : Nat) : mj_S → mj_R := mj_run cdX0 0 tX0_ifElse (kX0 d)
def zX0_ifElse (p : Nat) : Bool := false
set_option maxRecDepth 100000 in
set_option maxHeartbeats 4000000 in
theorem eX0_ifElse (d : Nat) (a1 : Int32) (a2 : Int32) (a3 : Int32) (x : mj_X) : kX0 (d + 1) 76 [.ref 0, .int a1, .int a2, .int a3] x = mj_rI (kX0 d 64 [.ref 0] x) fun v2 x1 =>
  mj_rI (kX0 d 64 [.ref 0] x1) fun v4 x3 =>
  mj_rV (kX0 d 65 [.ref 0, .int a1, .int (0 : Int32), .int v2] x3) fun x5 =>
  mj_rV (kX0 d 75 [.ref 0, .int a2] x5) fun x6 =>
  mj_rV (kX0 d 66 [.ref 0, .int v4] x6) fun x7 =>
  mj_rV (kX0 d 70 [.ref 0, .int v2] x7) fun x8 =>
  mj_rV (kX0 d 75 [.ref 0, .int a3] x8) fun x9 =>
  mj_rV (kX0 d 70 [.ref 0, .int v4] x9) fun x10 =>
  some (none, x10) := (mj_run_to (cd := cdX0) (rt := 0) (tab := tX0_ifElse) (cal := kX0 d) zX0_ifElse 29 (0, [some (.ref 0), some (.int a1), some (.int a2), some (.int a3), none, none], [], x)).trans rfl
noncomputable abbrev rX0_loop (d : Nat) : mj_S → mj_R := mj_run cdX0 0 tX0_loop (kX0 d)
def zX0_loop (p : Nat) : Bool := bif Nat.blt p 138 then (bif Nat.blt p 122 then (bif Nat.beq p 106 then true else false) else (bif Nat.beq p 122 then true else false)) else (bif Nat.blt p 199 then (bif Nat.beq p 138 then true else false) else (bif Nat.beq p 199 then true else false))
set_option maxRecDepth 100000 in
set_option maxHeartbeats 4000000 in
theorem eX0_loop (d : Nat) (a1 : Int32) (a2 : Int32) (a3 : Int32) (x : mj_X) : kX0 (d + 1) 77 [.ref 0, .int a1, .int a2, .int a3] x = mj_rI (kX0 d 64 [.ref 0] x) fun v2 x1 =>
  mj_rI (kX0 d 64 [.ref 0] x1) fun v4 x3 =>
  mj_rI (kX0 d 64 [.ref 0] x3) fun v6 x5 =>
  mj_rI (kX0 d 78 [.ref 0, .int (0 : Int32), .int a1] x5) fun v8 x7 =>
  mj_g v8 2000 (mj_g v8 2000 (mj_rV (kX0 d 71 [.ref 0, .int v2] (mj_wI (mj_wI x7 54 v8.toNatClampNeg v6) 55 v8.toNatClampNeg v4)) fun x9 =>
  mj_g a1 4000 (
  if (x9.1 1 a1.toNatClampNeg) = (68 : Int32) then mj_rV (kX0 d 75 [.ref 0, .int a2] x9) fun x10 =>
   mj_rV (kX0 d 71 [.ref 0, .int v4] x10) fun x11 =>
   
   if (x11.1 0 30) = 0 then rX0_loop d (199, [some (.ref 0), some (.int a1), some (.int a2), some (.int a3), some (.int v2), some (.int v4), some (.int v6), some (.int v8), none, none], [], x11)
   else mj_rV (kX0 d 65 [.ref 0, .int a3, .int (1 : Int32), .int v2] x11) fun x12 =>
    rX0_loop d (199, [some (.ref 0), some (.int a1), some (.int a2), some (.int a3), some (.int v2), some (.int v4), some (.int v6), some (.int v8), none, none], [], x12)
  else mj_g a1 4000 (
   if (x9.1 1 a1.toNatClampNeg) = (67 : Int32) then rX0_loop d (106, [some (.ref 0), some (.int a1), some (.int a2), some (.int a3), some (.int v2), some (.int v4), some (.int v6), some (.int v8), none, none], [.int (1 : Int32)], x9)
   else rX0_loop d (106, [some (.ref 0), some (.int a1), some (.int a2), some (.int a3), some (.int v2), some (.int v4), some (.int v6), some (.int v8), none, none], [.int (0 : Int32)], x9))))) := (mj_run_to (cd := cdX0) (rt := 0) (tab := tX0_loop) (cal := kX0 d) zX0_loop 63 (0, [some (.ref 0), some (.int a1), some (.int a2), some (.int a3), none, none, none, none, none, none], [], x)).trans rfl
set_option maxRecDepth 100000 in
set_option maxHeartbeats 4000000 in
theorem bX0_loop_106 (d : Nat) (a1 : Int32) (a2 : Int32) (a3 : Int32) (a4 : Int32) (a5 : Int32) (a6 : Int32) (a7 : Int32) (s0 : Int32) (x : mj_X) : rX0_loop d (106, [some (.ref 0), some (.int a1), some (.int a2), some (.int a3), some (.int a4), some (.int a5), some (.int a6), some (.int a7), none, none], [.int s0], x) = 
  if s0 = 0 then rX0_loop d (122, [some (.ref 0), some (.int a1), some (.int a2), some (.int a3), some (.int a4), some (.int a5), some (.int a6), some (.int a7), some (.int s0), none], [], x)
  else mj_g a7 2000 (rX0_loop d (122, [some (.ref 0), some (.int a1), some (.int a2), some (.int a3), some (.int a4), some (.int a5), some (.int a6), some (.int a7), some (.int s0), none], [], (mj_wI x 55 a7.toNatClampNeg a4))) := (mj_run_to (cd := cdX0) (rt := 0) (tab := tX0_loop) (cal := kX0 d) zX0_loop 63 (106, [some (.ref 0), some (.int a1), some (.int a2), some (.int a3), some (.int a4), some (.int a5), some (.int a6), some (.int a7), none, none], [.int s0], x)).trans rfl
set_option maxRecDepth 100000 in
set_option maxHeartbeats 4000000 in
theorem bX0_loop_122 (d : Nat) (a1 : Int32) (a2 : Int32) (a3 : Int32) (a4 : Int32) (a5 : Int32) (a6 : Int32) (a7 : Int32) (a8 : Int32) (x : mj_X) : rX0_loop d (122, [some (.ref 0), some (.int a1), some (.int a2), some (.int a3), some (.int a4), some (.int a5), some (.int a6), some (.int a7), some (.int a8), none], [], x) = 
  if a8 = 0 then mj_g a2 4000 (rX0_loop d (138, [some (.ref 0), some (.int a1), some (.int a2), some (.int a3), some (.int a4), some (.int a5), some (.int a6), some (.int a7), some (.int a8), none], [.int (x.1 2 a2.toNatClampNeg), .ref 0], x))
  else rX0_loop d (138, [some (.ref 0), some (.int a1), some (.int a2), some (.int a3), some (.int a4), some (.int a5), some (.int a6), some (.int a7), some (.int a8), none], [.int a2, .ref 0], x) := (mj_run_to (cd := cdX0) (rt := 0) (tab := tX0_loop) (cal := kX0 d) zX0_loop 63 (122, [some (.ref 0), some (.int a1), some (.int a2), some (.int a3), some (.int a4), some (.int a5), some (.int a6), some (.int a7), some (.int a8), none], [], x)).trans rfl
set_option maxRecDepth 100000 in
set_option maxHeartbeats 4000000 in
theorem bX0_loop_138 (d : Nat) (a1 : Int32) (a2 : Int32) (a3 : Int32) (a4 : Int32) (a5 : Int32) (a6 : Int32) (a7 : Int32) (a8 : Int32) (s1 : Int32) (x : mj_X) : rX0_loop d (138, [some (.ref 0), some (.int a1), some (.int a2), some (.int a3), some (.int a4), some (.int a5), some (.int a6), some (.int a7), some (.int a8), none], [.int s1, .ref 0], x) = mj_rV (kX0 d 65 [.ref 0, .int s1, .int (0 : Int32), .int a6] x) fun x1 =>
  mj_rV (kX0 d 75 [.ref 0, .int a3] x1) fun x2 =>
  
  if a8 = 0 then mj_rV (kX0 d 71 [.ref 0, .int a5] x2) fun x3 =>
   mj_g a7 2000 (mj_g a2 4000 (mj_rV (kX0 d 75 [.ref 0, .int (x3.1 3 a2.toNatClampNeg)] (mj_wI x3 0 59 (x3.1 51 a7.toNatClampNeg))) fun x4 =>
   mj_rV (kX0 d 66 [.ref 0, .int a4] (mj_wI x4 0 59 (x3.1 0 59))) fun x5 =>
   rX0_loop d (199, [some (.ref 0), some (.int a1), some (.int a2), some (.int a3), some (.int a4), some (.int a5), some (.int a6), some (.int a7), some (.int a8), some (.int (x3.1 0 59))], [], x5)))
  else mj_rV (kX0 d 66 [.ref 0, .int a4] x2) fun x6 =>
   rX0_loop d (199, [some (.ref 0), some (.int a1), some (.int a2), some (.int a3), some (.int a4), some (.int a5), some (.int a6), some (.int a7), some (.int a8), none], [], x6) := (mj_run_to (cd := cdX0) (rt := 0) (tab := tX0_loop) (cal := kX0 d) zX0_loop 63 (138, [some (.ref 0), some (.int a1), some (.int a2), some (.int a3), some (.int a4), some (.int a5), some (.int a6), some (.int a7), some (.int a8), none], [.int s1, .ref 0], x)).trans rfl
set_option maxRecDepth 100000 in
set_option maxHeartbeats 4000000 in
theorem bX0_loop_199 (d : Nat) (a1 : Int32) (a2 : Int32) (a3 : Int32) (a4 : Int32) (a5 : Int32) (a6 : Int32) (a7 : Int32) (o8 : Option Value) (o9 : Option Value) (x : mj_X) : rX0_loop d (199, [some (.ref 0), some (.int a1), some (.int a2), some (.int a3), some (.int a4), some (.int a5), some (.int a6), some (.int a7), o8, o9], [], x) = mj_rV (kX0 d 79 [.ref 0, .int a7] x) fun x1 =>
  mj_rV (kX0 d 72 [.ref 0, .int a4] x1) fun x2 =>
  mj_rV (kX0 d 72 [.ref 0, .int a5] x2) fun x3 =>
  mj_rV (kX0 d 70 [.ref 0, .int a6] x3) fun x4 =>
  some (none, x4) := (mj_run_to (cd := cdX0) (rt := 0) (tab := tX0_loop) (cal := kX0 d) zX0_loop 63 (199, [some (.ref 0), some (.int a1), some (.int a2), some (.int a3), some (.int a4), some (.int a5), some (.int a6), some (.int a7), o8, o9], [], x)).trans rfl
