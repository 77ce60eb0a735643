noncomputable abbrev rX0_toFloat (d : Nat) : mj_S → mj_R := mj_run cdX0 3 tX0_toFloat (kX0 d)
def zX0_toFloat (p : Nat) : Bool := false
set_option maxRecDepth 100000 in
set_option maxHeartbeats 4000000 in
theorem eX0_toFloat (d : Nat) (a0 : Int64) (x : mj_X) : kX0 (d + 1) 59 [.long a0] x = 
  if (a0.toInt32 &&& (2147483647 : Int32)) ≤ (2139095040 : Int32) then mj_rF (mj_pr cdX0 1003 [.int a0.toInt32] x) fun v2 x1 =>
   some (some (.float v2), x1)
  else some (some (.float (2143289344 : UInt32)), x) := (mj_run_to (cd := cdX0) (rt := 3) (tab := tX0_toFloat) (cal := kX0 d) zX0_toFloat 16 (0, [some (.long a0), none, none], [], x)).trans rfl
noncomputable abbrev rX0_ofFloat (d : Nat) : mj_S → mj_R := mj_run cdX0 2 tX0_ofFloat (kX0 d)
def zX0_ofFloat (p : Nat) : Bool := false
set_option maxRecDepth 100000 in
set_option maxHeartbeats 4000000 in
theorem eX0_ofFloat (d : Nat) (a0 : UInt32) (x : mj_X) : kX0 (d + 1) 60 [.float a0] x = some (some (.long (mj_f2b a0).toInt64), x) := (mj_run_to (cd := cdX0) (rt := 2) (tab := tX0_ofFloat) (cal := kX0 d) zX0_ofFloat 6 (0, [some (.float a0)], [], x)).trans rfl
noncomputable abbrev rX0_toDouble (d : Nat) : mj_S → mj_R := mj_run cdX0 4 tX0_toDouble (kX0 d)
def zX0_toDouble (p : Nat) : Bool := false
set_option maxRecDepth 100000 in
set_option maxHeartbeats 4000000 in
theorem eX0_toDouble (d : Nat) (a0 : Int64) (x : mj_X) : kX0 (d + 1) 61 [.long a0] x = 
  if (lg_cmp (a0 &&& (9223372036854775807 : Int64)) (9218868437227405312 : Int64)) ≤ 0 then mj_rD (mj_pr cdX0 1005 [.long a0] x) fun v2 x1 =>
   some (some (.double v2), x1)
  else some (some (.double (9221120237041090560 : UInt64)), x) := (mj_run_to (cd := cdX0) (rt := 4) (tab := tX0_toDouble) (cal := kX0 d) zX0_toDouble 14 (0, [some (.long a0), none], [], x)).trans rfl
noncomputable abbrev rX0_ofDouble (d : Nat) : mj_S → mj_R := mj_run cdX0 2 tX0_ofDouble (kX0 d)
def zX0_ofDouble (p : Nat) : Bool := false
set_option maxRecDepth 100000 in
set_option maxHeartbeats 4000000 in
theorem eX0_ofDouble (d : Nat) (a0 : UInt64) (x : mj_X) : kX0 (d + 1) 62 [.double a0] x = some (some (.long (mj_d2b a0)), x) := (mj_run_to (cd := cdX0) (rt := 2) (tab := tX0_ofDouble) (cal := kX0 d) zX0_ofDouble 5 (0, [some (.double a0), none], [], x)).trans rfl
noncomputable abbrev rX0_bitsOf (d : Nat) : mj_S → mj_R := mj_run cdX0 2 tX0_bitsOf (kX0 d)
def zX0_bitsOf (p : Nat) : Bool := bif Nat.blt p 54 then (bif Nat.blt p 40 then (bif Nat.beq p 32 then true else false) else (bif Nat.beq p 40 then true else false)) else (bif Nat.blt p 77 then (bif Nat.beq p 54 then true else false) else (bif Nat.beq p 77 then true else false))
set_option maxRecDepth 100000 in
set_option maxHeartbeats 4000000 in
theorem eX0_bitsOf (d : Nat) (a1 : Int32) (x : mj_X) : kX0 (d + 1) 58 [.ref 0, .int a1] x = mj_g a1 4000 (mj_sw (x.1 1 a1.toNatClampNeg) 1 (71) [26, 48, 34] fun off => mj_j 6 off fun t => rX0_bitsOf d (t, [some (.ref 0), some (.int a1)], [], x)) := (mj_run_to (cd := cdX0) (rt := 2) (tab := tX0_bitsOf) (cal := kX0 d) zX0_bitsOf 20 (0, [some (.ref 0), some (.int a1)], [], x)).trans rfl
set_option maxRecDepth 100000 in
set_option maxHeartbeats 4000000 in
theorem bX0_bitsOf_32 (d : Nat) (a1 : Int32) (x : mj_X) : rX0_bitsOf d (32, [some (.ref 0), some (.int a1)], [], x) = mj_g a1 4000 (some (some (.long (x.1 2 a1.toNatClampNeg).toInt64), x)) := (mj_run_to (cd := cdX0) (rt := 2) (tab := tX0_bitsOf) (cal := kX0 d) zX0_bitsOf 20 (32, [some (.ref 0), some (.int a1)], [], x)).trans rfl
set_option maxRecDepth 100000 in
set_option maxHeartbeats 4000000 in
theorem bX0_bitsOf_40 (d : Nat) (a1 : Int32) (x : mj_X) : rX0_bitsOf d (40, [some (.ref 0), some (.int a1)], [], x) = mj_g a1 4000 (mj_rF (kX0 d 59 [.long (x.1 2 a1.toNatClampNeg).toInt64] x) fun v2 x1 =>
  mj_rL (kX0 d 60 [.float v2] x1) fun v4 x3 =>
  some (some (.long v4), x3)) := (mj_run_to (cd := cdX0) (rt := 2) (tab := tX0_bitsOf) (cal := kX0 d) zX0_bitsOf 20 (40, [some (.ref 0), some (.int a1)], [], x)).trans rfl
set_option maxRecDepth 100000 in
set_option maxHeartbeats 4000000 in
theorem bX0_bitsOf_54 (d : Nat) (a1 : Int32) (x : mj_X) : rX0_bitsOf d (54, [some (.ref 0), some (.int a1)], [], x) = mj_g a1 4000 (mj_g a1 4000 (some (some (.long (((x.1 2 a1.toNatClampNeg).toInt64 <<< ((32 : Int32).toInt64 &&& 63)) ||| ((x.1 3 a1.toNatClampNeg).toInt64 &&& (4294967295 : Int64)))), x))) := (mj_run_to (cd := cdX0) (rt := 2) (tab := tX0_bitsOf) (cal := kX0 d) zX0_bitsOf 20 (54, [some (.ref 0), some (.int a1)], [], x)).trans rfl
set_option maxRecDepth 100000 in
set_option maxHeartbeats 4000000 in
theorem bX0_bitsOf_77 (d : Nat) (a1 : Int32) (x : mj_X) : rX0_bitsOf d (77, [some (.ref 0), some (.int a1)], [], x) = mj_g a1 4000 (mj_g a1 4000 (mj_rD (kX0 d 61 [.long (((x.1 2 a1.toNatClampNeg).toInt64 <<< ((32 : Int32).toInt64 &&& 63)) ||| ((x.1 3 a1.toNatClampNeg).toInt64 &&& (4294967295 : Int64)))] x) fun v2 x1 =>
  mj_rL (kX0 d 62 [.double v2] x1) fun v4 x3 =>
  some (some (.long v4), x3))) := (mj_run_to (cd := cdX0) (rt := 2) (tab := tX0_bitsOf) (cal := kX0 d) zX0_bitsOf 20 (77, [some (.ref 0), some (.int a1)], [], x)).trans rfl
noncomputable abbrev rX0_negative (d : Nat) : mj_S → mj_R := mj_run cdX0 2 tX0_negative (kX0 d)
def zX0_negative (p : Nat) : Bool := false
set_option maxRecDepth 100000 in
set_option maxHeartbeats 4000000 in
theorem eX0_negative (d : Nat) (a0 : Int32) (a1 : Int64) (x : mj_X) : kX0 (d + 1) 132 [.int a0, .long a1] x = 
  if a0 = (3 : Int32) then mj_rF (kX0 d 59 [.long a1] x) fun v2 x1 =>
   
   if (Op.cmpValue (FP.fcmp v2 v2) .l) = 0 then mj_rL (kX0 d 60 [.float (FP.fneg v2)] x1) fun v4 x3 =>
    some (some (.long v4), x3)
   else some (some (.long (2143289344 : Int64)), x1)
  else 
   if a0 = (4 : Int32) then mj_rD (kX0 d 61 [.long a1] x) fun v6 x5 =>
    
    if (Op.cmpValue (FP.dcmp v6 v6) .l) = 0 then mj_rL (kX0 d 62 [.double (FP.dneg v6)] x5) fun v8 x7 =>
     some (some (.long v8), x7)
    else some (some (.long (9221120237041090560 : Int64)), x5)
   else 
    if a0 = (1 : Int32) then some (some (.long (-a1).toInt32.toInt64), x)
    else some (some (.long (-a1)), x) := (mj_run_to (cd := cdX0) (rt := 2) (tab := tX0_negative) (cal := kX0 d) zX0_negative 48 (0, [some (.int a0), some (.long a1), none, none, none], [], x)).trans rfl
noncomputable abbrev rX0_converted (d : Nat) : mj_S → mj_R := mj_run cdX0 2 tX0_converted (kX0 d)
def zX0_converted (p : Nat) : Bool := false
set_option maxRecDepth 100000 in
set_option maxHeartbeats 4000000 in
theorem eX0_converted (d : Nat) (a0 : Int32) (a1 : Int32) (a2 : Int64) (x : mj_X) : kX0 (d + 1) 133 [.int a0, .int a1, .long a2] x = 
  if a0 = a1 then some (some (.long a2), x)
  else 
   if a0 = (3 : Int32) then mj_rF (kX0 d 59 [.long a2] x) fun v2 x1 =>
    
    if a1 = (1 : Int32) then some (some (.long (FP.f2i v2).toInt64), x1)
    else 
     if a1 = (2 : Int32) then some (some (.long (FP.f2l v2)), x1)
     else 
      if (Op.cmpValue (FP.fcmp v2 v2) .l) = 0 then mj_n64 (FP.f2d v2) (mj_rL (kX0 d 62 [.double (FP.f2d v2)] x1) fun v4 x3 =>
       some (some (.long v4), x3))
      else some (some (.long (9221120237041090560 : Int64)), x1)
   else 
    if a0 = (4 : Int32) then mj_rD (kX0 d 61 [.long a2] x) fun v6 x5 =>
     
     if a1 = (1 : Int32) then some (some (.long (FP.d2i v6).toInt64), x5)
     else 
      if a1 = (2 : Int32) then some (some (.long (FP.d2l v6)), x5)
      else 
       if (Op.cmpValue (FP.dcmp v6 v6) .l) = 0 then mj_n32 (FP.d2f v6) (mj_rL (kX0 d 60 [.float (FP.d2f v6)] x5) fun v8 x7 =>
        some (some (.long v8), x7))
       else some (some (.long (2143289344 : Int64)), x5)
    else 
     if a1 = (1 : Int32) then some (some (.long a2.toInt32.toInt64), x)
     else 
      if a1 = (2 : Int32) then some (some (.long a2), x)
      else 
       if a1 = (3 : Int32) then 
        if a0 = (1 : Int32) then mj_rL (kX0 d 60 [.float (FP.i2f a2.toInt32)] x) fun v10 x9 =>
         some (some (.long v10), x9)
        else mj_rL (kX0 d 60 [.float (FP.l2f a2)] x) fun v12 x11 =>
         some (some (.long v12), x11)
       else 
        if a0 = (1 : Int32) then mj_rL (kX0 d 62 [.double (FP.i2d a2.toInt32)] x) fun v14 x13 =>
         some (some (.long v14), x13)
        else mj_rL (kX0 d 62 [.double (FP.l2d a2)] x) fun v16 x15 =>
         some (some (.long v16), x15) := (mj_run_to (cd := cdX0) (rt := 2) (tab := tX0_converted) (cal := kX0 d) zX0_converted 116 (0, [some (.int a0), some (.int a1), some (.long a2), none, none, none], [], x)).trans rfl
noncomputable abbrev rX0_small (d : Nat) : mj_S → mj_R := mj_run cdX0 2 tX0_small (kX0 d)
def zX0_small (p : Nat) : Bool := false
set_option maxRecDepth 100000 in
set_option maxHeartbeats 4000000 in
theorem eX0_small (d : Nat) (a0 : Int32) (a1 : Int64) (x : mj_X) : kX0 (d + 1) 134 [.int a0, .long a1] x = 
  if a0 = (9 : Int32) then some (some (.long a1.toInt32.toInt8.toInt32.toInt64), x)
  else 
   if a0 = (10 : Int32) then some (some (.long (a1.toInt32.toUInt32 % 65536).toInt32.toInt64), x)
   else some (some (.long a1.toInt32.toInt16.toInt32.toInt64), x) := (mj_run_to (cd := cdX0) (rt := 2) (tab := tX0_small) (cal := kX0 d) zX0_small 25 (0, [some (.int a0), some (.long a1), none], [], x)).trans rfl
noncomputable abbrev rX0_operate (d : Nat) : mj_S → mj_R := mj_run cdX0 2 tX0_operate (kX0 d)
def zX0_operate (p : Nat) : Bool := bif Nat.blt p 368 then (bif Nat.blt p 332 then (bif Nat.blt p 261 then (bif Nat.beq p 242 then true else false) else (bif Nat.blt p 274 then (bif Nat.beq p 261 then true else false) else (bif Nat.beq p 274 then true else false))) else (bif Nat.blt p 350 then (bif Nat.blt p 341 then (bif Nat.beq p 332 then true else false) else (bif Nat.beq p 341 then true else false)) else (bif Nat.blt p 359 then (bif Nat.beq p 350 then true else false) else (bif Nat.beq p 359 then true else false)))) else (bif Nat.blt p 404 then (bif Nat.blt p 386 then (bif Nat.blt p 377 then (bif Nat.beq p 368 then true else false) else (bif Nat.beq p 377 then true else false)) else (bif Nat.blt p 395 then (bif Nat.beq p 386 then true else false) else (bif Nat.beq p 395 then true else false))) else (bif Nat.blt p 454 then (bif Nat.blt p 429 then (bif Nat.beq p 404 then true else false) else (bif Nat.beq p 429 then true else false)) else (bif Nat.blt p 476 then (bif Nat.beq p 454 then true else false) else (bif Nat.beq p 476 then true else false))))
set_option maxRecDepth 100000 in
set_option maxHeartbeats 4000000 in
theorem eX0_operate (d : Nat) (a1 : Int32) (a2 : Int32) (a3 : Int64) (a5 : Int64) (x : mj_X) : kX0 (d + 1) 136 [.ref 0, .int a1, .int a2, .long a3, .long a5] x = 
  if a2 = (3 : Int32) then mj_rF (kX0 d 59 [.long a3] x) fun v2 x1 =>
   mj_rF (kX0 d 59 [.long a5] x1) fun v4 x3 =>
   
   if (Op.cmpValue (FP.fcmp v2 v2) .l) = 0 then 
    if (Op.cmpValue (FP.fcmp v4 v4) .l) = 0 then mj_n64 (FP.f2d v2) (mj_n64 (FP.f2d v4) (mj_rI (kX0 d 137 [.int a1, .double (FP.f2d v2), .double (FP.f2d v4)] x3) fun v6 x5 =>
     
     if v6 = 0 then 
      if a1 = (10 : Int32) then mj_n32 (FP.fadd v2 v4) (mj_rL (kX0 d 60 [.float (FP.fadd v2 v4)] x5) fun v8 x7 =>
       some (some (.long v8), x7))
      else 
       if a1 = (11 : Int32) then mj_n32 (FP.fsub v2 v4) (mj_rL (kX0 d 60 [.float (FP.fsub v2 v4)] x5) fun v10 x9 =>
        some (some (.long v10), x9))
       else 
        if a1 = (12 : Int32) then mj_n32 (FP.fmul v2 v4) (mj_rL (kX0 d 60 [.float (FP.fmul v2 v4)] x5) fun v12 x11 =>
         some (some (.long v12), x11))
        else 
         if a1 = (13 : Int32) then mj_n32 (FP.fdiv v2 v4) (mj_rL (kX0 d 60 [.float (FP.fdiv v2 v4)] x5) fun v14 x13 =>
          some (some (.long v14), x13))
         else mj_n32 (FP.frem v2 v4) (mj_rL (kX0 d 60 [.float (FP.frem v2 v4)] x5) fun v16 x15 =>
          some (some (.long v16), x15))
     else some (some (.long (2143289344 : Int64)), x5)))
    else some (some (.long (2143289344 : Int64)), x3)
   else some (some (.long (2143289344 : Int64)), x3)
  else 
   if a2 = (4 : Int32) then mj_rD (kX0 d 61 [.long a3] x) fun v18 x17 =>
    mj_rD (kX0 d 61 [.long a5] x17) fun v20 x19 =>
    
    if (Op.cmpValue (FP.dcmp v18 v18) .l) = 0 then 
     if (Op.cmpValue (FP.dcmp v20 v20) .l) = 0 then mj_rI (kX0 d 137 [.int a1, .double v18, .double v20] x19) fun v22 x21 =>
      
      if v22 = 0 then 
       if a1 = (10 : Int32) then mj_n64 (FP.dadd v18 v20) (mj_rL (kX0 d 62 [.double (FP.dadd v18 v20)] x21) fun v24 x23 =>
        some (some (.long v24), x23))
       else 
        if a1 = (11 : Int32) then mj_n64 (FP.dsub v18 v20) (mj_rL (kX0 d 62 [.double (FP.dsub v18 v20)] x21) fun v26 x25 =>
         some (some (.long v26), x25))
        else 
         if a1 = (12 : Int32) then mj_n64 (FP.dmul v18 v20) (mj_rL (kX0 d 62 [.double (FP.dmul v18 v20)] x21) fun v28 x27 =>
          some (some (.long v28), x27))
         else 
          if a1 = (13 : Int32) then mj_n64 (FP.ddiv v18 v20) (mj_rL (kX0 d 62 [.double (FP.ddiv v18 v20)] x21) fun v30 x29 =>
           some (some (.long v30), x29))
          else mj_n64 (FP.drem v18 v20) (mj_rL (kX0 d 62 [.double (FP.drem v18 v20)] x21) fun v32 x31 =>
           some (some (.long v32), x31))
      else some (some (.long (9221120237041090560 : Int64)), x21)
     else some (some (.long (9221120237041090560 : Int64)), x19)
    else some (some (.long (9221120237041090560 : Int64)), x19)
   else 
    if a1 = (13 : Int32) then rX0_operate d (242, [some (.ref 0), some (.int a1), some (.int a2), some (.long a3), none, some (.long a5), none, none, none, none, none], [], x)
    else 
     if a1 = (14 : Int32) then rX0_operate d (242, [some (.ref 0), some (.int a1), some (.int a2), some (.long a3), none, some (.long a5), none, none, none, none, none], [], x)
     else rX0_operate d (261, [some (.ref 0), some (.int a1), some (.int a2), some (.long a3), none, some (.long a5), none, none, none, none, none], [], x) := (mj_run_to (cd := cdX0) (rt := 2) (tab := tX0_operate) (cal := kX0 d) zX0_operate 151 (0, [some (.ref 0), some (.int a1), some (.int a2), some (.long a3), none, some (.long a5), none, none, none, none, none], [], x)).trans rfl
set_option maxRecDepth 100000 in
set_option maxHeartbeats 4000000 in
theorem bX0_operate_242 (d : Nat) (a1 : Int32) (a2 : Int32) (a3 : Int64) (a5 : Int64) (x : mj_X) : rX0_operate d (242, [some (.ref 0), some (.int a1), some (.int a2), some (.long a3), none, some (.long a5), none, none, none, none, none], [], x) = 
  if (lg_cmp a5 (0 : Int64)) = 0 then some (some (.long (0 : Int64)), (mj_wI (mj_wI x 0 78 (1 : Int32)) 0 79 (0 : Int32)))
  else rX0_operate d (261, [some (.ref 0), some (.int a1), some (.int a2), some (.long a3), none, some (.long a5), none, none, none, none, none], [], x) := (mj_run_to (cd := cdX0) (rt := 2) (tab := tX0_operate) (cal := kX0 d) zX0_operate 151 (242, [some (.ref 0), some (.int a1), some (.int a2), some (.long a3), none, some (.long a5), none, none, none, none, none], [], x)).trans rfl
set_option maxRecDepth 100000 in
set_option maxHeartbeats 4000000 in
theorem bX0_operate_261 (d : Nat) (a1 : Int32) (a2 : Int32) (a3 : Int64) (a5 : Int64) (x : mj_X) : rX0_operate d (261, [some (.ref 0), some (.int a1), some (.int a2), some (.long a3), none, some (.long a5), none, none, none, none, none], [], x) = 
  if a2 = (1 : Int32) then rX0_operate d (274, [some (.ref 0), some (.int a1), some (.int a2), some (.long a3), none, some (.long a5), none, some (.long (0 : Int64)), none, none, none], [.int (1 : Int32)], x)
  else rX0_operate d (274, [some (.ref 0), some (.int a1), some (.int a2), some (.long a3), none, some (.long a5), none, some (.long (0 : Int64)), none, none, none], [.int (0 : Int32)], x) := (mj_run_to (cd := cdX0) (rt := 2) (tab := tX0_operate) (cal := kX0 d) zX0_operate 151 (261, [some (.ref 0), some (.int a1), some (.int a2), some (.long a3), none, some (.long a5), none, none, none, none, none], [], x)).trans rfl
set_option maxRecDepth 100000 in
set_option maxHeartbeats 4000000 in
theorem bX0_operate_274 (d : Nat) (a1 : Int32) (a2 : Int32) (a3 : Int64) (a5 : Int64) (a7 : Int64) (s0 : Int32) (x : mj_X) : rX0_operate d (274, [some (.ref 0), some (.int a1), some (.int a2), some (.long a3), none, some (.long a5), none, some (.long a7), none, none, none], [.int s0], x) = mj_sw a1 10 (177) [55, 64, 73, 82, 91, 100, 109, 118, 127, 152] fun off => mj_j 277 off fun t => rX0_operate d (t, [some (.ref 0), some (.int a1), some (.int a2), some (.long a3), none, some (.long a5), none, some (.long a7), none, some (.int s0), none], [], x) := (mj_run_to (cd := cdX0) (rt := 2) (tab := tX0_operate) (cal := kX0 d) zX0_operate 151 (274, [some (.ref 0), some (.int a1), some (.int a2), some (.long a3), none, some (.long a5), none, some (.long a7), none, none, none], [.int s0], x)).trans rfl
set_option maxRecDepth 100000 in
set_option maxHeartbeats 4000000 in
theorem bX0_operate_332 (d : Nat) (a1 : Int32) (a2 : Int32) (a3 : Int64) (a5 : Int64) (a7 : Int64) (a9 : Int32) (x : mj_X) : rX0_operate d (332, [some (.ref 0), some (.int a1), some (.int a2), some (.long a3), none, some (.long a5), none, some (.long a7), none, some (.int a9), none], [], x) = rX0_operate d (476, [some (.ref 0), some (.int a1), some (.int a2), some (.long a3), none, some (.long a5), none, some (.long (a3 + a5)), none, some (.int a9), none], [], x) := (mj_run_to (cd := cdX0) (rt := 2) (tab := tX0_operate) (cal := kX0 d) zX0_operate 151 (332, [some (.ref 0), some (.int a1), some (.int a2), some (.long a3), none, some (.long a5), none, some (.long a7), none, some (.int a9), none], [], x)).trans rfl
set_option maxRecDepth 100000 in
set_option maxHeartbeats 4000000 in
theorem bX0_operate_341 (d : Nat) (a1 : Int32) (a2 : Int32) (a3 : Int64) (a5 : Int64) (a7 : Int64) (a9 : Int32) (x : mj_X) : rX0_operate d (341, [some (.ref 0), some (.int a1), some (.int a2), some (.long a3), none, some (.long a5), none, some (.long a7), none, some (.int a9), none], [], x) = rX0_operate d (476, [some (.ref 0), some (.int a1), some (.int a2), some (.long a3), none, some (.long a5), none, some (.long (a3 - a5)), none, some (.int a9), none], [], x) := (mj_run_to (cd := cdX0) (rt := 2) (tab := tX0_operate) (cal := kX0 d) zX0_operate 151 (341, [some (.ref 0), some (.int a1), some (.int a2), some (.long a3), none, some (.long a5), none, some (.long a7), none, some (.int a9), none], [], x)).trans rfl
set_option maxRecDepth 100000 in
set_option maxHeartbeats 4000000 in
theorem bX0_operate_350 (d : Nat) (a1 : Int32) (a2 : Int32) (a3 : Int64) (a5 : Int64) (a7 : Int64) (a9 : Int32) (x : mj_X) : rX0_operate d (350, [some (.ref 0), some (.int a1), some (.int a2), some (.long a3), none, some (.long a5), none, some (.long a7), none, some (.int a9), none], [], x) = rX0_operate d (476, [some (.ref 0), some (.int a1), some (.int a2), some (.long a3), none, some (.long a5), none, some (.long (a3 * a5)), none, some (.int a9), none], [], x) := (mj_run_to (cd := cdX0) (rt := 2) (tab := tX0_operate) (cal := kX0 d) zX0_operate 151 (350, [some (.ref 0), some (.int a1), some (.int a2), some (.long a3), none, some (.long a5), none, some (.long a7), none, some (.int a9), none], [], x)).trans rfl
set_option maxRecDepth 100000 in
set_option maxHeartbeats 4000000 in
theorem bX0_operate_359 (d : Nat) (a1 : Int32) (a2 : Int32) (a3 : Int64) (a5 : Int64) (a7 : Int64) (a9 : Int32) (x : mj_X) : rX0_operate d (359, [some (.ref 0), some (.int a1), some (.int a2), some (.long a3), none, some (.long a5), none, some (.long a7), none, some (.int a9), none], [], x) = mj_d64 a5 (rX0_operate d (476, [some (.ref 0), some (.int a1), some (.int a2), some (.long a3), none, some (.long a5), none, some (.long (a3 / a5)), none, some (.int a9), none], [], x)) := (mj_run_to (cd := cdX0) (rt := 2) (tab := tX0_operate) (cal := kX0 d) zX0_operate 151 (359, [some (.ref 0), some (.int a1), some (.int a2), some (.long a3), none, some (.long a5), none, some (.long a7), none, some (.int a9), none], [], x)).trans rfl
set_option maxRecDepth 100000 in
set_option maxHeartbeats 4000000 in
theorem bX0_operate_368 (d : Nat) (a1 : Int32) (a2 : Int32) (a3 : Int64) (a5 : Int64) (a7 : Int64) (a9 : Int32) (x : mj_X) : rX0_operate d (368, [some (.ref 0), some (.int a1), some (.int a2), some (.long a3), none, some (.long a5), none, some (.long a7), none, some (.int a9), none], [], x) = mj_d64 a5 (rX0_operate d (476, [some (.ref 0), some (.int a1), some (.int a2), some (.long a3), none, some (.long a5), none, some (.long (a3 - a3 / a5 * a5)), none, some (.int a9), none], [], x)) := (mj_run_to (cd := cdX0) (rt := 2) (tab := tX0_operate) (cal := kX0 d) zX0_operate 151 (368, [some (.ref 0), some (.int a1), some (.int a2), some (.long a3), none, some (.long a5), none, some (.long a7), none, some (.int a9), none], [], x)).trans rfl
set_option maxRecDepth 100000 in
set_option maxHeartbeats 4000000 in
theorem bX0_operate_377 (d : Nat) (a1 : Int32) (a2 : Int32) (a3 : Int64) (a5 : Int64) (a7 : Int64) (a9 : Int32) (x : mj_X) : rX0_operate d (377, [some (.ref 0), some (.int a1), some (.int a2), some (.long a3), none, some (.long a5), none, some (.long a7), none, some (.int a9), none], [], x) = rX0_operate d (476, [some (.ref 0), some (.int a1), some (.int a2), some (.long a3), none, some (.long a5), none, some (.long (a3 &&& a5)), none, some (.int a9), none], [], x) := (mj_run_to (cd := cdX0) (rt := 2) (tab := tX0_operate) (cal := kX0 d) zX0_operate 151 (377, [some (.ref 0), some (.int a1), some (.int a2), some (.long a3), none, some (.long a5), none, some (.long a7), none, some (.int a9), none], [], x)).trans rfl
set_option maxRecDepth 100000 in
set_option maxHeartbeats 4000000 in
theorem bX0_operate_386 (d : Nat) (a1 : Int32) (a2 : Int32) (a3 : Int64) (a5 : Int64) (a7 : Int64) (a9 : Int32) (x : mj_X) : rX0_operate d (386, [some (.ref 0), some (.int a1), some (.int a2), some (.long a3), none, some (.long a5), none, some (.long a7), none, some (.int a9), none], [], x) = rX0_operate d (476, [some (.ref 0), some (.int a1), some (.int a2), some (.long a3), none, some (.long a5), none, some (.long (a3 ||| a5)), none, some (.int a9), none], [], x) := (mj_run_to (cd := cdX0) (rt := 2) (tab := tX0_operate) (cal := kX0 d) zX0_operate 151 (386, [some (.ref 0), some (.int a1), some (.int a2), some (.long a3), none, some (.long a5), none, some (.long a7), none, some (.int a9), none], [], x)).trans rfl
set_option maxRecDepth 100000 in
set_option maxHeartbeats 4000000 in
theorem bX0_operate_395 (d : Nat) (a1 : Int32) (a2 : Int32) (a3 : Int64) (a5 : Int64) (a7 : Int64) (a9 : Int32) (x : mj_X) : rX0_operate d (395, [some (.ref 0), some (.int a1), some (.int a2), some (.long a3), none, some (.long a5), none, some (.long a7), none, some (.int a9), none], [], x) = rX0_operate d (476, [some (.ref 0), some (.int a1), some (.int a2), some (.long a3), none, some (.long a5), none, some (.long (a3 ^^^ a5)), none, some (.int a9), none], [], x) := (mj_run_to (cd := cdX0) (rt := 2) (tab := tX0_operate) (cal := kX0 d) zX0_operate 151 (395, [some (.ref 0), some (.int a1), some (.int a2), some (.long a3), none, some (.long a5), none, some (.long a7), none, some (.int a9), none], [], x)).trans rfl
set_option maxRecDepth 100000 in
set_option maxHeartbeats 4000000 in
theorem bX0_operate_404 (d : Nat) (a1 : Int32) (a2 : Int32) (a3 : Int64) (a5 : Int64) (a7 : Int64) (a9 : Int32) (x : mj_X) : rX0_operate d (404, [some (.ref 0), some (.int a1), some (.int a2), some (.long a3), none, some (.long a5), none, some (.long a7), none, some (.int a9), none], [], x) = 
  if a9 = 0 then rX0_operate d (476, [some (.ref 0), some (.int a1), some (.int a2), some (.long a3), none, some (.long a5), none, some (.long (a3 <<< (a5.toInt32.toInt64 &&& 63))), none, some (.int a9), none], [], x)
  else rX0_operate d (476, [some (.ref 0), some (.int a1), some (.int a2), some (.long a3), none, some (.long a5), none, some (.long (a3.toInt32 <<< (a5.toInt32 &&& 31)).toInt64), none, some (.int a9), none], [], x) := (mj_run_to (cd := cdX0) (rt := 2) (tab := tX0_operate) (cal := kX0 d) zX0_operate 151 (404, [some (.ref 0), some (.int a1), some (.int a2), some (.long a3), none, some (.long a5), none, some (.long a7), none, some (.int a9), none], [], x)).trans rfl
set_option maxRecDepth 100000 in
set_option maxHeartbeats 4000000 in
theorem bX0_operate_429 (d : Nat) (a1 : Int32) (a2 : Int32) (a3 : Int64) (a5 : Int64) (a7 : Int64) (a9 : Int32) (x : mj_X) : rX0_operate d (429, [some (.ref 0), some (.int a1), some (.int a2), some (.long a3), none, some (.long a5), none, some (.long a7), none, some (.int a9), none], [], x) = 
  if a9 = 0 then rX0_operate d (476, [some (.ref 0), some (.int a1), some (.int a2), some (.long a3), none, some (.long a5), none, some (.long (a3 >>> (a5.toInt32.toInt64 &&& 63))), none, some (.int a9), none], [], x)
  else rX0_operate d (476, [some (.ref 0), some (.int a1), some (.int a2), some (.long a3), none, some (.long a5), none, some (.long (a3.toInt32 >>> (a5.toInt32 &&& 31)).toInt64), none, some (.int a9), none], [], x) := (mj_run_to (cd := cdX0) (rt := 2) (tab := tX0_operate) (cal := kX0 d) zX0_operate 151 (429, [some (.ref 0), some (.int a1), some (.int a2), some (.long a3), none, some (.long a5), none, some (.long a7), none, some (.int a9), none], [], x)).trans rfl
set_option maxRecDepth 100000 in
set_option maxHeartbeats 4000000 in
theorem bX0_operate_454 (d : Nat) (a1 : Int32) (a2 : Int32) (a3 : Int64) (a5 : Int64) (a7 : Int64) (a9 : Int32) (x : mj_X) : rX0_operate d (454, [some (.ref 0), some (.int a1), some (.int a2), some (.long a3), none, some (.long a5), none, some (.long a7), none, some (.int a9), none], [], x) = 
  if a9 = 0 then rX0_operate d (476, [some (.ref 0), some (.int a1), some (.int a2), some (.long a3), none, some (.long a5), none, some (.long (a3.toUInt64 >>> (a5.toInt32.toInt64.toUInt64 &&& Int64.toUInt64 63)).toInt64), none, some (.int a9), none], [], x)
  else rX0_operate d (476, [some (.ref 0), some (.int a1), some (.int a2), some (.long a3), none, some (.long a5), none, some (.long (a3.toInt32.toUInt32 >>> (a5.toInt32.toUInt32 &&& Int32.toUInt32 31)).toInt32.toInt64), none, some (.int a9), none], [], x) := (mj_run_to (cd := cdX0) (rt := 2) (tab := tX0_operate) (cal := kX0 d) zX0_operate 151 (454, [some (.ref 0), some (.int a1), some (.int a2), some (.long a3), none, some (.long a5), none, some (.long a7), none, some (.int a9), none], [], x)).trans rfl
set_option maxRecDepth 100000 in
set_option maxHeartbeats 4000000 in
theorem bX0_operate_476 (d : Nat) (a1 : Int32) (a2 : Int32) (a3 : Int64) (a5 : Int64) (a7 : Int64) (a9 : Int32) (x : mj_X) : rX0_operate d (476, [some (.ref 0), some (.int a1), some (.int a2), some (.long a3), none, some (.long a5), none, some (.long a7), none, some (.int a9), none], [], x) = 
  if a9 = 0 then some (some (.long a7), x)
  else some (some (.long a7.toInt32.toInt64), x) := (mj_run_to (cd := cdX0) (rt := 2) (tab := tX0_operate) (cal := kX0 d) zX0_operate 151 (476, [some (.ref 0), some (.int a1), some (.int a2), some (.long a3), none, some (.long a5), none, some (.long a7), none, some (.int a9), none], [], x)).trans rfl
noncomputable abbrev rX0_isNone (d : Nat) : mj_S → mj_R := mj_run cdX0 5 tX0_isNone (kX0 d)
def zX0_isNone (p : Nat) : Bool := bif Nat.blt p 86 then (bif Nat.blt p 52 then (bif Nat.beq p 18 then true else false) else (bif Nat.blt p 69 then (bif Nat.beq p 52 then true else false) else (bif Nat.beq p 69 then true else false))) else (bif Nat.blt p 118 then (bif Nat.blt p 99 then (bif Nat.beq p 86 then true else false) else (bif Nat.beq p 99 then true else false)) else (bif Nat.blt p 141 then (bif Nat.beq p 118 then true else false) else (bif Nat.beq p 141 then true else false)))
set_option maxRecDepth 100000 in
set_option maxHeartbeats 4000000 in
theorem eX0_isNone (d : Nat) (a0 : Int32) (a1 : UInt64) (a3 : UInt64) (x : mj_X) : kX0 (d + 1) 137 [.int a0, .double a1, .double a3] x = mj_rI (kX0 d 138 [.double a1] x) fun v2 x1 =>
  
  if v2 = 0 then mj_rI (kX0 d 138 [.double a3] x1) fun v4 x3 =>
   
   if v4 = 0 then mj_sw a0 10 (119) [30, 47, 64, 96] fun off => mj_j 22 off fun t => rX0_isNone d (t, [some (.int a0), some (.double a1), none, some (.double a3), none, some (.int (1 : Int32))], [], x3)
   else rX0_isNone d (18, [some (.int a0), some (.double a1), none, some (.double a3), none, none], [], x3)
  else rX0_isNone d (18, [some (.int a0), some (.double a1), none, some (.double a3), none, none], [], x1) := (mj_run_to (cd := cdX0) (rt := 5) (tab := tX0_isNone) (cal := kX0 d) zX0_isNone 22 (0, [some (.int a0), some (.double a1), none, some (.double a3), none, none], [], x)).trans rfl
set_option maxRecDepth 100000 in
set_option maxHeartbeats 4000000 in
theorem bX0_isNone_18 (d : Nat) (a0 : Int32) (a1 : UInt64) (a3 : UInt64) (x : mj_X) : rX0_isNone d (18, [some (.int a0), some (.double a1), none, some (.double a3), none, none], [], x) = mj_sw a0 10 (119) [30, 47, 64, 96] fun off => mj_j 22 off fun t => rX0_isNone d (t, [some (.int a0), some (.double a1), none, some (.double a3), none, some (.int (0 : Int32))], [], x) := (mj_run_to (cd := cdX0) (rt := 5) (tab := tX0_isNone) (cal := kX0 d) zX0_isNone 22 (18, [some (.int a0), some (.double a1), none, some (.double a3), none, none], [], x)).trans rfl
set_option maxRecDepth 100000 in
set_option maxHeartbeats 4000000 in
theorem bX0_isNone_52 (d : Nat) (a0 : Int32) (a1 : UInt64) (a3 : UInt64) (a5 : Int32) (x : mj_X) : rX0_isNone d (52, [some (.int a0), some (.double a1), none, some (.double a3), none, some (.int a5)], [], x) = 
  if a5 = 0 then some (some (.int (0 : Int32)), x)
  else 
   if (Op.cmpValue (FP.dcmp a1 a3) .l) = 0 then some (some (.int (0 : Int32)), x)
   else some (some (.int (1 : Int32)), x) := (mj_run_to (cd := cdX0) (rt := 5) (tab := tX0_isNone) (cal := kX0 d) zX0_isNone 22 (52, [some (.int a0), some (.double a1), none, some (.double a3), none, some (.int a5)], [], x)).trans rfl
set_option maxRecDepth 100000 in
set_option maxHeartbeats 4000000 in
theorem bX0_isNone_69 (d : Nat) (a0 : Int32) (a1 : UInt64) (a3 : UInt64) (a5 : Int32) (x : mj_X) : rX0_isNone d (69, [some (.int a0), some (.double a1), none, some (.double a3), none, some (.int a5)], [], x) = 
  if a5 = 0 then some (some (.int (0 : Int32)), x)
  else 
   if (Op.cmpValue (FP.dcmp a1 a3) .l) = 0 then some (some (.int (1 : Int32)), x)
   else some (some (.int (0 : Int32)), x) := (mj_run_to (cd := cdX0) (rt := 5) (tab := tX0_isNone) (cal := kX0 d) zX0_isNone 22 (69, [some (.int a0), some (.double a1), none, some (.double a3), none, some (.int a5)], [], x)).trans rfl
set_option maxRecDepth 100000 in
set_option maxHeartbeats 4000000 in
theorem bX0_isNone_86 (d : Nat) (a0 : Int32) (a1 : UInt64) (a3 : UInt64) (a5 : Int32) (x : mj_X) : rX0_isNone d (86, [some (.int a0), some (.double a1), none, some (.double a3), none, some (.int a5)], [], x) = 
  if (Op.cmpValue (FP.dcmp a1 FP.dconst0) .l) = 0 then mj_rI (kX0 d 138 [.double a3] x) fun v2 x1 =>
   
   if v2 = 0 then some (some (.int (1 : Int32)), x1)
   else rX0_isNone d (99, [some (.int a0), some (.double a1), none, some (.double a3), none, some (.int a5)], [], x1)
  else rX0_isNone d (99, [some (.int a0), some (.double a1), none, some (.double a3), none, some (.int a5)], [], x) := (mj_run_to (cd := cdX0) (rt := 5) (tab := tX0_isNone) (cal := kX0 d) zX0_isNone 22 (86, [some (.int a0), some (.double a1), none, some (.double a3), none, some (.int a5)], [], x)).trans rfl
set_option maxRecDepth 100000 in
set_option maxHeartbeats 4000000 in
theorem bX0_isNone_99 (d : Nat) (a0 : Int32) (a1 : UInt64) (a3 : UInt64) (a5 : Int32) (x : mj_X) : rX0_isNone d (99, [some (.int a0), some (.double a1), none, some (.double a3), none, some (.int a5)], [], x) = 
  if (Op.cmpValue (FP.dcmp a3 FP.dconst0) .l) = 0 then mj_rI (kX0 d 138 [.double a1] x) fun v2 x1 =>
   
   if v2 = 0 then some (some (.int (1 : Int32)), x1)
   else some (some (.int (0 : Int32)), x1)
  else some (some (.int (0 : Int32)), x) := (mj_run_to (cd := cdX0) (rt := 5) (tab := tX0_isNone) (cal := kX0 d) zX0_isNone 22 (99, [some (.int a0), some (.double a1), none, some (.double a3), none, some (.int a5)], [], x)).trans rfl
set_option maxRecDepth 100000 in
set_option maxHeartbeats 4000000 in
theorem bX0_isNone_118 (d : Nat) (a0 : Int32) (a1 : UInt64) (a3 : UInt64) (a5 : Int32) (x : mj_X) : rX0_isNone d (118, [some (.int a0), some (.double a1), none, some (.double a3), none, some (.int a5)], [], x) = 
  if a5 = 0 then 
   if (Op.cmpValue (FP.dcmp a1 FP.dconst0) .l) = 0 then 
    if (Op.cmpValue (FP.dcmp a3 FP.dconst0) .l) = 0 then some (some (.int (1 : Int32)), x)
    else some (some (.int (0 : Int32)), x)
   else some (some (.int (0 : Int32)), x)
  else some (some (.int (1 : Int32)), x) := (mj_run_to (cd := cdX0) (rt := 5) (tab := tX0_isNone) (cal := kX0 d) zX0_isNone 22 (118, [some (.int a0), some (.double a1), none, some (.double a3), none, some (.int a5)], [], x)).trans rfl
set_option maxRecDepth 100000 in
set_option maxHeartbeats 4000000 in
theorem bX0_isNone_141 (d : Nat) (a0 : Int32) (a1 : UInt64) (a3 : UInt64) (a5 : Int32) (x : mj_X) : rX0_isNone d (141, [some (.int a0), some (.double a1), none, some (.double a3), none, some (.int a5)], [], x) = mj_rI (kX0 d 138 [.double a1] x) fun v2 x1 =>
  
  if v2 = 0 then some (some (.int (1 : Int32)), x1)
  else 
   if (Op.cmpValue (FP.dcmp a3 FP.dconst0) .l) = 0 then some (some (.int (1 : Int32)), x1)
   else some (some (.int (0 : Int32)), x1) := (mj_run_to (cd := cdX0) (rt := 5) (tab := tX0_isNone) (cal := kX0 d) zX0_isNone 22 (141, [some (.int a0), some (.double a1), none, some (.double a3), none, some (.int a5)], [], x)).trans rfl
noncomputable abbrev rX0_isFinite (d : Nat) : mj_S → mj_R := mj_run cdX0 5 tX0_isFinite (kX0 d)
def zX0_isFinite (p : Nat) : Bool := false
set_option maxRecDepth 100000 in
set_option maxHeartbeats 4000000 in
theorem eX0_isFinite (d : Nat) (a0 : UInt64) (x : mj_X) : kX0 (d + 1) 138 [.double a0] x = 
  if (Op.cmpValue (FP.dcmp a0 (18442240474082181119 : UInt64)) .l) < 0 then some (some (.int (0 : Int32)), x)
  else 
   if 0 < (Op.cmpValue (FP.dcmp a0 (9218868437227405311 : UInt64)) .g) then some (some (.int (0 : Int32)), x)
   else some (some (.int (1 : Int32)), x) := (mj_run_to (cd := cdX0) (rt := 5) (tab := tX0_isFinite) (cal := kX0 d) zX0_isFinite 17 (0, [some (.double a0), none], [], x)).trans rfl
noncomputable abbrev rX0_holds (d : Nat) : mj_S → mj_R := mj_run cdX0 5 tX0_holds (kX0 d)
def zX0_holds (p : Nat) : Bool := bif Nat.beq p 17 then true else false
set_option maxRecDepth 100000 in
set_option maxHeartbeats 4000000 in
theorem eX0_holds (d : Nat) (a0 : Int32) (a1 : Int32) (a2 : Int64) (a4 : Int64) (x : mj_X) : kX0 (d + 1) 141 [.int a0, .int a1, .long a2, .long a4] x = 
  if a0 = (25 : Int32) then rX0_holds d (17, [some (.int a0), some (.int a1), some (.long a2), none, some (.long a4), none, none], [.int (1 : Int32)], x)
  else 
   if a0 = (28 : Int32) then rX0_holds d (17, [some (.int a0), some (.int a1), some (.long a2), none, some (.long a4), none, none], [.int (1 : Int32)], x)
   else rX0_holds d (17, [some (.int a0), some (.int a1), some (.long a2), none, some (.long a4), none, none], [.int (0 : Int32)], x) := (mj_run_to (cd := cdX0) (rt := 5) (tab := tX0_holds) (cal := kX0 d) zX0_holds 18 (0, [some (.int a0), some (.int a1), some (.long a2), none, some (.long a4), none, none], [], x)).trans rfl
set_option maxRecDepth 100000 in
set_option maxHeartbeats 4000000 in
theorem bX0_holds_17 (d : Nat) (a0 : Int32) (a1 : Int32) (a2 : Int64) (a4 : Int64) (s0 : Int32) (x : mj_X) : rX0_holds d (17, [some (.int a0), some (.int a1), some (.long a2), none, some (.long a4), none, none], [.int s0], x) = 
  if s0 = 0 then mj_rI (kX0 d 142 [.int a1, .long a2, .long a4, .int (-1 : Int32)] x) fun v2 x1 =>
   mj_rI (kX0 d 143 [.int a0, .int v2] x1) fun v4 x3 =>
   mj_gb v4 (some (some (.int v4), x3))
  else mj_rI (kX0 d 142 [.int a1, .long a2, .long a4, .int (1 : Int32)] x) fun v6 x5 =>
   mj_rI (kX0 d 143 [.int a0, .int v6] x5) fun v8 x7 =>
   mj_gb v8 (some (some (.int v8), x7)) := (mj_run_to (cd := cdX0) (rt := 5) (tab := tX0_holds) (cal := kX0 d) zX0_holds 18 (17, [some (.int a0), some (.int a1), some (.long a2), none, some (.long a4), none, none], [.int s0], x)).trans rfl
noncomputable abbrev rX0_compare (d : Nat) : mj_S → mj_R := mj_run cdX0 1 tX0_compare (kX0 d)
def zX0_compare (p : Nat) : Bool := false
set_option maxRecDepth 100000 in
set_option maxHeartbeats 4000000 in
theorem eX0_compare (d : Nat) (a0 : Int32) (a1 : Int64) (a3 : Int64) (a5 : Int32) (x : mj_X) : kX0 (d + 1) 142 [.int a0, .long a1, .long a3, .int a5] x = 
  if a0 = (3 : Int32) then mj_rF (kX0 d 59 [.long a1] x) fun v2 x1 =>
   mj_rF (kX0 d 59 [.long a3] x1) fun v4 x3 =>
   
   if 0 ≤ (Op.cmpValue (FP.fcmp v2 v4) .g) then 
    if (Op.cmpValue (FP.fcmp v2 v4) .l) ≤ 0 then 
     if (Op.cmpValue (FP.fcmp v2 v4) .l) = 0 then some (some (.int (0 : Int32)), x3)
     else some (some (.int a5), x3)
    else some (some (.int (1 : Int32)), x3)
   else some (some (.int (-1 : Int32)), x3)
  else 
   if a0 = (4 : Int32) then mj_rD (kX0 d 61 [.long a1] x) fun v6 x5 =>
    mj_rD (kX0 d 61 [.long a3] x5) fun v8 x7 =>
    
    if 0 ≤ (Op.cmpValue (FP.dcmp v6 v8) .g) then 
     if (Op.cmpValue (FP.dcmp v6 v8) .l) ≤ 0 then 
      if (Op.cmpValue (FP.dcmp v6 v8) .l) = 0 then some (some (.int (0 : Int32)), x7)
      else some (some (.int a5), x7)
     else some (some (.int (1 : Int32)), x7)
    else some (some (.int (-1 : Int32)), x7)
   else 
    if 0 ≤ (lg_cmp a1 a3) then 
     if (lg_cmp a1 a3) ≤ 0 then some (some (.int (0 : Int32)), x)
     else some (some (.int (1 : Int32)), x)
    else some (some (.int (-1 : Int32)), x) := (mj_run_to (cd := cdX0) (rt := 1) (tab := tX0_compare) (cal := kX0 d) zX0_compare 82 (0, [some (.int a0), some (.long a1), none, some (.long a3), none, some (.int a5), none, none, none, none], [], x)).trans rfl
noncomputable abbrev rX0_holds_2 (d : Nat) : mj_S → mj_R := mj_run cdX0 5 tX0_holds_2 (kX0 d)
def zX0_holds_2 (p : Nat) : Bool := false
set_option maxRecDepth 100000 in
set_option maxHeartbeats 4000000 in
theorem eX0_holds_2 (d : Nat) (a0 : Int32) (a1 : Int32) (x : mj_X) : kX0 (d + 1) 143 [.int a0, .int a1] x = 
  if a0 = (23 : Int32) then 
   if a1 = 0 then some (some (.int (1 : Int32)), x)
   else some (some (.int (0 : Int32)), x)
  else 
   if a0 = (24 : Int32) then 
    if a1 = 0 then some (some (.int (0 : Int32)), x)
    else some (some (.int (1 : Int32)), x)
   else 
    if a0 = (25 : Int32) then 
     if 0 ≤ a1 then some (some (.int (0 : Int32)), x)
     else some (some (.int (1 : Int32)), x)
    else 
     if a0 = (26 : Int32) then 
      if a1 < 0 then some (some (.int (0 : Int32)), x)
      else some (some (.int (1 : Int32)), x)
     else 
      if a0 = (27 : Int32) then 
       if a1 ≤ 0 then some (some (.int (0 : Int32)), x)
       else some (some (.int (1 : Int32)), x)
      else 
       if 0 < a1 then some (some (.int (0 : Int32)), x)
       else some (some (.int (1 : Int32)), x) := (mj_run_to (cd := cdX0) (rt := 5) (tab := tX0_holds_2) (cal := kX0 d) zX0_holds_2 64 (0, [some (.int a0), some (.int a1)], [], x)).trans rfl
