noncomputable abbrev rX1_plainFloat (d : Nat) : mj_S → mj_R := mj_run cdX1 1 tX1_plainFloat (kX1 d)
def zX1_plainFloat (p : Nat) : Bool := false
set_option maxRecDepth 100000 in
set_option maxHeartbeats 4000000 in
theorem eX1_plainFloat (d : Nat) (a0 : Int32) (x : mj_X) : kX1 (d + 1) 67 [.int a0] x = 
  if (a0 &&& (2147483647 : Int32)) ≤ (2139095040 : Int32) then some (some (.int a0), x)
  else some (some (.int (2143289344 : Int32)), x) := (mj_run_to (cd := cdX1) (rt := 1) (tab := tX1_plainFloat) (cal := kX1 d) zX1_plainFloat 12 (0, [some (.int a0)], [], x)).trans rfl
noncomputable abbrev rX1_plainDouble (d : Nat) : mj_S → mj_R := mj_run cdX1 2 tX1_plainDouble (kX1 d)
def zX1_plainDouble (p : Nat) : Bool := false
set_option maxRecDepth 100000 in
set_option maxHeartbeats 4000000 in
theorem eX1_plainDouble (d : Nat) (a0 : Int64) (x : mj_X) : kX1 (d + 1) 69 [.long a0] x = 
  if (lg_cmp (a0 &&& (9223372036854775807 : Int64)) (9218868437227405312 : Int64)) ≤ 0 then some (some (.long a0), x)
  else some (some (.long (9221120237041090560 : Int64)), x) := (mj_run_to (cd := cdX1) (rt := 2) (tab := tX1_plainDouble) (cal := kX1 d) zX1_plainDouble 13 (0, [some (.long a0), none], [], x)).trans rfl
noncomputable abbrev rX1_negative (d : Nat) : mj_S → mj_R := mj_run cdX1 2 tX1_negative (kX1 d)
def zX1_negative (p : Nat) : Bool := bif Nat.blt p 49 then (bif Nat.beq p 17 then true else false) else (bif Nat.beq p 49 then true else false)
set_option maxRecDepth 100000 in
set_option maxHeartbeats 4000000 in
theorem eX1_negative (d : Nat) (a0 : Int32) (a1 : Int64) (x : mj_X) : kX1 (d + 1) 122 [.int a0, .long a1] x = 
  if a0 = (3 : Int32) then mj_rF (kX1 d 123 [.long a1] x) fun v2 x1 =>
   mj_rF (kX1 d 123 [.long a1] x1) fun v4 x3 =>
   
   if (Op.cmpValue (FP.fcmp v2 v4) .l) = 0 then rX1_negative d (17, [some (.int a0), some (.long a1), none], [], x3)
   else 
    if a0 = (3 : Int32) then some (some (.long (2143289344 : Int64)), x3)
    else some (some (.long (9221120237041090560 : Int64)), x3)
  else rX1_negative d (17, [some (.int a0), some (.long a1), none], [], x) := (mj_run_to (cd := cdX1) (rt := 2) (tab := tX1_negative) (cal := kX1 d) zX1_negative 32 (0, [some (.int a0), some (.long a1), none], [], x)).trans rfl
set_option maxRecDepth 100000 in
set_option maxHeartbeats 4000000 in
theorem bX1_negative_17 (d : Nat) (a0 : Int32) (a1 : Int64) (x : mj_X) : rX1_negative d (17, [some (.int a0), some (.long a1), none], [], x) = 
  if a0 = (4 : Int32) then mj_rD (kX1 d 124 [.long a1] x) fun v2 x1 =>
   mj_rD (kX1 d 124 [.long a1] x1) fun v4 x3 =>
   
   if (Op.cmpValue (FP.dcmp v2 v4) .l) = 0 then rX1_negative d (49, [some (.int a0), some (.long a1), none], [], x3)
   else 
    if a0 = (3 : Int32) then some (some (.long (2143289344 : Int64)), x3)
    else some (some (.long (9221120237041090560 : Int64)), x3)
  else rX1_negative d (49, [some (.int a0), some (.long a1), none], [], x) := (mj_run_to (cd := cdX1) (rt := 2) (tab := tX1_negative) (cal := kX1 d) zX1_negative 32 (17, [some (.int a0), some (.long a1), none], [], x)).trans rfl
set_option maxRecDepth 100000 in
set_option maxHeartbeats 4000000 in
theorem bX1_negative_49 (d : Nat) (a0 : Int32) (a1 : Int64) (x : mj_X) : rX1_negative d (49, [some (.int a0), some (.long a1), none], [], x) = 
  if a0 = (1 : Int32) then some (some (.long (-a1.toInt32).toInt64), x)
  else 
   if a0 = (2 : Int32) then some (some (.long (-a1)), x)
   else 
    if a0 = (3 : Int32) then mj_rF (kX1 d 123 [.long a1] x) fun v2 x1 =>
     mj_rL (kX1 d 125 [.float (FP.fneg v2)] x1) fun v4 x3 =>
     some (some (.long v4), x3)
    else mj_rD (kX1 d 124 [.long a1] x) fun v6 x5 =>
     mj_rL (kX1 d 126 [.double (FP.dneg v6)] x5) fun v8 x7 =>
     some (some (.long v8), x7) := (mj_run_to (cd := cdX1) (rt := 2) (tab := tX1_negative) (cal := kX1 d) zX1_negative 32 (49, [some (.int a0), some (.long a1), none], [], x)).trans rfl
noncomputable abbrev rX1_floatOf (d : Nat) : mj_S → mj_R := mj_run cdX1 3 tX1_floatOf (kX1 d)
def zX1_floatOf (p : Nat) : Bool := false
set_option maxRecDepth 100000 in
set_option maxHeartbeats 4000000 in
theorem eX1_floatOf (d : Nat) (a0 : Int64) (x : mj_X) : kX1 (d + 1) 123 [.long a0] x = 
  if (a0.toInt32 &&& (2147483647 : Int32)) ≤ (2139095040 : Int32) then mj_rF (mj_pr cdX1 1003 [.int a0.toInt32] x) fun v2 x1 =>
   some (some (.float v2), x1)
  else mj_rF (mj_pr cdX1 1003 [.int (2143289344 : Int32)] x) fun v4 x3 =>
   some (some (.float v4), x3) := (mj_run_to (cd := cdX1) (rt := 3) (tab := tX1_floatOf) (cal := kX1 d) zX1_floatOf 16 (0, [some (.long a0), none], [], x)).trans rfl
noncomputable abbrev rX1_doubleOf (d : Nat) : mj_S → mj_R := mj_run cdX1 4 tX1_doubleOf (kX1 d)
def zX1_doubleOf (p : Nat) : Bool := false
set_option maxRecDepth 100000 in
set_option maxHeartbeats 4000000 in
theorem eX1_doubleOf (d : Nat) (a0 : Int64) (x : mj_X) : kX1 (d + 1) 124 [.long a0] x = 
  if (lg_cmp (a0 &&& (9223372036854775807 : Int64)) (9218868437227405312 : Int64)) ≤ 0 then mj_rD (mj_pr cdX1 1005 [.long a0] x) fun v2 x1 =>
   some (some (.double v2), x1)
  else mj_rD (mj_pr cdX1 1005 [.long (9221120237041090560 : Int64)] x) fun v4 x3 =>
   some (some (.double v4), x3) := (mj_run_to (cd := cdX1) (rt := 4) (tab := tX1_doubleOf) (cal := kX1 d) zX1_doubleOf 15 (0, [some (.long a0), none], [], x)).trans rfl
noncomputable abbrev rX1_bitsOf (d : Nat) : mj_S → mj_R := mj_run cdX1 2 tX1_bitsOf (kX1 d)
def zX1_bitsOf (p : Nat) : Bool := false
set_option maxRecDepth 100000 in
set_option maxHeartbeats 4000000 in
theorem eX1_bitsOf (d : Nat) (a0 : UInt32) (x : mj_X) : kX1 (d + 1) 125 [.float a0] x = 
  if (Op.cmpValue (FP.fcmp a0 a0) .l) = 0 then some (some (.long (mj_f2b a0).toInt64), x)
  else some (some (.long (2143289344 : Int64)), x) := (mj_run_to (cd := cdX1) (rt := 2) (tab := tX1_bitsOf) (cal := kX1 d) zX1_bitsOf 13 (0, [some (.float a0)], [], x)).trans rfl
noncomputable abbrev rX1_bitsOf_2 (d : Nat) : mj_S → mj_R := mj_run cdX1 2 tX1_bitsOf_2 (kX1 d)
def zX1_bitsOf_2 (p : Nat) : Bool := false
set_option maxRecDepth 100000 in
set_option maxHeartbeats 4000000 in
theorem eX1_bitsOf_2 (d : Nat) (a0 : UInt64) (x : mj_X) : kX1 (d + 1) 126 [.double a0] x = 
  if (Op.cmpValue (FP.dcmp a0 a0) .l) = 0 then some (some (.long (mj_d2b a0)), x)
  else some (some (.long (9221120237041090560 : Int64)), x) := (mj_run_to (cd := cdX1) (rt := 2) (tab := tX1_bitsOf_2) (cal := kX1 d) zX1_bitsOf_2 12 (0, [some (.double a0), none], [], x)).trans rfl
noncomputable abbrev rX1_act (d : Nat) : mj_S → mj_R := mj_run cdX1 2 tX1_act (kX1 d)
def zX1_act (p : Nat) : Bool := bif Nat.blt p 31 then (bif Nat.beq p 12 then true else false) else (bif Nat.beq p 31 then true else false)
set_option maxRecDepth 100000 in
set_option maxHeartbeats 4000000 in
theorem eX1_act (d : Nat) (a1 : Int32) (a2 : Int32) (a3 : Int64) (a5 : Int64) (x : mj_X) : kX1 (d + 1) 127 [.ref 0, .int a1, .int a2, .long a3, .long a5] x = 
  if a1 = (13 : Int32) then rX1_act d (12, [some (.ref 0), some (.int a1), some (.int a2), some (.long a3), none, some (.long a5), none, none, none, none, none], [], x)
  else 
   if a1 = (14 : Int32) then rX1_act d (12, [some (.ref 0), some (.int a1), some (.int a2), some (.long a3), none, some (.long a5), none, none, none, none, none], [], x)
   else rX1_act d (31, [some (.ref 0), some (.int a1), some (.int a2), some (.long a3), none, some (.long a5), none, none, none, none, none], [], x) := (mj_run_to (cd := cdX1) (rt := 2) (tab := tX1_act) (cal := kX1 d) zX1_act 349 (0, [some (.ref 0), some (.int a1), some (.int a2), some (.long a3), none, some (.long a5), none, none, none, none, none], [], x)).trans rfl
set_option maxRecDepth 100000 in
set_option maxHeartbeats 4000000 in
theorem bX1_act_12 (d : Nat) (a1 : Int32) (a2 : Int32) (a3 : Int64) (a5 : Int64) (x : mj_X) : rX1_act d (12, [some (.ref 0), some (.int a1), some (.int a2), some (.long a3), none, some (.long a5), none, none, none, none, none], [], x) = 
  if (2 : Int32) < a2 then rX1_act d (31, [some (.ref 0), some (.int a1), some (.int a2), some (.long a3), none, some (.long a5), none, none, none, none, none], [], x)
  else 
   if (lg_cmp a5 (0 : Int64)) = 0 then some (some (.long (0 : Int64)), (mj_wI x 0 79 (1 : Int32)))
   else rX1_act d (31, [some (.ref 0), some (.int a1), some (.int a2), some (.long a3), none, some (.long a5), none, none, none, none, none], [], x) := (mj_run_to (cd := cdX1) (rt := 2) (tab := tX1_act) (cal := kX1 d) zX1_act 349 (12, [some (.ref 0), some (.int a1), some (.int a2), some (.long a3), none, some (.long a5), none, none, none, none, none], [], x)).trans rfl
set_option maxRecDepth 100000 in
set_option maxHeartbeats 4000000 in
theorem bX1_act_31 (d : Nat) (a1 : Int32) (a2 : Int32) (a3 : Int64) (a5 : Int64) (x : mj_X) : rX1_act d (31, [some (.ref 0), some (.int a1), some (.int a2), some (.long a3), none, some (.long a5), none, none, none, none, none], [], x) = 
  if a2 = (1 : Int32) then 
   if a1 = (10 : Int32) then some (some (.long (a3.toInt32 + a5.toInt32).toInt64), x)
   else 
    if a1 = (11 : Int32) then some (some (.long (a3.toInt32 - a5.toInt32).toInt64), x)
    else 
     if a1 = (12 : Int32) then some (some (.long (a3.toInt32 * a5.toInt32).toInt64), x)
     else 
      if a1 = (13 : Int32) then mj_d32 a5.toInt32 (some (some (.long (a3.toInt32 / a5.toInt32).toInt64), x))
      else 
       if a1 = (14 : Int32) then mj_d32 a5.toInt32 (some (some (.long (a3.toInt32 - a3.toInt32 / a5.toInt32 * a5.toInt32).toInt64), x))
       else 
        if a1 = (15 : Int32) then some (some (.long (a3.toInt32 &&& a5.toInt32).toInt64), x)
        else 
         if a1 = (16 : Int32) then some (some (.long (a3.toInt32 ||| a5.toInt32).toInt64), x)
         else 
          if a1 = (17 : Int32) then some (some (.long (a3.toInt32 ^^^ a5.toInt32).toInt64), x)
          else 
           if a1 = (18 : Int32) then some (some (.long (a3.toInt32 <<< ((a5.toInt32 &&& (31 : Int32)) &&& 31)).toInt64), x)
           else 
            if a1 = (19 : Int32) then some (some (.long (a3.toInt32 >>> ((a5.toInt32 &&& (31 : Int32)) &&& 31)).toInt64), x)
            else some (some (.long (a3.toInt32.toUInt32 >>> ((a5.toInt32 &&& (31 : Int32)).toUInt32 &&& Int32.toUInt32 31)).toInt32.toInt64), x)
  else 
   if a2 = (2 : Int32) then 
    if a1 = (10 : Int32) then some (some (.long (a3 + a5)), x)
    else 
     if a1 = (11 : Int32) then some (some (.long (a3 - a5)), x)
     else 
      if a1 = (12 : Int32) then some (some (.long (a3 * a5)), x)
      else 
       if a1 = (13 : Int32) then mj_d64 a5 (some (some (.long (a3 / a5)), x))
       else 
        if a1 = (14 : Int32) then mj_d64 a5 (some (some (.long (a3 - a3 / a5 * a5)), x))
        else 
         if a1 = (15 : Int32) then some (some (.long (a3 &&& a5)), x)
         else 
          if a1 = (16 : Int32) then some (some (.long (a3 ||| a5)), x)
          else 
           if a1 = (17 : Int32) then some (some (.long (a3 ^^^ a5)), x)
           else 
            if a1 = (18 : Int32) then some (some (.long (a3 <<< ((a5 &&& (63 : Int64)).toInt32.toInt64 &&& 63))), x)
            else 
             if a1 = (19 : Int32) then some (some (.long (a3 >>> ((a5 &&& (63 : Int64)).toInt32.toInt64 &&& 63))), x)
             else some (some (.long (a3.toUInt64 >>> ((a5 &&& (63 : Int64)).toInt32.toInt64.toUInt64 &&& Int64.toUInt64 63)).toInt64), x)
   else 
    if a2 = (3 : Int32) then mj_rF (kX1 d 123 [.long a3] x) fun v2 x1 =>
     mj_rF (kX1 d 123 [.long a5] x1) fun v4 x3 =>
     
     if (Op.cmpValue (FP.fcmp v2 v2) .l) = 0 then 
      if (Op.cmpValue (FP.fcmp v4 v4) .l) = 0 then mj_n64 (FP.f2d v2) (mj_n64 (FP.f2d v4) (mj_rI (kX1 d 128 [.int (a1 - (10 : Int32)), .double (FP.f2d v2), .double (FP.f2d v4)] x3) fun v6 x5 =>
       
       if v6 = 0 then 
        if a1 = (10 : Int32) then mj_n32 (FP.fadd v2 v4) (mj_rL (kX1 d 125 [.float (FP.fadd v2 v4)] x5) fun v8 x7 =>
         some (some (.long v8), x7))
        else 
         if a1 = (11 : Int32) then mj_n32 (FP.fsub v2 v4) (mj_rL (kX1 d 125 [.float (FP.fsub v2 v4)] x5) fun v10 x9 =>
          some (some (.long v10), x9))
         else 
          if a1 = (12 : Int32) then mj_n32 (FP.fmul v2 v4) (mj_rL (kX1 d 125 [.float (FP.fmul v2 v4)] x5) fun v12 x11 =>
           some (some (.long v12), x11))
          else 
           if a1 = (13 : Int32) then mj_n32 (FP.fdiv v2 v4) (mj_rL (kX1 d 125 [.float (FP.fdiv v2 v4)] x5) fun v14 x13 =>
            some (some (.long v14), x13))
           else mj_n32 (FP.frem v2 v4) (mj_rL (kX1 d 125 [.float (FP.frem v2 v4)] x5) fun v16 x15 =>
            some (some (.long v16), x15))
       else some (some (.long (2143289344 : Int64)), x5)))
      else some (some (.long (2143289344 : Int64)), x3)
     else some (some (.long (2143289344 : Int64)), x3)
    else mj_rD (kX1 d 124 [.long a3] x) fun v18 x17 =>
     mj_rD (kX1 d 124 [.long a5] x17) fun v20 x19 =>
     
     if (Op.cmpValue (FP.dcmp v18 v18) .l) = 0 then 
      if (Op.cmpValue (FP.dcmp v20 v20) .l) = 0 then mj_rI (kX1 d 128 [.int (a1 - (10 : Int32)), .double v18, .double v20] x19) fun v22 x21 =>
       
       if v22 = 0 then 
        if a1 = (10 : Int32) then mj_n64 (FP.dadd v18 v20) (mj_rL (kX1 d 126 [.double (FP.dadd v18 v20)] x21) fun v24 x23 =>
         some (some (.long v24), x23))
        else 
         if a1 = (11 : Int32) then mj_n64 (FP.dsub v18 v20) (mj_rL (kX1 d 126 [.double (FP.dsub v18 v20)] x21) fun v26 x25 =>
          some (some (.long v26), x25))
         else 
          if a1 = (12 : Int32) then mj_n64 (FP.dmul v18 v20) (mj_rL (kX1 d 126 [.double (FP.dmul v18 v20)] x21) fun v28 x27 =>
           some (some (.long v28), x27))
          else 
           if a1 = (13 : Int32) then mj_n64 (FP.ddiv v18 v20) (mj_rL (kX1 d 126 [.double (FP.ddiv v18 v20)] x21) fun v30 x29 =>
            some (some (.long v30), x29))
           else mj_n64 (FP.drem v18 v20) (mj_rL (kX1 d 126 [.double (FP.drem v18 v20)] x21) fun v32 x31 =>
            some (some (.long v32), x31))
       else some (some (.long (9221120237041090560 : Int64)), x21)
      else some (some (.long (9221120237041090560 : Int64)), x19)
     else some (some (.long (9221120237041090560 : Int64)), x19) := (mj_run_to (cd := cdX1) (rt := 2) (tab := tX1_act) (cal := kX1 d) zX1_act 349 (31, [some (.ref 0), some (.int a1), some (.int a2), some (.long a3), none, some (.long a5), none, none, none, none, none], [], x)).trans rfl
noncomputable abbrev rX1_hasNone (d : Nat) : mj_S → mj_R := mj_run cdX1 5 tX1_hasNone (kX1 d)
def zX1_hasNone (p : Nat) : Bool := bif Nat.blt p 162 then (bif Nat.blt p 101 then (bif Nat.blt p 44 then (bif Nat.beq p 21 then true else false) else (bif Nat.blt p 80 then (bif Nat.beq p 44 then true else false) else (bif Nat.beq p 80 then true else false))) else (bif Nat.blt p 121 then (bif Nat.beq p 101 then true else false) else (bif Nat.blt p 142 then (bif Nat.beq p 121 then true else false) else (bif Nat.beq p 142 then true else false)))) else (bif Nat.blt p 200 then (bif Nat.blt p 173 then (bif Nat.beq p 162 then true else false) else (bif Nat.blt p 190 then (bif Nat.beq p 173 then true else false) else (bif Nat.beq p 190 then true else false))) else (bif Nat.blt p 218 then (bif Nat.beq p 200 then true else false) else (bif Nat.blt p 235 then (bif Nat.beq p 218 then true else false) else (bif Nat.beq p 235 then true else false))))
set_option maxRecDepth 100000 in
set_option maxHeartbeats 4000000 in
theorem eX1_hasNone (d : Nat) (a0 : Int32) (a1 : UInt64) (a3 : UInt64) (x : mj_X) : kX1 (d + 1) 128 [.int a0, .double a1, .double a3] x = 
  if 0 < (Op.cmpValue (FP.dcmp a1 (9218868437227405311 : UInt64)) .l) then rX1_hasNone d (21, [some (.int a0), some (.double a1), none, some (.double a3), none, none, none], [.int (1 : Int32)], x)
  else 
   if 0 ≤ (Op.cmpValue (FP.dcmp a1 (18442240474082181119 : UInt64)) .g) then rX1_hasNone d (21, [some (.int a0), some (.double a1), none, some (.double a3), none, none, none], [.int (0 : Int32)], x)
   else rX1_hasNone d (21, [some (.int a0), some (.double a1), none, some (.double a3), none, none, none], [.int (1 : Int32)], x) := (mj_run_to (cd := cdX1) (rt := 5) (tab := tX1_hasNone) (cal := kX1 d) zX1_hasNone 21 (0, [some (.int a0), some (.double a1), none, some (.double a3), none, none, none], [], x)).trans rfl
set_option maxRecDepth 100000 in
set_option maxHeartbeats 4000000 in
theorem bX1_hasNone_21 (d : Nat) (a0 : Int32) (a1 : UInt64) (a3 : UInt64) (s0 : Int32) (x : mj_X) : rX1_hasNone d (21, [some (.int a0), some (.double a1), none, some (.double a3), none, none, none], [.int s0], x) = 
  if 0 < (Op.cmpValue (FP.dcmp a3 (9218868437227405311 : UInt64)) .l) then rX1_hasNone d (44, [some (.int a0), some (.double a1), none, some (.double a3), none, some (.int s0), none], [.int (1 : Int32)], x)
  else 
   if 0 ≤ (Op.cmpValue (FP.dcmp a3 (18442240474082181119 : UInt64)) .g) then rX1_hasNone d (44, [some (.int a0), some (.double a1), none, some (.double a3), none, some (.int s0), none], [.int (0 : Int32)], x)
   else rX1_hasNone d (44, [some (.int a0), some (.double a1), none, some (.double a3), none, some (.int s0), none], [.int (1 : Int32)], x) := (mj_run_to (cd := cdX1) (rt := 5) (tab := tX1_hasNone) (cal := kX1 d) zX1_hasNone 21 (21, [some (.int a0), some (.double a1), none, some (.double a3), none, none, none], [.int s0], x)).trans rfl
set_option maxRecDepth 100000 in
set_option maxHeartbeats 4000000 in
theorem bX1_hasNone_44 (d : Nat) (a0 : Int32) (a1 : UInt64) (a3 : UInt64) (a5 : Int32) (s0 : Int32) (x : mj_X) : rX1_hasNone d (44, [some (.int a0), some (.double a1), none, some (.double a3), none, some (.int a5), none], [.int s0], x) = mj_sw a0 0 (188) [33, 74, 115, 143, 171] fun off => mj_j 47 off fun t => rX1_hasNone d (t, [some (.int a0), some (.double a1), none, some (.double a3), none, some (.int a5), some (.int s0)], [], x) := (mj_run_to (cd := cdX1) (rt := 5) (tab := tX1_hasNone) (cal := kX1 d) zX1_hasNone 21 (44, [some (.int a0), some (.double a1), none, some (.double a3), none, some (.int a5), none], [.int s0], x)).trans rfl
set_option maxRecDepth 100000 in
set_option maxHeartbeats 4000000 in
theorem bX1_hasNone_80 (d : Nat) (a0 : Int32) (a1 : UInt64) (a3 : UInt64) (a5 : Int32) (a6 : Int32) (x : mj_X) : rX1_hasNone d (80, [some (.int a0), some (.double a1), none, some (.double a3), none, some (.int a5), some (.int a6)], [], x) = 
  if a5 = 0 then some (some (.int (0 : Int32)), x)
  else 
   if a6 = 0 then some (some (.int (0 : Int32)), x)
   else 
    if (Op.cmpValue (FP.dcmp a1 FP.dconst0) .l) ≤ 0 then rX1_hasNone d (101, [some (.int a0), some (.double a1), none, some (.double a3), none, some (.int a5), some (.int a6)], [.int (0 : Int32)], x)
    else rX1_hasNone d (101, [some (.int a0), some (.double a1), none, some (.double a3), none, some (.int a5), some (.int a6)], [.int (1 : Int32)], x) := (mj_run_to (cd := cdX1) (rt := 5) (tab := tX1_hasNone) (cal := kX1 d) zX1_hasNone 21 (80, [some (.int a0), some (.double a1), none, some (.double a3), none, some (.int a5), some (.int a6)], [], x)).trans rfl
set_option maxRecDepth 100000 in
set_option maxHeartbeats 4000000 in
theorem bX1_hasNone_101 (d : Nat) (a0 : Int32) (a1 : UInt64) (a3 : UInt64) (a5 : Int32) (a6 : Int32) (s0 : Int32) (x : mj_X) : rX1_hasNone d (101, [some (.int a0), some (.double a1), none, some (.double a3), none, some (.int a5), some (.int a6)], [.int s0], x) = 
  if (Op.cmpValue (FP.dcmp a3 FP.dconst0) .l) ≤ 0 then 
   if s0 = (0 : Int32) then some (some (.int (0 : Int32)), x)
   else some (some (.int (1 : Int32)), x)
  else 
   if s0 = (1 : Int32) then some (some (.int (0 : Int32)), x)
   else some (some (.int (1 : Int32)), x) := (mj_run_to (cd := cdX1) (rt := 5) (tab := tX1_hasNone) (cal := kX1 d) zX1_hasNone 21 (101, [some (.int a0), some (.double a1), none, some (.double a3), none, some (.int a5), some (.int a6)], [.int s0], x)).trans rfl
set_option maxRecDepth 100000 in
set_option maxHeartbeats 4000000 in
theorem bX1_hasNone_121 (d : Nat) (a0 : Int32) (a1 : UInt64) (a3 : UInt64) (a5 : Int32) (a6 : Int32) (x : mj_X) : rX1_hasNone d (121, [some (.int a0), some (.double a1), none, some (.double a3), none, some (.int a5), some (.int a6)], [], x) = 
  if a5 = 0 then some (some (.int (0 : Int32)), x)
  else 
   if a6 = 0 then some (some (.int (0 : Int32)), x)
   else 
    if (Op.cmpValue (FP.dcmp a1 FP.dconst0) .l) ≤ 0 then rX1_hasNone d (142, [some (.int a0), some (.double a1), none, some (.double a3), none, some (.int a5), some (.int a6)], [.int (0 : Int32)], x)
    else rX1_hasNone d (142, [some (.int a0), some (.double a1), none, some (.double a3), none, some (.int a5), some (.int a6)], [.int (1 : Int32)], x) := (mj_run_to (cd := cdX1) (rt := 5) (tab := tX1_hasNone) (cal := kX1 d) zX1_hasNone 21 (121, [some (.int a0), some (.double a1), none, some (.double a3), none, some (.int a5), some (.int a6)], [], x)).trans rfl
set_option maxRecDepth 100000 in
set_option maxHeartbeats 4000000 in
theorem bX1_hasNone_142 (d : Nat) (a0 : Int32) (a1 : UInt64) (a3 : UInt64) (a5 : Int32) (a6 : Int32) (s0 : Int32) (x : mj_X) : rX1_hasNone d (142, [some (.int a0), some (.double a1), none, some (.double a3), none, some (.int a5), some (.int a6)], [.int s0], x) = 
  if (Op.cmpValue (FP.dcmp a3 FP.dconst0) .l) ≤ 0 then 
   if s0 = (0 : Int32) then some (some (.int (1 : Int32)), x)
   else some (some (.int (0 : Int32)), x)
  else 
   if s0 = (1 : Int32) then some (some (.int (1 : Int32)), x)
   else some (some (.int (0 : Int32)), x) := (mj_run_to (cd := cdX1) (rt := 5) (tab := tX1_hasNone) (cal := kX1 d) zX1_hasNone 21 (142, [some (.int a0), some (.double a1), none, some (.double a3), none, some (.int a5), some (.int a6)], [.int s0], x)).trans rfl
set_option maxRecDepth 100000 in
set_option maxHeartbeats 4000000 in
theorem bX1_hasNone_162 (d : Nat) (a0 : Int32) (a1 : UInt64) (a3 : UInt64) (a5 : Int32) (a6 : Int32) (x : mj_X) : rX1_hasNone d (162, [some (.int a0), some (.double a1), none, some (.double a3), none, some (.int a5), some (.int a6)], [], x) = 
  if a5 = 0 then rX1_hasNone d (173, [some (.int a0), some (.double a1), none, some (.double a3), none, some (.int a5), some (.int a6)], [], x)
  else 
   if (Op.cmpValue (FP.dcmp a3 FP.dconst0) .l) = 0 then some (some (.int (1 : Int32)), x)
   else rX1_hasNone d (173, [some (.int a0), some (.double a1), none, some (.double a3), none, some (.int a5), some (.int a6)], [], x) := (mj_run_to (cd := cdX1) (rt := 5) (tab := tX1_hasNone) (cal := kX1 d) zX1_hasNone 21 (162, [some (.int a0), some (.double a1), none, some (.double a3), none, some (.int a5), some (.int a6)], [], x)).trans rfl
set_option maxRecDepth 100000 in
set_option maxHeartbeats 4000000 in
theorem bX1_hasNone_173 (d : Nat) (a0 : Int32) (a1 : UInt64) (a3 : UInt64) (a5 : Int32) (a6 : Int32) (x : mj_X) : rX1_hasNone d (173, [some (.int a0), some (.double a1), none, some (.double a3), none, some (.int a5), some (.int a6)], [], x) = 
  if (Op.cmpValue (FP.dcmp a1 FP.dconst0) .l) = 0 then 
   if a6 = 0 then some (some (.int (0 : Int32)), x)
   else some (some (.int (1 : Int32)), x)
  else some (some (.int (0 : Int32)), x) := (mj_run_to (cd := cdX1) (rt := 5) (tab := tX1_hasNone) (cal := kX1 d) zX1_hasNone 21 (173, [some (.int a0), some (.double a1), none, some (.double a3), none, some (.int a5), some (.int a6)], [], x)).trans rfl
set_option maxRecDepth 100000 in
set_option maxHeartbeats 4000000 in
theorem bX1_hasNone_190 (d : Nat) (a0 : Int32) (a1 : UInt64) (a3 : UInt64) (a5 : Int32) (a6 : Int32) (x : mj_X) : rX1_hasNone d (190, [some (.int a0), some (.double a1), none, some (.double a3), none, some (.int a5), some (.int a6)], [], x) = 
  if a5 = 0 then rX1_hasNone d (200, [some (.int a0), some (.double a1), none, some (.double a3), none, some (.int a5), some (.int a6)], [], x)
  else 
   if a6 = 0 then rX1_hasNone d (200, [some (.int a0), some (.double a1), none, some (.double a3), none, some (.int a5), some (.int a6)], [], x)
   else some (some (.int (1 : Int32)), x) := (mj_run_to (cd := cdX1) (rt := 5) (tab := tX1_hasNone) (cal := kX1 d) zX1_hasNone 21 (190, [some (.int a0), some (.double a1), none, some (.double a3), none, some (.int a5), some (.int a6)], [], x)).trans rfl
set_option maxRecDepth 100000 in
set_option maxHeartbeats 4000000 in
theorem bX1_hasNone_200 (d : Nat) (a0 : Int32) (a1 : UInt64) (a3 : UInt64) (a5 : Int32) (a6 : Int32) (x : mj_X) : rX1_hasNone d (200, [some (.int a0), some (.double a1), none, some (.double a3), none, some (.int a5), some (.int a6)], [], x) = 
  if (Op.cmpValue (FP.dcmp a1 FP.dconst0) .l) = 0 then 
   if (Op.cmpValue (FP.dcmp a3 FP.dconst0) .l) = 0 then some (some (.int (1 : Int32)), x)
   else some (some (.int (0 : Int32)), x)
  else some (some (.int (0 : Int32)), x) := (mj_run_to (cd := cdX1) (rt := 5) (tab := tX1_hasNone) (cal := kX1 d) zX1_hasNone 21 (200, [some (.int a0), some (.double a1), none, some (.double a3), none, some (.int a5), some (.int a6)], [], x)).trans rfl
set_option maxRecDepth 100000 in
set_option maxHeartbeats 4000000 in
theorem bX1_hasNone_218 (d : Nat) (a0 : Int32) (a1 : UInt64) (a3 : UInt64) (a5 : Int32) (a6 : Int32) (x : mj_X) : rX1_hasNone d (218, [some (.int a0), some (.double a1), none, some (.double a3), none, some (.int a5), some (.int a6)], [], x) = 
  if a5 = 0 then 
   if (Op.cmpValue (FP.dcmp a3 FP.dconst0) .l) = 0 then some (some (.int (1 : Int32)), x)
   else some (some (.int (0 : Int32)), x)
  else some (some (.int (1 : Int32)), x) := (mj_run_to (cd := cdX1) (rt := 5) (tab := tX1_hasNone) (cal := kX1 d) zX1_hasNone 21 (218, [some (.int a0), some (.double a1), none, some (.double a3), none, some (.int a5), some (.int a6)], [], x)).trans rfl
set_option maxRecDepth 100000 in
set_option maxHeartbeats 4000000 in
theorem bX1_hasNone_235 (d : Nat) (a0 : Int32) (a1 : UInt64) (a3 : UInt64) (a5 : Int32) (a6 : Int32) (x : mj_X) : rX1_hasNone d (235, [some (.int a0), some (.double a1), none, some (.double a3), none, some (.int a5), some (.int a6)], [], x) = some (some (.int (0 : Int32)), x) := (mj_run_to (cd := cdX1) (rt := 5) (tab := tX1_hasNone) (cal := kX1 d) zX1_hasNone 21 (235, [some (.int a0), some (.double a1), none, some (.double a3), none, some (.int a5), some (.int a6)], [], x)).trans rfl
noncomputable abbrev rX1_converted (d : Nat) : mj_S → mj_R := mj_run cdX1 2 tX1_converted (kX1 d)
def zX1_converted (p : Nat) : Bool := bif Nat.blt p 66 then (bif Nat.blt p 25 then (bif Nat.beq p 10 then true else false) else (bif Nat.beq p 25 then true else false)) else (bif Nat.blt p 137 then (bif Nat.beq p 66 then true else false) else (bif Nat.blt p 205 then (bif Nat.beq p 137 then true else false) else (bif Nat.beq p 205 then true else false)))
set_option maxRecDepth 100000 in
set_option maxHeartbeats 4000000 in
theorem eX1_converted (d : Nat) (a0 : Int32) (a1 : Int32) (a2 : Int64) (x : mj_X) : kX1 (d + 1) 130 [.int a0, .int a1, .long a2] x = 
  if a1 ≤ (4 : Int32) then rX1_converted d (10, [some (.int a0), some (.int a1), some (.long a2), none, none, none, none, none, none], [.int a1], x)
  else rX1_converted d (10, [some (.int a0), some (.int a1), some (.long a2), none, none, none, none, none, none], [.int (1 : Int32)], x) := (mj_run_to (cd := cdX1) (rt := 2) (tab := tX1_converted) (cal := kX1 d) zX1_converted 91 (0, [some (.int a0), some (.int a1), some (.long a2), none, none, none, none, none, none], [], x)).trans rfl
set_option maxRecDepth 100000 in
set_option maxHeartbeats 4000000 in
theorem bX1_converted_10 (d : Nat) (a0 : Int32) (a1 : Int32) (a2 : Int64) (s0 : Int32) (x : mj_X) : rX1_converted d (10, [some (.int a0), some (.int a1), some (.long a2), none, none, none, none, none, none], [.int s0], x) = 
  if a0 = (1 : Int32) then rX1_converted d (25, [some (.int a0), some (.int a1), some (.long a2), none, some (.int s0), some (.long a2), none, none, none], [], x)
  else 
   if a0 = (2 : Int32) then rX1_converted d (25, [some (.int a0), some (.int a1), some (.long a2), none, some (.int s0), some (.long a2), none, none, none], [], x)
   else 
    if a0 = (3 : Int32) then mj_rF (kX1 d 123 [.long a2] x) fun v2 x1 =>
     
     if s0 = (1 : Int32) then rX1_converted d (137, [some (.int a0), some (.int a1), some (.long a2), none, some (.int s0), some (.long a2), none, some (.float v2), none], [.long (FP.f2i v2).toInt64], x1)
     else 
      if s0 = (2 : Int32) then rX1_converted d (137, [some (.int a0), some (.int a1), some (.long a2), none, some (.int s0), some (.long a2), none, some (.float v2), none], [.long (FP.f2l v2)], x1)
      else 
       if s0 = (3 : Int32) then rX1_converted d (137, [some (.int a0), some (.int a1), some (.long a2), none, some (.int s0), some (.long a2), none, some (.float v2), none], [.long a2], x1)
       else 
        if (Op.cmpValue (FP.fcmp v2 v2) .l) = 0 then mj_n64 (FP.f2d v2) (mj_rL (kX1 d 126 [.double (FP.f2d v2)] x1) fun v4 x3 =>
         rX1_converted d (137, [some (.int a0), some (.int a1), some (.long a2), none, some (.int s0), some (.long a2), none, some (.float v2), none], [.long v4], x3))
        else rX1_converted d (137, [some (.int a0), some (.int a1), some (.long a2), none, some (.int s0), some (.long a2), none, some (.float v2), none], [.long (9221120237041090560 : Int64)], x1)
    else mj_rD (kX1 d 124 [.long a2] x) fun v6 x5 =>
     
     if s0 = (1 : Int32) then rX1_converted d (205, [some (.int a0), some (.int a1), some (.long a2), none, some (.int s0), some (.long (FP.d2i v6).toInt64), none, some (.double v6), none], [], x5)
     else 
      if s0 = (2 : Int32) then rX1_converted d (205, [some (.int a0), some (.int a1), some (.long a2), none, some (.int s0), some (.long (FP.d2l v6)), none, some (.double v6), none], [], x5)
      else 
       if s0 = (3 : Int32) then 
        if (Op.cmpValue (FP.dcmp v6 v6) .l) = 0 then mj_n32 (FP.d2f v6) (mj_rL (kX1 d 125 [.float (FP.d2f v6)] x5) fun v8 x7 =>
         rX1_converted d (205, [some (.int a0), some (.int a1), some (.long a2), none, some (.int s0), some (.long v8), none, some (.double v6), none], [], x7))
        else rX1_converted d (205, [some (.int a0), some (.int a1), some (.long a2), none, some (.int s0), some (.long (2143289344 : Int64)), none, some (.double v6), none], [], x5)
       else rX1_converted d (205, [some (.int a0), some (.int a1), some (.long a2), none, some (.int s0), some (.long a2), none, some (.double v6), none], [], x5) := (mj_run_to (cd := cdX1) (rt := 2) (tab := tX1_converted) (cal := kX1 d) zX1_converted 91 (10, [some (.int a0), some (.int a1), some (.long a2), none, none, none, none, none, none], [.int s0], x)).trans rfl
set_option maxRecDepth 100000 in
set_option maxHeartbeats 4000000 in
theorem bX1_converted_25 (d : Nat) (a0 : Int32) (a1 : Int32) (a2 : Int64) (a4 : Int32) (a5 : Int64) (x : mj_X) : rX1_converted d (25, [some (.int a0), some (.int a1), some (.long a2), none, some (.int a4), some (.long a5), none, none, none], [], x) = 
  if a4 = (1 : Int32) then rX1_converted d (66, [some (.int a0), some (.int a1), some (.long a2), none, some (.int a4), some (.long a5), none, none, none], [.long a2.toInt32.toInt64], x)
  else 
   if a4 = (2 : Int32) then rX1_converted d (66, [some (.int a0), some (.int a1), some (.long a2), none, some (.int a4), some (.long a5), none, none, none], [.long a2], x)
   else 
    if a4 = (3 : Int32) then mj_rL (kX1 d 125 [.float (FP.l2f a2)] x) fun v2 x1 =>
     rX1_converted d (66, [some (.int a0), some (.int a1), some (.long a2), none, some (.int a4), some (.long a5), none, none, none], [.long v2], x1)
    else mj_rL (kX1 d 126 [.double (FP.l2d a2)] x) fun v4 x3 =>
     rX1_converted d (66, [some (.int a0), some (.int a1), some (.long a2), none, some (.int a4), some (.long a5), none, none, none], [.long v4], x3) := (mj_run_to (cd := cdX1) (rt := 2) (tab := tX1_converted) (cal := kX1 d) zX1_converted 91 (25, [some (.int a0), some (.int a1), some (.long a2), none, some (.int a4), some (.long a5), none, none, none], [], x)).trans rfl
set_option maxRecDepth 100000 in
set_option maxHeartbeats 4000000 in
theorem bX1_converted_66 (d : Nat) (a0 : Int32) (a1 : Int32) (a2 : Int64) (a4 : Int32) (a5 : Int64) (s0 : Int64) (x : mj_X) : rX1_converted d (66, [some (.int a0), some (.int a1), some (.long a2), none, some (.int a4), some (.long a5), none, none, none], [.long s0], x) = rX1_converted d (205, [some (.int a0), some (.int a1), some (.long a2), none, some (.int a4), some (.long s0), none, none, none], [], x) := (mj_run_to (cd := cdX1) (rt := 2) (tab := tX1_converted) (cal := kX1 d) zX1_converted 91 (66, [some (.int a0), some (.int a1), some (.long a2), none, some (.int a4), some (.long a5), none, none, none], [.long s0], x)).trans rfl
set_option maxRecDepth 100000 in
set_option maxHeartbeats 4000000 in
theorem bX1_converted_137 (d : Nat) (a0 : Int32) (a1 : Int32) (a2 : Int64) (a4 : Int32) (a5 : Int64) (a7 : UInt32) (s0 : Int64) (x : mj_X) : rX1_converted d (137, [some (.int a0), some (.int a1), some (.long a2), none, some (.int a4), some (.long a5), none, some (.float a7), none], [.long s0], x) = rX1_converted d (205, [some (.int a0), some (.int a1), some (.long a2), none, some (.int a4), some (.long s0), none, some (.float a7), none], [], x) := (mj_run_to (cd := cdX1) (rt := 2) (tab := tX1_converted) (cal := kX1 d) zX1_converted 91 (137, [some (.int a0), some (.int a1), some (.long a2), none, some (.int a4), some (.long a5), none, some (.float a7), none], [.long s0], x)).trans rfl
set_option maxRecDepth 100000 in
set_option maxHeartbeats 4000000 in
theorem bX1_converted_205 (d : Nat) (a0 : Int32) (a1 : Int32) (a2 : Int64) (a4 : Int32) (a5 : Int64) (o7 : Option Value) (x : mj_X) : rX1_converted d (205, [some (.int a0), some (.int a1), some (.long a2), none, some (.int a4), some (.long a5), none, o7, none], [], x) = 
  if a1 = (9 : Int32) then some (some (.long a5.toInt32.toInt8.toInt32.toInt64), x)
  else 
   if a1 = (10 : Int32) then some (some (.long (a5.toInt32.toUInt32 % 65536).toInt32.toInt64), x)
   else 
    if a1 = (11 : Int32) then some (some (.long a5.toInt32.toInt16.toInt32.toInt64), x)
    else some (some (.long a5), x) := (mj_run_to (cd := cdX1) (rt := 2) (tab := tX1_converted) (cal := kX1 d) zX1_converted 91 (205, [some (.int a0), some (.int a1), some (.long a2), none, some (.int a4), some (.long a5), none, o7, none], [], x)).trans rfl
noncomputable abbrev rX1_against (d : Nat) : mj_S → mj_R := mj_run cdX1 1 tX1_against (kX1 d)
def zX1_against (p : Nat) : Bool := false
set_option maxRecDepth 100000 in
set_option maxHeartbeats 4000000 in
theorem eX1_against (d : Nat) (a0 : Int32) (a1 : Int64) (a3 : Int64) (a5 : Int32) (x : mj_X) : kX1 (d + 1) 131 [.int a0, .long a1, .long a3, .int a5] x = 
  if (2 : Int32) < a0 then 
   if a0 = (3 : Int32) then mj_rF (kX1 d 123 [.long a1] x) fun v2 x1 =>
    mj_rF (kX1 d 123 [.long a3] x1) fun v4 x3 =>
    
    if 0 ≤ (Op.cmpValue (FP.fcmp v2 v4) .g) then 
     if (Op.cmpValue (FP.fcmp v2 v4) .l) ≤ 0 then 
      if (Op.cmpValue (FP.fcmp v2 v4) .l) = 0 then some (some (.int (0 : Int32)), x3)
      else some (some (.int a5), x3)
     else some (some (.int (1 : Int32)), x3)
    else some (some (.int (-1 : Int32)), x3)
   else mj_rD (kX1 d 124 [.long a1] x) fun v6 x5 =>
    mj_rD (kX1 d 124 [.long a3] x5) fun v8 x7 =>
    
    if 0 ≤ (Op.cmpValue (FP.dcmp v6 v8) .g) then 
     if (Op.cmpValue (FP.dcmp v6 v8) .l) ≤ 0 then 
      if (Op.cmpValue (FP.dcmp v6 v8) .l) = 0 then some (some (.int (0 : Int32)), x7)
      else some (some (.int a5), x7)
     else some (some (.int (1 : Int32)), x7)
    else some (some (.int (-1 : Int32)), x7)
  else 
   if 0 ≤ (lg_cmp a1 a3) then 
    if (lg_cmp a1 a3) ≤ 0 then some (some (.int (0 : Int32)), x)
    else some (some (.int (1 : Int32)), x)
   else some (some (.int (-1 : Int32)), x) := (mj_run_to (cd := cdX1) (rt := 1) (tab := tX1_against) (cal := kX1 d) zX1_against 82 (0, [some (.int a0), some (.long a1), none, some (.long a3), none, some (.int a5), none, none, none, none], [], x)).trans rfl
noncomputable abbrev rX1_holds (d : Nat) : mj_S → mj_R := mj_run cdX1 5 tX1_holds (kX1 d)
def zX1_holds (p : Nat) : Bool := bif Nat.blt p 66 then (bif Nat.blt p 46 then (bif Nat.beq p 36 then true else false) else (bif Nat.blt p 56 then (bif Nat.beq p 46 then true else false) else (bif Nat.beq p 56 then true else false))) else (bif Nat.blt p 76 then (bif Nat.beq p 66 then true else false) else (bif Nat.blt p 86 then (bif Nat.beq p 76 then true else false) else (bif Nat.beq p 86 then true else false)))
set_option maxRecDepth 100000 in
set_option maxHeartbeats 4000000 in
theorem eX1_holds (d : Nat) (a0 : Int32) (a1 : Int32) (x : mj_X) : kX1 (d + 1) 132 [.int a0, .int a1] x = mj_sw a0 23 (85) [35, 45, 55, 65, 75] fun off => mj_j 1 off fun t => rX1_holds d (t, [some (.int a0), some (.int a1)], [], x) := (mj_run_to (cd := cdX1) (rt := 5) (tab := tX1_holds) (cal := kX1 d) zX1_holds 10 (0, [some (.int a0), some (.int a1)], [], x)).trans rfl
set_option maxRecDepth 100000 in
set_option maxHeartbeats 4000000 in
theorem bX1_holds_36 (d : Nat) (a0 : Int32) (a1 : Int32) (x : mj_X) : rX1_holds d (36, [some (.int a0), some (.int a1)], [], x) = 
  if a1 = 0 then some (some (.int (1 : Int32)), x)
  else some (some (.int (0 : Int32)), x) := (mj_run_to (cd := cdX1) (rt := 5) (tab := tX1_holds) (cal := kX1 d) zX1_holds 10 (36, [some (.int a0), some (.int a1)], [], x)).trans rfl
set_option maxRecDepth 100000 in
set_option maxHeartbeats 4000000 in
theorem bX1_holds_46 (d : Nat) (a0 : Int32) (a1 : Int32) (x : mj_X) : rX1_holds d (46, [some (.int a0), some (.int a1)], [], x) = 
  if a1 = 0 then some (some (.int (0 : Int32)), x)
  else some (some (.int (1 : Int32)), x) := (mj_run_to (cd := cdX1) (rt := 5) (tab := tX1_holds) (cal := kX1 d) zX1_holds 10 (46, [some (.int a0), some (.int a1)], [], x)).trans rfl
set_option maxRecDepth 100000 in
set_option maxHeartbeats 4000000 in
theorem bX1_holds_56 (d : Nat) (a0 : Int32) (a1 : Int32) (x : mj_X) : rX1_holds d (56, [some (.int a0), some (.int a1)], [], x) = 
  if 0 ≤ a1 then some (some (.int (0 : Int32)), x)
  else some (some (.int (1 : Int32)), x) := (mj_run_to (cd := cdX1) (rt := 5) (tab := tX1_holds) (cal := kX1 d) zX1_holds 10 (56, [some (.int a0), some (.int a1)], [], x)).trans rfl
set_option maxRecDepth 100000 in
set_option maxHeartbeats 4000000 in
theorem bX1_holds_66 (d : Nat) (a0 : Int32) (a1 : Int32) (x : mj_X) : rX1_holds d (66, [some (.int a0), some (.int a1)], [], x) = 
  if a1 < 0 then some (some (.int (0 : Int32)), x)
  else some (some (.int (1 : Int32)), x) := (mj_run_to (cd := cdX1) (rt := 5) (tab := tX1_holds) (cal := kX1 d) zX1_holds 10 (66, [some (.int a0), some (.int a1)], [], x)).trans rfl
set_option maxRecDepth 100000 in
set_option maxHeartbeats 4000000 in
theorem bX1_holds_76 (d : Nat) (a0 : Int32) (a1 : Int32) (x : mj_X) : rX1_holds d (76, [some (.int a0), some (.int a1)], [], x) = 
  if a1 ≤ 0 then some (some (.int (0 : Int32)), x)
  else some (some (.int (1 : Int32)), x) := (mj_run_to (cd := cdX1) (rt := 5) (tab := tX1_holds) (cal := kX1 d) zX1_holds 10 (76, [some (.int a0), some (.int a1)], [], x)).trans rfl
set_option maxRecDepth 100000 in
set_option maxHeartbeats 4000000 in
theorem bX1_holds_86 (d : Nat) (a0 : Int32) (a1 : Int32) (x : mj_X) : rX1_holds d (86, [some (.int a0), some (.int a1)], [], x) = 
  if 0 < a1 then some (some (.int (0 : Int32)), x)
  else some (some (.int (1 : Int32)), x) := (mj_run_to (cd := cdX1) (rt := 5) (tab := tX1_holds) (cal := kX1 d) zX1_holds 10 (86, [some (.int a0), some (.int a1)], [], x)).trans rfl
