noncomputable abbrev rX0_machine (d : Nat) : mj_S → mj_R := mj_run cdX0 1 tX0_machine (kX0 d)
def zX0_machine (p : Nat) : Bool := bif Nat.blt p 145 then (bif Nat.beq p 36 then true else false) else (bif Nat.beq p 145 then true else false)
set_option maxRecDepth 100000 in
set_option maxHeartbeats 4000000 in
theorem eX0_machine (d : Nat) (a1 : Int32) (x : mj_X) : kX0 (d + 1) 149 [.ref 0, .int a1] x = mj_g (0 : Int32) 11 (mj_g (0 : Int32) 11 (mj_g a1 40 (rX0_machine d (36, [some (.ref 0), some (.int a1), some (.int (0 : Int32))], [], (mj_wL (mj_wI (mj_wI (mj_wI (mj_wI x 0 83 (0 : Int32)) 90 (0 : Int32).toNatClampNeg a1) 91 (0 : Int32).toNatClampNeg (0 : Int32)) 0 92 (x.1 14 a1.toNatClampNeg)) 0 96 (0 : Int64)))))) := (mj_run_to (cd := cdX0) (rt := 1) (tab := tX0_machine) (cal := kX0 d) zX0_machine 64 (0, [some (.ref 0), some (.int a1), none], [], x)).trans rfl
set_option maxRecDepth 100000 in
set_option maxHeartbeats 4000000 in
theorem bX0_machine_36 (d : Nat) (a1 : Int32) (a2 : Int32) (x : mj_X) : rX0_machine d (36, [some (.ref 0), some (.int a1), some (.int a2)], [], x) = mj_rI (kX0 d 126 [.ref 0] x) fun v2 x1 =>
  
  if v2 = 0 then some (some (.int (3 : Int32)), x1)
  else mj_g (x1.1 0 83) 11 (mj_g (x1.1 90 (x1.1 0 83).toNatClampNeg) 41 (mj_g (x1.1 0 83) 11 (mj_rI (kX0 d 101 [.ref 0, .int ((x1.1 12 (x1.1 90 (x1.1 0 83).toNatClampNeg).toNatClampNeg) + a2)] (mj_wI (mj_wI (mj_wI (mj_wI x1 0 94 (x1.1 12 (x1.1 90 (x1.1 0 83).toNatClampNeg).toNatClampNeg)) 0 95 a2) 92 (x1.1 0 83).toNatClampNeg a2) 0 93 (-1 : Int32))) fun v4 x3 =>
   mj_rV (kX0 d 150 [.ref 0, .int v4, .int ((x3.1 0 94) + (x3.1 0 95))] x3) fun x5 =>
   
   if (x5.1 0 78) = 0 then 
    if (x5.1 0 93) = (-2 : Int32) then some (some (.int (1 : Int32)), x5)
    else rX0_machine d (145, [some (.ref 0), some (.int a1), some (.int a2)], [], x5)
   else mj_rI (kX0 d 166 [.ref 0] x5) fun v7 x6 =>
    
    if v7 = (-1 : Int32) then some (some (.int (2 : Int32)), (mj_wI x6 0 93 v7))
    else rX0_machine d (145, [some (.ref 0), some (.int a1), some (.int a2)], [], (mj_wI x6 0 93 v7))))) := (mj_run_to (cd := cdX0) (rt := 1) (tab := tX0_machine) (cal := kX0 d) zX0_machine 64 (36, [some (.ref 0), some (.int a1), some (.int a2)], [], x)).trans rfl
set_option maxRecDepth 100000 in
set_option maxHeartbeats 4000000 in
theorem bX0_machine_145 (d : Nat) (a1 : Int32) (a2 : Int32) (x : mj_X) : rX0_machine d (145, [some (.ref 0), some (.int a1), some (.int a2)], [], x) = 
  if (x.1 0 93) = (-1 : Int32) then mj_rI (kX0 d 110 [.ref 0, .int ((x.1 0 94) + (x.1 0 95))] x) fun v2 x1 =>
   rX0_machine d (36, [some (.ref 0), some (.int a1), some (.int ((x.1 0 95) + v2))], [], x1)
  else rX0_machine d (36, [some (.ref 0), some (.int a1), some (.int (x.1 0 93))], [], x) := (mj_run_to (cd := cdX0) (rt := 1) (tab := tX0_machine) (cal := kX0 d) zX0_machine 64 (145, [some (.ref 0), some (.int a1), some (.int a2)], [], x)).trans rfl
noncomputable abbrev rX0_code1 (d : Nat) : mj_S → mj_R := mj_run cdX0 0 tX0_code1 (kX0 d)
def zX0_code1 (p : Nat) : Bool := bif Nat.blt p 276 then (bif Nat.blt p 183 then (bif Nat.beq p 159 then true else false) else (bif Nat.beq p 183 then true else false)) else (bif Nat.blt p 300 then (bif Nat.beq p 276 then true else false) else (bif Nat.beq p 300 then true else false))
set_option maxRecDepth 100000 in
set_option maxHeartbeats 4000000 in
theorem eX0_code1 (d : Nat) (a1 : Int32) (a2 : Int32) (x : mj_X) : kX0 (d + 1) 150 [.ref 0, .int a1, .int a2] x = mj_g (x.1 0 83) 11 (
  if a1 = (196 : Int32) then mj_rI (kX0 d 101 [.ref 0, .int (a2 + (1 : Int32))] x) fun v2 x1 =>
   mj_rI (kX0 d 105 [.ref 0, .int (a2 + (2 : Int32))] x1) fun v4 x3 =>
   
   if v2 = (132 : Int32) then mj_g ((x.1 91 (x.1 0 83).toNatClampNeg) + v4) 40000 (mj_rI (kX0 d 106 [.ref 0, .int (a2 + (4 : Int32))] x3) fun v6 x5 =>
    mj_g ((x.1 91 (x.1 0 83).toNatClampNeg) + v4) 40000 (some (none, (mj_wL x5 89 ((x.1 91 (x.1 0 83).toNatClampNeg) + v4).toNatClampNeg ((x3.2 89 ((x.1 91 (x.1 0 83).toNatClampNeg) + v4).toNatClampNeg) + v6.toInt64).toInt32.toInt64))))
   else 
    if (46 : Int32) ≤ v2 then mj_rV (kX0 d 154 [.ref 0, .int (v2 - (54 : Int32)), .int ((x.1 91 (x.1 0 83).toNatClampNeg) + v4)] x3) fun x7 =>
     some (none, x7)
    else mj_g ((x.1 91 (x.1 0 83).toNatClampNeg) + v4) 40000 (mj_rV (kX0 d 151 [.ref 0, .int (v2 - (21 : Int32)), .long (x3.2 89 ((x.1 91 (x.1 0 83).toNatClampNeg) + v4).toNatClampNeg)] x3) fun x8 =>
     some (none, x8))
  else 
   if (20 : Int32) < a1 then 
    if (46 : Int32) ≤ a1 then 
     if (54 : Int32) ≤ a1 then 
      if (79 : Int32) ≤ a1 then 
       if (87 : Int32) ≤ a1 then 
        if (96 : Int32) ≤ a1 then 
         if (148 : Int32) ≤ a1 then mj_rV (kX0 d 161 [.ref 0, .int a1, .int a2] x) fun x9 =>
          some (none, x9)
         else mj_rV (kX0 d 160 [.ref 0, .int a1, .int a2, .int (x.1 91 (x.1 0 83).toNatClampNeg)] x) fun x10 =>
          some (none, x10)
        else mj_rV (kX0 d 159 [.ref 0, .int a1] x) fun x11 =>
         some (none, x11)
       else mj_rL (kX0 d 155 [.ref 0, .int (a1 - (79 : Int32))] x) fun v13 x12 =>
        mj_rL (kX0 d 157 [.ref 0] x12) fun v15 x14 =>
        mj_rL (kX0 d 157 [.ref 0] x14) fun v17 x16 =>
        mj_rI (kX0 d 130 [.ref 0, .long v17, .long v15] x16) fun v19 x18 =>
        
        if v19 = (-1 : Int32) then some (none, x18)
        else 
         if a1 = (84 : Int32) then mj_g v19 20000 (some (none, (mj_wL x18 75 v19.toNatClampNeg v13.toInt32.toInt8.toInt32.toInt64)))
         else mj_g v19 20000 (some (none, (mj_wL x18 75 v19.toNatClampNeg v13)))
      else 
       if (59 : Int32) ≤ a1 then rX0_code1 d (276, [some (.ref 0), some (.int a1), some (.int a2), some (.int (x.1 91 (x.1 0 83).toNatClampNeg)), none, none, none, none, none], [.int ((a1 - (59 : Int32)) / (4 : Int32))], x)
       else rX0_code1 d (276, [some (.ref 0), some (.int a1), some (.int a2), some (.int (x.1 91 (x.1 0 83).toNatClampNeg)), none, none, none, none, none], [.int (a1 - (54 : Int32))], x)
     else mj_rL (kX0 d 157 [.ref 0] x) fun v21 x20 =>
      mj_rL (kX0 d 157 [.ref 0] x20) fun v23 x22 =>
      mj_rI (kX0 d 130 [.ref 0, .long v23, .long v21] x22) fun v25 x24 =>
      
      if v25 = (-1 : Int32) then some (none, x24)
      else mj_g v25 20000 (mj_rV (kX0 d 151 [.ref 0, .int (a1 - (46 : Int32)), .long (x24.2 75 v25.toNatClampNeg)] x24) fun x26 =>
       some (none, x26))
    else 
     if (26 : Int32) ≤ a1 then rX0_code1 d (159, [some (.ref 0), some (.int a1), some (.int a2), some (.int (x.1 91 (x.1 0 83).toNatClampNeg)), none, none, none, none, none], [.int ((a1 - (26 : Int32)) / (4 : Int32))], x)
     else rX0_code1 d (159, [some (.ref 0), some (.int a1), some (.int a2), some (.int (x.1 91 (x.1 0 83).toNatClampNeg)), none, none, none, none, none], [.int (a1 - (21 : Int32))], x)
   else mj_rV (kX0 d 158 [.ref 0, .int a1, .int a2] x) fun x27 =>
    some (none, x27)) := (mj_run_to (cd := cdX0) (rt := 0) (tab := tX0_code1) (cal := kX0 d) zX0_code1 212 (0, [some (.ref 0), some (.int a1), some (.int a2), none, none, none, none, none, none], [], x)).trans rfl
set_option maxRecDepth 100000 in
set_option maxHeartbeats 4000000 in
theorem bX0_code1_159 (d : Nat) (a1 : Int32) (a2 : Int32) (a3 : Int32) (s0 : Int32) (x : mj_X) : rX0_code1 d (159, [some (.ref 0), some (.int a1), some (.int a2), some (.int a3), none, none, none, none, none], [.int s0], x) = 
  if (26 : Int32) ≤ a1 then rX0_code1 d (183, [some (.ref 0), some (.int a1), some (.int a2), some (.int a3), some (.int s0), none, none, none, none], [.int ((a1 - (26 : Int32)) - (a1 - (26 : Int32)) / (4 : Int32) * (4 : Int32))], x)
  else mj_rI (kX0 d 101 [.ref 0, .int (a2 + (1 : Int32))] x) fun v2 x1 =>
   rX0_code1 d (183, [some (.ref 0), some (.int a1), some (.int a2), some (.int a3), some (.int s0), none, none, none, none], [.int v2], x1) := (mj_run_to (cd := cdX0) (rt := 0) (tab := tX0_code1) (cal := kX0 d) zX0_code1 212 (159, [some (.ref 0), some (.int a1), some (.int a2), some (.int a3), none, none, none, none, none], [.int s0], x)).trans rfl
set_option maxRecDepth 100000 in
set_option maxHeartbeats 4000000 in
theorem bX0_code1_183 (d : Nat) (a1 : Int32) (a2 : Int32) (a3 : Int32) (a4 : Int32) (s0 : Int32) (x : mj_X) : rX0_code1 d (183, [some (.ref 0), some (.int a1), some (.int a2), some (.int a3), some (.int a4), none, none, none, none], [.int s0], x) = mj_g (a3 + s0) 40000 (mj_rV (kX0 d 151 [.ref 0, .int a4, .long (x.2 89 (a3 + s0).toNatClampNeg)] x) fun x1 =>
  some (none, x1)) := (mj_run_to (cd := cdX0) (rt := 0) (tab := tX0_code1) (cal := kX0 d) zX0_code1 212 (183, [some (.ref 0), some (.int a1), some (.int a2), some (.int a3), some (.int a4), none, none, none, none], [.int s0], x)).trans rfl
set_option maxRecDepth 100000 in
set_option maxHeartbeats 4000000 in
theorem bX0_code1_276 (d : Nat) (a1 : Int32) (a2 : Int32) (a3 : Int32) (s0 : Int32) (x : mj_X) : rX0_code1 d (276, [some (.ref 0), some (.int a1), some (.int a2), some (.int a3), none, none, none, none, none], [.int s0], x) = 
  if (59 : Int32) ≤ a1 then rX0_code1 d (300, [some (.ref 0), some (.int a1), some (.int a2), some (.int a3), some (.int s0), none, none, none, none], [.int ((a1 - (59 : Int32)) - (a1 - (59 : Int32)) / (4 : Int32) * (4 : Int32))], x)
  else mj_rI (kX0 d 101 [.ref 0, .int (a2 + (1 : Int32))] x) fun v2 x1 =>
   rX0_code1 d (300, [some (.ref 0), some (.int a1), some (.int a2), some (.int a3), some (.int s0), none, none, none, none], [.int v2], x1) := (mj_run_to (cd := cdX0) (rt := 0) (tab := tX0_code1) (cal := kX0 d) zX0_code1 212 (276, [some (.ref 0), some (.int a1), some (.int a2), some (.int a3), none, none, none, none, none], [.int s0], x)).trans rfl
set_option maxRecDepth 100000 in
set_option maxHeartbeats 4000000 in
theorem bX0_code1_300 (d : Nat) (a1 : Int32) (a2 : Int32) (a3 : Int32) (a4 : Int32) (s0 : Int32) (x : mj_X) : rX0_code1 d (300, [some (.ref 0), some (.int a1), some (.int a2), some (.int a3), some (.int a4), none, none, none, none], [.int s0], x) = mj_rV (kX0 d 154 [.ref 0, .int a4, .int (a3 + s0)] x) fun x1 =>
  some (none, x1) := (mj_run_to (cd := cdX0) (rt := 0) (tab := tX0_code1) (cal := kX0 d) zX0_code1 212 (300, [some (.ref 0), some (.int a1), some (.int a2), some (.int a3), some (.int a4), none, none, none, none], [.int s0], x)).trans rfl
noncomputable abbrev rX0_pushOf (d : Nat) : mj_S → mj_R := mj_run cdX0 0 tX0_pushOf (kX0 d)
def zX0_pushOf (p : Nat) : Bool := false
set_option maxRecDepth 100000 in
set_option maxHeartbeats 4000000 in
theorem eX0_pushOf (d : Nat) (a1 : Int32) (a2 : Int64) (x : mj_X) : kX0 (d + 1) 151 [.ref 0, .int a1, .long a2] x = 
  if a1 = (1 : Int32) then mj_rV (kX0 d 152 [.ref 0, .long a2] x) fun x1 =>
   some (none, x1)
  else 
   if a1 = (3 : Int32) then mj_rV (kX0 d 152 [.ref 0, .long a2] x) fun x2 =>
    some (none, x2)
   else mj_rV (kX0 d 153 [.ref 0, .long a2] x) fun x3 =>
    some (none, x3) := (mj_run_to (cd := cdX0) (rt := 0) (tab := tX0_pushOf) (cal := kX0 d) zX0_pushOf 22 (0, [some (.ref 0), some (.int a1), some (.long a2), none], [], x)).trans rfl
noncomputable abbrev rX0_pushWide (d : Nat) : mj_S → mj_R := mj_run cdX0 0 tX0_pushWide (kX0 d)
def zX0_pushWide (p : Nat) : Bool := false
set_option maxRecDepth 100000 in
set_option maxHeartbeats 4000000 in
theorem eX0_pushWide (d : Nat) (a1 : Int64) (x : mj_X) : kX0 (d + 1) 152 [.ref 0, .long a1] x = mj_g (x.1 0 92) 40000 (mj_g ((x.1 0 92) + (1 : Int32)) 40000 (some (none, (mj_wI (mj_wL (mj_wL x 89 (x.1 0 92).toNatClampNeg a1) 89 ((x.1 0 92) + (1 : Int32)).toNatClampNeg (0 : Int64)) 0 92 ((x.1 0 92) + (2 : Int32)))))) := (mj_run_to (cd := cdX0) (rt := 0) (tab := tX0_pushWide) (cal := kX0 d) zX0_pushWide 23 (0, [some (.ref 0), some (.long a1), none], [], x)).trans rfl
noncomputable abbrev rX0_push (d : Nat) : mj_S → mj_R := mj_run cdX0 0 tX0_push (kX0 d)
def zX0_push (p : Nat) : Bool := false
set_option maxRecDepth 100000 in
set_option maxHeartbeats 4000000 in
theorem eX0_push (d : Nat) (a1 : Int64) (x : mj_X) : kX0 (d + 1) 153 [.ref 0, .long a1] x = mj_g (x.1 0 92) 40000 (some (none, (mj_wL (mj_wI x 0 92 ((x.1 0 92) + (1 : Int32))) 89 (x.1 0 92).toNatClampNeg a1))) := (mj_run_to (cd := cdX0) (rt := 0) (tab := tX0_push) (cal := kX0 d) zX0_push 14 (0, [some (.ref 0), some (.long a1), none], [], x)).trans rfl
noncomputable abbrev rX0_keep (d : Nat) : mj_S → mj_R := mj_run cdX0 0 tX0_keep (kX0 d)
def zX0_keep (p : Nat) : Bool := false
set_option maxRecDepth 100000 in
set_option maxHeartbeats 4000000 in
theorem eX0_keep (d : Nat) (a1 : Int32) (a2 : Int32) (x : mj_X) : kX0 (d + 1) 154 [.ref 0, .int a1, .int a2] x = mj_rL (kX0 d 155 [.ref 0, .int a1] x) fun v2 x1 =>
  mj_g a2 40000 (some (none, (mj_wL x1 89 a2.toNatClampNeg v2))) := (mj_run_to (cd := cdX0) (rt := 0) (tab := tX0_keep) (cal := kX0 d) zX0_keep 10 (0, [some (.ref 0), some (.int a1), some (.int a2)], [], x)).trans rfl
noncomputable abbrev rX0_popOf (d : Nat) : mj_S → mj_R := mj_run cdX0 2 tX0_popOf (kX0 d)
def zX0_popOf (p : Nat) : Bool := false
set_option maxRecDepth 100000 in
set_option maxHeartbeats 4000000 in
theorem eX0_popOf (d : Nat) (a1 : Int32) (x : mj_X) : kX0 (d + 1) 155 [.ref 0, .int a1] x = 
  if a1 = (1 : Int32) then mj_rL (kX0 d 156 [.ref 0] x) fun v2 x1 =>
   some (some (.long v2), x1)
  else 
   if a1 = (3 : Int32) then mj_rL (kX0 d 156 [.ref 0] x) fun v4 x3 =>
    some (some (.long v4), x3)
   else mj_rL (kX0 d 157 [.ref 0] x) fun v6 x5 =>
    some (some (.long v6), x5) := (mj_run_to (cd := cdX0) (rt := 2) (tab := tX0_popOf) (cal := kX0 d) zX0_popOf 19 (0, [some (.ref 0), some (.int a1)], [], x)).trans rfl
noncomputable abbrev rX0_popWide (d : Nat) : mj_S → mj_R := mj_run cdX0 2 tX0_popWide (kX0 d)
def zX0_popWide (p : Nat) : Bool := false
set_option maxRecDepth 100000 in
set_option maxHeartbeats 4000000 in
theorem eX0_popWide (d : Nat)  (x : mj_X) : kX0 (d + 1) 156 [.ref 0] x = mj_g ((x.1 0 92) - (2 : Int32)) 40000 (some (some (.long (x.2 89 ((x.1 0 92) - (2 : Int32)).toNatClampNeg)), (mj_wI x 0 92 ((x.1 0 92) - (2 : Int32))))) := (mj_run_to (cd := cdX0) (rt := 2) (tab := tX0_popWide) (cal := kX0 d) zX0_popWide 14 (0, [some (.ref 0)], [], x)).trans rfl
noncomputable abbrev rX0_pop (d : Nat) : mj_S → mj_R := mj_run cdX0 2 tX0_pop (kX0 d)
def zX0_pop (p : Nat) : Bool := false
set_option maxRecDepth 100000 in
set_option maxHeartbeats 4000000 in
theorem eX0_pop (d : Nat)  (x : mj_X) : kX0 (d + 1) 157 [.ref 0] x = mj_g ((x.1 0 92) - (1 : Int32)) 40000 (some (some (.long (x.2 89 ((x.1 0 92) - (1 : Int32)).toNatClampNeg)), (mj_wI x 0 92 ((x.1 0 92) - (1 : Int32))))) := (mj_run_to (cd := cdX0) (rt := 2) (tab := tX0_pop) (cal := kX0 d) zX0_pop 14 (0, [some (.ref 0)], [], x)).trans rfl
noncomputable abbrev rX0_constants (d : Nat) : mj_S → mj_R := mj_run cdX0 0 tX0_constants (kX0 d)
def zX0_constants (p : Nat) : Bool := bif Nat.beq p 170 then true else false
set_option maxRecDepth 100000 in
set_option maxHeartbeats 4000000 in
theorem eX0_constants (d : Nat) (a1 : Int32) (a2 : Int32) (x : mj_X) : kX0 (d + 1) 158 [.ref 0, .int a1, .int a2] x = 
  if a1 = (1 : Int32) then mj_rV (kX0 d 153 [.ref 0, .long (0 : Int64)] x) fun x1 =>
   some (none, x1)
  else 
   if (9 : Int32) ≤ a1 then 
    if (11 : Int32) ≤ a1 then 
     if (14 : Int32) ≤ a1 then 
      if (16 : Int32) ≤ a1 then 
       if a1 = (16 : Int32) then mj_g (a2 + (1 : Int32)) 90008 (mj_rV (kX0 d 153 [.ref 0, .long (x.1 13 (a2 + (1 : Int32)).toNatClampNeg).toInt64] x) fun x2 =>
        some (none, x2))
       else 
        if a1 = (17 : Int32) then mj_rI (kX0 d 106 [.ref 0, .int (a2 + (1 : Int32))] x) fun v4 x3 =>
         mj_rV (kX0 d 153 [.ref 0, .long v4.toInt64] x3) fun x5 =>
         some (none, x5)
        else mj_g (x.1 0 83) 11 (
         if a1 = (18 : Int32) then mj_rI (kX0 d 101 [.ref 0, .int (a2 + (1 : Int32))] x) fun v7 x6 =>
          rX0_constants d (170, [some (.ref 0), some (.int a1), some (.int a2), none, none], [.int v7, .int (x.1 90 (x.1 0 83).toNatClampNeg), .ref 0, .ref 20], x6)
         else mj_rI (kX0 d 105 [.ref 0, .int (a2 + (1 : Int32))] x) fun v9 x8 =>
          rX0_constants d (170, [some (.ref 0), some (.int a1), some (.int a2), none, none], [.int v9, .int (x.1 90 (x.1 0 83).toNatClampNeg), .ref 0, .ref 20], x8))
      else mj_rL (kX0 d 62 [.double (FP.i2d (a1 - (14 : Int32)))] x) fun v11 x10 =>
       mj_rV (kX0 d 152 [.ref 0, .long v11] x10) fun x12 =>
       some (none, x12)
     else mj_rL (kX0 d 60 [.float (FP.i2f (a1 - (11 : Int32)))] x) fun v14 x13 =>
      mj_rV (kX0 d 153 [.ref 0, .long v14] x13) fun x15 =>
      some (none, x15)
    else mj_rV (kX0 d 152 [.ref 0, .long (a1 - (9 : Int32)).toInt64] x) fun x16 =>
     some (none, x16)
   else mj_rV (kX0 d 153 [.ref 0, .long (a1 - (3 : Int32)).toInt64] x) fun x17 =>
    some (none, x17) := (mj_run_to (cd := cdX0) (rt := 0) (tab := tX0_constants) (cal := kX0 d) zX0_constants 107 (0, [some (.ref 0), some (.int a1), some (.int a2), none, none], [], x)).trans rfl
set_option maxRecDepth 100000 in
set_option maxHeartbeats 4000000 in
theorem bX0_constants_170 (d : Nat) (a1 : Int32) (a2 : Int32) (s2 : Int32) (s3 : Int32) (x : mj_X) : rX0_constants d (170, [some (.ref 0), some (.int a1), some (.int a2), none, none], [.int s3, .int s2, .ref 0, .ref 20], x) = mj_rI (kX0 d 108 [.ref 0, .int s2, .int s3] x) fun v2 x1 =>
  mj_g v2 8000 (
  if a1 = (20 : Int32) then mj_rV (kX0 d 152 [.ref 0, .long (x1.2 20 v2.toNatClampNeg)] x1) fun x3 =>
   some (none, x3)
  else mj_rV (kX0 d 153 [.ref 0, .long (x1.2 20 v2.toNatClampNeg)] x1) fun x4 =>
   some (none, x4)) := (mj_run_to (cd := cdX0) (rt := 0) (tab := tX0_constants) (cal := kX0 d) zX0_constants 107 (170, [some (.ref 0), some (.int a1), some (.int a2), none, none], [.int s3, .int s2, .ref 0, .ref 20], x)).trans rfl
noncomputable abbrev rX0_pile1 (d : Nat) : mj_S → mj_R := mj_run cdX0 0 tX0_pile1 (kX0 d)
def zX0_pile1 (p : Nat) : Bool := bif Nat.blt p 52 then (bif Nat.blt p 39 then (bif Nat.beq p 12 then true else false) else (bif Nat.beq p 39 then true else false)) else (bif Nat.blt p 66 then (bif Nat.beq p 52 then true else false) else (bif Nat.blt p 104 then (bif Nat.beq p 66 then true else false) else (bif Nat.beq p 104 then true else false)))
set_option maxRecDepth 100000 in
set_option maxHeartbeats 4000000 in
theorem eX0_pile1 (d : Nat) (a1 : Int32) (x : mj_X) : kX0 (d + 1) 159 [.ref 0, .int a1] x = 
  if a1 = (87 : Int32) then rX0_pile1 d (12, [some (.ref 0), some (.int a1), none, none, none], [], x)
  else 
   if a1 = (88 : Int32) then rX0_pile1 d (12, [some (.ref 0), some (.int a1), none, none, none], [], x)
   else 
    if (92 : Int32) ≤ a1 then rX0_pile1 d (39, [some (.ref 0), some (.int a1), none, none, none], [.int (2 : Int32)], x)
    else rX0_pile1 d (39, [some (.ref 0), some (.int a1), none, none, none], [.int (1 : Int32)], x) := (mj_run_to (cd := cdX0) (rt := 0) (tab := tX0_pile1) (cal := kX0 d) zX0_pile1 33 (0, [some (.ref 0), some (.int a1), none, none, none], [], x)).trans rfl
set_option maxRecDepth 100000 in
set_option maxHeartbeats 4000000 in
theorem bX0_pile1_12 (d : Nat) (a1 : Int32) (x : mj_X) : rX0_pile1 d (12, [some (.ref 0), some (.int a1), none, none, none], [], x) = some (none, (mj_wI x 0 92 ((x.1 0 92) - ((a1 - (87 : Int32)) + (1 : Int32))))) := (mj_run_to (cd := cdX0) (rt := 0) (tab := tX0_pile1) (cal := kX0 d) zX0_pile1 33 (12, [some (.ref 0), some (.int a1), none, none, none], [], x)).trans rfl
set_option maxRecDepth 100000 in
set_option maxHeartbeats 4000000 in
theorem bX0_pile1_39 (d : Nat) (a1 : Int32) (s0 : Int32) (x : mj_X) : rX0_pile1 d (39, [some (.ref 0), some (.int a1), none, none, none], [.int s0], x) = 
  if a1 = (89 : Int32) then rX0_pile1 d (52, [some (.ref 0), some (.int a1), some (.int s0), none, none], [], x)
  else 
   if a1 = (92 : Int32) then rX0_pile1 d (52, [some (.ref 0), some (.int a1), some (.int s0), none, none], [], x)
   else rX0_pile1 d (66, [some (.ref 0), some (.int a1), some (.int s0), some (.int (2 : Int32)), some (.int ((x.1 0 92) - (1 : Int32)))], [], x) := (mj_run_to (cd := cdX0) (rt := 0) (tab := tX0_pile1) (cal := kX0 d) zX0_pile1 33 (39, [some (.ref 0), some (.int a1), none, none, none], [.int s0], x)).trans rfl
set_option maxRecDepth 100000 in
set_option maxHeartbeats 4000000 in
theorem bX0_pile1_52 (d : Nat) (a1 : Int32) (a2 : Int32) (x : mj_X) : rX0_pile1 d (52, [some (.ref 0), some (.int a1), some (.int a2), none, none], [], x) = rX0_pile1 d (66, [some (.ref 0), some (.int a1), some (.int a2), some (.int (0 : Int32)), some (.int ((x.1 0 92) - (1 : Int32)))], [], x) := (mj_run_to (cd := cdX0) (rt := 0) (tab := tX0_pile1) (cal := kX0 d) zX0_pile1 33 (52, [some (.ref 0), some (.int a1), some (.int a2), none, none], [], x)).trans rfl
set_option maxRecDepth 100000 in
set_option maxHeartbeats 4000000 in
theorem bX0_pile1_66 (d : Nat) (a1 : Int32) (a2 : Int32) (a3 : Int32) (a4 : Int32) (x : mj_X) : rX0_pile1 d (66, [some (.ref 0), some (.int a1), some (.int a2), some (.int a3), some (.int a4)], [], x) = 
  if a4 < (((x.1 0 92) - a2) - a3) then rX0_pile1 d (104, [some (.ref 0), some (.int a1), some (.int a2), some (.int a3), some (.int (0 : Int32))], [], x)
  else mj_g a4 40000 (mj_g (a4 + a2) 40000 (rX0_pile1 d (66, [some (.ref 0), some (.int a1), some (.int a2), some (.int a3), some (.int (a4 + (-1 : Int32)))], [], (mj_wL x 89 (a4 + a2).toNatClampNeg (x.2 89 a4.toNatClampNeg))))) := (mj_run_to (cd := cdX0) (rt := 0) (tab := tX0_pile1) (cal := kX0 d) zX0_pile1 33 (66, [some (.ref 0), some (.int a1), some (.int a2), some (.int a3), some (.int a4)], [], x)).trans rfl
set_option maxRecDepth 100000 in
set_option maxHeartbeats 4000000 in
theorem bX0_pile1_104 (d : Nat) (a1 : Int32) (a2 : Int32) (a3 : Int32) (a4 : Int32) (x : mj_X) : rX0_pile1 d (104, [some (.ref 0), some (.int a1), some (.int a2), some (.int a3), some (.int a4)], [], x) = 
  if a2 ≤ a4 then some (none, (mj_wI x 0 92 ((x.1 0 92) + a2)))
  else mj_g ((x.1 0 92) + a4) 40000 (mj_g ((((x.1 0 92) - a2) - a3) + a4) 40000 (rX0_pile1 d (104, [some (.ref 0), some (.int a1), some (.int a2), some (.int a3), some (.int (a4 + (1 : Int32)))], [], (mj_wL x 89 ((((x.1 0 92) - a2) - a3) + a4).toNatClampNeg (x.2 89 ((x.1 0 92) + a4).toNatClampNeg))))) := (mj_run_to (cd := cdX0) (rt := 0) (tab := tX0_pile1) (cal := kX0 d) zX0_pile1 33 (104, [some (.ref 0), some (.int a1), some (.int a2), some (.int a3), some (.int a4)], [], x)).trans rfl
noncomputable abbrev rX0_reckon (d : Nat) : mj_S → mj_R := mj_run cdX0 0 tX0_reckon (kX0 d)
def zX0_reckon (p : Nat) : Bool := bif Nat.blt p 187 then (bif Nat.blt p 151 then (bif Nat.beq p 123 then true else false) else (bif Nat.beq p 151 then true else false)) else (bif Nat.blt p 300 then (bif Nat.beq p 187 then true else false) else (bif Nat.beq p 300 then true else false))
set_option maxRecDepth 100000 in
set_option maxHeartbeats 4000000 in
theorem eX0_reckon (d : Nat) (a1 : Int32) (a2 : Int32) (a3 : Int32) (x : mj_X) : kX0 (d + 1) 160 [.ref 0, .int a1, .int a2, .int a3] x = 
  if (116 : Int32) ≤ a1 then 
   if (120 : Int32) ≤ a1 then 
    if (132 : Int32) ≤ a1 then 
     if a1 = (132 : Int32) then mj_rI (kX0 d 101 [.ref 0, .int (a2 + (1 : Int32))] x) fun v2 x1 =>
      mj_g (a3 + v2) 40000 (mj_g (a2 + (2 : Int32)) 90008 (mj_g (a3 + v2) 40000 (some (none, (mj_wL x1 89 (a3 + v2).toNatClampNeg ((x1.2 89 (a3 + v2).toNatClampNeg) + (x1.1 13 (a2 + (2 : Int32)).toNatClampNeg).toInt64).toInt32.toInt64)))))
     else 
      if (145 : Int32) ≤ a1 then mj_rL (kX0 d 157 [.ref 0] x) fun v4 x3 =>
       mj_rL (kX0 d 134 [.int (((9 : Int32) + a1) - (145 : Int32)), .long v4] x3) fun v6 x5 =>
       mj_rV (kX0 d 153 [.ref 0, .long v6] x5) fun x7 =>
       some (none, x7)
      else 
       if ((a1 - (133 : Int32)) / (3 : Int32)) ≤ ((a1 - (133 : Int32)) - (a1 - (133 : Int32)) / (3 : Int32) * (3 : Int32)) then rX0_reckon d (300, [some (.ref 0), some (.int a1), some (.int a2), some (.int a3), some (.int ((a1 - (133 : Int32)) / (3 : Int32))), some (.int ((a1 - (133 : Int32)) - (a1 - (133 : Int32)) / (3 : Int32) * (3 : Int32))), none, none, none, none, none], [.int (((a1 - (133 : Int32)) - (a1 - (133 : Int32)) / (3 : Int32) * (3 : Int32)) + (1 : Int32))], x)
       else rX0_reckon d (300, [some (.ref 0), some (.int a1), some (.int a2), some (.int a3), some (.int ((a1 - (133 : Int32)) / (3 : Int32))), some (.int ((a1 - (133 : Int32)) - (a1 - (133 : Int32)) / (3 : Int32) * (3 : Int32))), none, none, none, none, none], [.int ((a1 - (133 : Int32)) - (a1 - (133 : Int32)) / (3 : Int32) * (3 : Int32))], x)
    else 
     if (126 : Int32) ≤ a1 then rX0_reckon d (123, [some (.ref 0), some (.int a1), some (.int a2), some (.int a3), none, none, none, none, none, none, none], [.int (0 : Int32)], x)
     else rX0_reckon d (123, [some (.ref 0), some (.int a1), some (.int a2), some (.int a3), none, none, none, none, none, none, none], [.int (1 : Int32)], x)
   else mj_rL (kX0 d 155 [.ref 0, .int (a1 - (116 : Int32))] x) fun v9 x8 =>
    mj_rL (kX0 d 132 [.int ((a1 - (116 : Int32)) + (1 : Int32)), .long v9] x8) fun v11 x10 =>
    mj_rV (kX0 d 151 [.ref 0, .int (a1 - (116 : Int32)), .long v11] x10) fun x12 =>
    some (none, x12)
  else mj_rL (kX0 d 155 [.ref 0, .int ((a1 - (96 : Int32)) - (a1 - (96 : Int32)) / (4 : Int32) * (4 : Int32))] x) fun v14 x13 =>
   mj_rL (kX0 d 155 [.ref 0, .int ((a1 - (96 : Int32)) - (a1 - (96 : Int32)) / (4 : Int32) * (4 : Int32))] x13) fun v16 x15 =>
   mj_rL (kX0 d 136 [.ref 0, .int ((10 : Int32) + ((a1 - (96 : Int32)) / (4 : Int32))), .int (((a1 - (96 : Int32)) - (a1 - (96 : Int32)) / (4 : Int32) * (4 : Int32)) + (1 : Int32)), .long v16, .long v14] x15) fun v18 x17 =>
   
   if (x17.1 0 78) = 0 then mj_rV (kX0 d 151 [.ref 0, .int ((a1 - (96 : Int32)) - (a1 - (96 : Int32)) / (4 : Int32) * (4 : Int32)), .long v18] x17) fun x19 =>
    some (none, x19)
   else some (none, x17) := (mj_run_to (cd := cdX0) (rt := 0) (tab := tX0_reckon) (cal := kX0 d) zX0_reckon 144 (0, [some (.ref 0), some (.int a1), some (.int a2), some (.int a3), none, none, none, none, none, none, none], [], x)).trans rfl
set_option maxRecDepth 100000 in
set_option maxHeartbeats 4000000 in
theorem bX0_reckon_123 (d : Nat) (a1 : Int32) (a2 : Int32) (a3 : Int32) (s0 : Int32) (x : mj_X) : rX0_reckon d (123, [some (.ref 0), some (.int a1), some (.int a2), some (.int a3), none, none, none, none, none, none, none], [.int s0], x) = 
  if s0 = 0 then mj_rL (kX0 d 155 [.ref 0, .int ((a1 - (120 : Int32)) - (a1 - (120 : Int32)) / (2 : Int32) * (2 : Int32))] x) fun v2 x1 =>
   rX0_reckon d (151, [some (.ref 0), some (.int a1), some (.int a2), some (.int a3), some (.int s0), some (.int ((a1 - (120 : Int32)) - (a1 - (120 : Int32)) / (2 : Int32) * (2 : Int32))), none, none, none, none, none], [.long v2], x1)
  else mj_rL (kX0 d 157 [.ref 0] x) fun v4 x3 =>
   rX0_reckon d (151, [some (.ref 0), some (.int a1), some (.int a2), some (.int a3), some (.int s0), some (.int ((a1 - (120 : Int32)) - (a1 - (120 : Int32)) / (2 : Int32) * (2 : Int32))), none, none, none, none, none], [.long v4], x3) := (mj_run_to (cd := cdX0) (rt := 0) (tab := tX0_reckon) (cal := kX0 d) zX0_reckon 144 (123, [some (.ref 0), some (.int a1), some (.int a2), some (.int a3), none, none, none, none, none, none, none], [.int s0], x)).trans rfl
set_option maxRecDepth 100000 in
set_option maxHeartbeats 4000000 in
theorem bX0_reckon_151 (d : Nat) (a1 : Int32) (a2 : Int32) (a3 : Int32) (a4 : Int32) (a5 : Int32) (s0 : Int64) (x : mj_X) : rX0_reckon d (151, [some (.ref 0), some (.int a1), some (.int a2), some (.int a3), some (.int a4), some (.int a5), none, none, none, none, none], [.long s0], x) = mj_rL (kX0 d 155 [.ref 0, .int a5] x) fun v2 x1 =>
  
  if a4 = 0 then rX0_reckon d (187, [some (.ref 0), some (.int a1), some (.int a2), some (.int a3), some (.int a4), some (.int a5), some (.long s0), none, some (.long v2), none, none], [.int ((15 : Int32) + ((a1 - (126 : Int32)) / (2 : Int32)))], x1)
  else rX0_reckon d (187, [some (.ref 0), some (.int a1), some (.int a2), some (.int a3), some (.int a4), some (.int a5), some (.long s0), none, some (.long v2), none, none], [.int ((18 : Int32) + ((a1 - (120 : Int32)) / (2 : Int32)))], x1) := (mj_run_to (cd := cdX0) (rt := 0) (tab := tX0_reckon) (cal := kX0 d) zX0_reckon 144 (151, [some (.ref 0), some (.int a1), some (.int a2), some (.int a3), some (.int a4), some (.int a5), none, none, none, none, none], [.long s0], x)).trans rfl
set_option maxRecDepth 100000 in
set_option maxHeartbeats 4000000 in
theorem bX0_reckon_187 (d : Nat) (a1 : Int32) (a2 : Int32) (a3 : Int32) (a4 : Int32) (a5 : Int32) (a6 : Int64) (a8 : Int64) (s0 : Int32) (x : mj_X) : rX0_reckon d (187, [some (.ref 0), some (.int a1), some (.int a2), some (.int a3), some (.int a4), some (.int a5), some (.long a6), none, some (.long a8), none, none], [.int s0], x) = mj_rL (kX0 d 136 [.ref 0, .int s0, .int (a5 + (1 : Int32)), .long a8, .long a6] x) fun v2 x1 =>
  mj_rV (kX0 d 151 [.ref 0, .int a5, .long v2] x1) fun x3 =>
  some (none, x3) := (mj_run_to (cd := cdX0) (rt := 0) (tab := tX0_reckon) (cal := kX0 d) zX0_reckon 144 (187, [some (.ref 0), some (.int a1), some (.int a2), some (.int a3), some (.int a4), some (.int a5), some (.long a6), none, some (.long a8), none, none], [.int s0], x)).trans rfl
set_option maxRecDepth 100000 in
set_option maxHeartbeats 4000000 in
theorem bX0_reckon_300 (d : Nat) (a1 : Int32) (a2 : Int32) (a3 : Int32) (a4 : Int32) (a5 : Int32) (s0 : Int32) (x : mj_X) : rX0_reckon d (300, [some (.ref 0), some (.int a1), some (.int a2), some (.int a3), some (.int a4), some (.int a5), none, none, none, none, none], [.int s0], x) = mj_rL (kX0 d 155 [.ref 0, .int a4] x) fun v2 x1 =>
  mj_rL (kX0 d 133 [.int (a4 + (1 : Int32)), .int (s0 + (1 : Int32)), .long v2] x1) fun v4 x3 =>
  mj_rV (kX0 d 151 [.ref 0, .int s0, .long v4] x3) fun x5 =>
  some (none, x5) := (mj_run_to (cd := cdX0) (rt := 0) (tab := tX0_reckon) (cal := kX0 d) zX0_reckon 144 (300, [some (.ref 0), some (.int a1), some (.int a2), some (.int a3), some (.int a4), some (.int a5), none, none, none, none, none], [.int s0], x)).trans rfl
noncomputable abbrev rX0_goes (d : Nat) : mj_S → mj_R := mj_run cdX0 0 tX0_goes (kX0 d)
def zX0_goes (p : Nat) : Bool := bif Nat.blt p 145 then (bif Nat.blt p 70 then (bif Nat.blt p 50 then (bif Nat.beq p 30 then true else false) else (bif Nat.beq p 50 then true else false)) else (bif Nat.blt p 118 then (bif Nat.beq p 70 then true else false) else (bif Nat.beq p 118 then true else false))) else (bif Nat.blt p 266 then (bif Nat.blt p 175 then (bif Nat.beq p 145 then true else false) else (bif Nat.beq p 175 then true else false)) else (bif Nat.blt p 406 then (bif Nat.beq p 266 then true else false) else (bif Nat.beq p 406 then true else false)))
set_option maxRecDepth 100000 in
set_option maxHeartbeats 4000000 in
theorem eX0_goes (d : Nat) (a1 : Int32) (a2 : Int32) (x : mj_X) : kX0 (d + 1) 161 [.ref 0, .int a1, .int a2] x = 
  if (153 : Int32) ≤ a1 then 
   if (167 : Int32) ≤ a1 then 
    if a1 = (167 : Int32) then mj_rI (kX0 d 106 [.ref 0, .int (a2 + (1 : Int32))] x) fun v2 x1 =>
     some (none, (mj_wI x1 0 93 ((x.1 0 95) + v2)))
    else 
     if a1 = (200 : Int32) then mj_rI (kX0 d 109 [.ref 0, .int (a2 + (1 : Int32))] x) fun v4 x3 =>
      some (none, (mj_wI x3 0 93 ((x.1 0 95) + v4)))
     else 
      if a1 = (170 : Int32) then rX0_goes d (266, [some (.ref 0), some (.int a1), some (.int a2), none, none, none, none, none, none], [], x)
      else 
       if a1 = (171 : Int32) then rX0_goes d (266, [some (.ref 0), some (.int a1), some (.int a2), none, none, none, none, none, none], [], x)
       else 
        if (177 : Int32) < a1 then 
         if a1 = (184 : Int32) then mj_g (x.1 0 83) 11 (mj_rI (kX0 d 105 [.ref 0, .int (a2 + (1 : Int32))] x) fun v6 x5 =>
          mj_rI (kX0 d 108 [.ref 0, .int (x.1 90 (x.1 0 83).toNatClampNeg), .int v6] x5) fun v8 x7 =>
          mj_rV (kX0 d 164 [.ref 0, .int v8] x7) fun x9 =>
          some (none, x9))
         else 
          if a1 = (188 : Int32) then mj_rI (kX0 d 101 [.ref 0, .int (a2 + (1 : Int32))] x) fun v11 x10 =>
           
           if v11 = (8 : Int32) then rX0_goes d (406, [some (.ref 0), some (.int a1), some (.int a2), some (.int v11), none, none, none, none, none], [.int (5 : Int32), .ref 0, .ref 0], x10)
           else 
            if v11 = (10 : Int32) then rX0_goes d (406, [some (.ref 0), some (.int a1), some (.int a2), some (.int v11), none, none, none, none, none], [.int (6 : Int32), .ref 0, .ref 0], x10)
            else 
             if v11 = (11 : Int32) then rX0_goes d (406, [some (.ref 0), some (.int a1), some (.int a2), some (.int v11), none, none, none, none, none], [.int (7 : Int32), .ref 0, .ref 0], x10)
             else rX0_goes d (406, [some (.ref 0), some (.int a1), some (.int a2), some (.int v11), none, none, none, none, none], [.int (8 : Int32), .ref 0, .ref 0], x10)
          else 
           if a1 = (190 : Int32) then mj_rL (kX0 d 157 [.ref 0] x) fun v13 x12 =>
            
            if (lg_cmp v13 (0 : Int64)) = 0 then mj_rV (kX0 d 139 [.ref 0, .int (2 : Int32)] x12) fun x14 =>
             some (none, x14)
            else mj_g v13.toInt32 120020 (mj_rV (kX0 d 153 [.ref 0, .long (x12.1 73 v13.toInt32.toNatClampNeg).toInt64] x12) fun x15 =>
             some (none, x15))
           else 
            if a1 = (191 : Int32) then mj_rL (kX0 d 157 [.ref 0] x) fun v17 x16 =>
             some (none, (mj_wI (mj_wI x16 0 78 ((v17 >>> ((32 : Int32).toInt64 &&& 63)).toInt32 &&& (255 : Int32))) 0 79 v17.toInt32))
            else mj_rL (kX0 d 157 [.ref 0] x) fun v19 x18 =>
             
             if (lg_cmp v19 (0 : Int64)) = 0 then 
              if a1 = (194 : Int32) then mj_rV (kX0 d 139 [.ref 0, .int (2 : Int32)] x18) fun x20 =>
               some (none, x20)
              else some (none, x18)
             else some (none, x18)
        else mj_rV (kX0 d 163 [.ref 0, .int a1] x) fun x21 =>
         some (none, x21)
   else 
    if (159 : Int32) ≤ a1 then mj_rL (kX0 d 157 [.ref 0] x) fun v23 x22 =>
     rX0_goes d (118, [some (.ref 0), some (.int a1), some (.int a2), none, none, none, none, none, none], [.long v23], x22)
    else rX0_goes d (118, [some (.ref 0), some (.int a1), some (.int a2), none, none, none, none, none, none], [.long (0 : Int64)], x)
  else 
   if a1 = (148 : Int32) then rX0_goes d (30, [some (.ref 0), some (.int a1), some (.int a2), none, none, none, none, none, none], [.int (2 : Int32)], x)
   else 
    if (151 : Int32) ≤ a1 then rX0_goes d (30, [some (.ref 0), some (.int a1), some (.int a2), none, none, none, none, none, none], [.int (4 : Int32)], x)
    else rX0_goes d (30, [some (.ref 0), some (.int a1), some (.int a2), none, none, none, none, none, none], [.int (3 : Int32)], x) := (mj_run_to (cd := cdX0) (rt := 0) (tab := tX0_goes) (cal := kX0 d) zX0_goes 187 (0, [some (.ref 0), some (.int a1), some (.int a2), none, none, none, none, none, none], [], x)).trans rfl
set_option maxRecDepth 100000 in
set_option maxHeartbeats 4000000 in
theorem bX0_goes_30 (d : Nat) (a1 : Int32) (a2 : Int32) (s0 : Int32) (x : mj_X) : rX0_goes d (30, [some (.ref 0), some (.int a1), some (.int a2), none, none, none, none, none, none], [.int s0], x) = 
  if a1 = (150 : Int32) then rX0_goes d (50, [some (.ref 0), some (.int a1), some (.int a2), some (.int s0), none, none, none, none, none], [.int (1 : Int32)], x)
  else 
   if a1 = (152 : Int32) then rX0_goes d (50, [some (.ref 0), some (.int a1), some (.int a2), some (.int s0), none, none, none, none, none], [.int (1 : Int32)], x)
   else rX0_goes d (50, [some (.ref 0), some (.int a1), some (.int a2), some (.int s0), none, none, none, none, none], [.int (0 : Int32)], x) := (mj_run_to (cd := cdX0) (rt := 0) (tab := tX0_goes) (cal := kX0 d) zX0_goes 187 (30, [some (.ref 0), some (.int a1), some (.int a2), none, none, none, none, none, none], [.int s0], x)).trans rfl
set_option maxRecDepth 100000 in
set_option maxHeartbeats 4000000 in
theorem bX0_goes_50 (d : Nat) (a1 : Int32) (a2 : Int32) (a3 : Int32) (s0 : Int32) (x : mj_X) : rX0_goes d (50, [some (.ref 0), some (.int a1), some (.int a2), some (.int a3), none, none, none, none, none], [.int s0], x) = mj_rL (kX0 d 155 [.ref 0, .int (a3 - (1 : Int32))] x) fun v2 x1 =>
  mj_rL (kX0 d 155 [.ref 0, .int (a3 - (1 : Int32))] x1) fun v4 x3 =>
  rX0_goes d (70, [some (.ref 0), some (.int a1), some (.int a2), some (.int a3), some (.int s0), some (.long v2), none, some (.long v4), none], [], x3) := (mj_run_to (cd := cdX0) (rt := 0) (tab := tX0_goes) (cal := kX0 d) zX0_goes 187 (50, [some (.ref 0), some (.int a1), some (.int a2), some (.int a3), none, none, none, none, none], [.int s0], x)).trans rfl
set_option maxRecDepth 100000 in
set_option maxHeartbeats 4000000 in
theorem bX0_goes_70 (d : Nat) (a1 : Int32) (a2 : Int32) (a3 : Int32) (a4 : Int32) (a5 : Int64) (a7 : Int64) (x : mj_X) : rX0_goes d (70, [some (.ref 0), some (.int a1), some (.int a2), some (.int a3), some (.int a4), some (.long a5), none, some (.long a7), none], [], x) = 
  if a4 = 0 then mj_rI (kX0 d 142 [.int a3, .long a7, .long a5, .int (-1 : Int32)] x) fun v2 x1 =>
   mj_rV (kX0 d 153 [.ref 0, .long v2.toInt64] x1) fun x3 =>
   some (none, x3)
  else mj_rI (kX0 d 142 [.int a3, .long a7, .long a5, .int (1 : Int32)] x) fun v5 x4 =>
   mj_rV (kX0 d 153 [.ref 0, .long v5.toInt64] x4) fun x6 =>
   some (none, x6) := (mj_run_to (cd := cdX0) (rt := 0) (tab := tX0_goes) (cal := kX0 d) zX0_goes 187 (70, [some (.ref 0), some (.int a1), some (.int a2), some (.int a3), some (.int a4), some (.long a5), none, some (.long a7), none], [], x)).trans rfl
set_option maxRecDepth 100000 in
set_option maxHeartbeats 4000000 in
theorem bX0_goes_118 (d : Nat) (a1 : Int32) (a2 : Int32) (s0 : Int64) (x : mj_X) : rX0_goes d (118, [some (.ref 0), some (.int a1), some (.int a2), none, none, none, none, none, none], [.long s0], x) = mj_rL (kX0 d 157 [.ref 0] x) fun v2 x1 =>
  
  if (159 : Int32) ≤ a1 then rX0_goes d (145, [some (.ref 0), some (.int a1), some (.int a2), some (.long s0), none, some (.long v2), none, none, none], [.int (a1 - (159 : Int32))], x1)
  else rX0_goes d (145, [some (.ref 0), some (.int a1), some (.int a2), some (.long s0), none, some (.long v2), none, none, none], [.int (a1 - (153 : Int32))], x1) := (mj_run_to (cd := cdX0) (rt := 0) (tab := tX0_goes) (cal := kX0 d) zX0_goes 187 (118, [some (.ref 0), some (.int a1), some (.int a2), none, none, none, none, none, none], [.long s0], x)).trans rfl
set_option maxRecDepth 100000 in
set_option maxHeartbeats 4000000 in
theorem bX0_goes_145 (d : Nat) (a1 : Int32) (a2 : Int32) (a3 : Int64) (a5 : Int64) (s0 : Int32) (x : mj_X) : rX0_goes d (145, [some (.ref 0), some (.int a1), some (.int a2), some (.long a3), none, some (.long a5), none, none, none], [.int s0], x) = 
  if 0 ≤ (lg_cmp a5 a3) then 
   if (lg_cmp a5 a3) ≤ 0 then rX0_goes d (175, [some (.ref 0), some (.int a1), some (.int a2), some (.long a3), none, some (.long a5), none, some (.int s0), none], [.int (0 : Int32), .int ((23 : Int32) + s0)], x)
   else rX0_goes d (175, [some (.ref 0), some (.int a1), some (.int a2), some (.long a3), none, some (.long a5), none, some (.int s0), none], [.int (1 : Int32), .int ((23 : Int32) + s0)], x)
  else rX0_goes d (175, [some (.ref 0), some (.int a1), some (.int a2), some (.long a3), none, some (.long a5), none, some (.int s0), none], [.int (-1 : Int32), .int ((23 : Int32) + s0)], x) := (mj_run_to (cd := cdX0) (rt := 0) (tab := tX0_goes) (cal := kX0 d) zX0_goes 187 (145, [some (.ref 0), some (.int a1), some (.int a2), some (.long a3), none, some (.long a5), none, none, none], [.int s0], x)).trans rfl
set_option maxRecDepth 100000 in
set_option maxHeartbeats 4000000 in
theorem bX0_goes_175 (d : Nat) (a1 : Int32) (a2 : Int32) (a3 : Int64) (a5 : Int64) (a7 : Int32) (s0 : Int32) (s1 : Int32) (x : mj_X) : rX0_goes d (175, [some (.ref 0), some (.int a1), some (.int a2), some (.long a3), none, some (.long a5), none, some (.int a7), none], [.int s1, .int s0], x) = mj_rI (kX0 d 143 [.int s0, .int s1] x) fun v2 x1 =>
  
  if v2 = 0 then some (none, x1)
  else mj_rI (kX0 d 106 [.ref 0, .int (a2 + (1 : Int32))] x1) fun v4 x3 =>
   some (none, (mj_wI x3 0 93 ((x1.1 0 95) + v4))) := (mj_run_to (cd := cdX0) (rt := 0) (tab := tX0_goes) (cal := kX0 d) zX0_goes 187 (175, [some (.ref 0), some (.int a1), some (.int a2), some (.long a3), none, some (.long a5), none, some (.int a7), none], [.int s1, .int s0], x)).trans rfl
set_option maxRecDepth 100000 in
set_option maxHeartbeats 4000000 in
theorem bX0_goes_266 (d : Nat) (a1 : Int32) (a2 : Int32) (x : mj_X) : rX0_goes d (266, [some (.ref 0), some (.int a1), some (.int a2), none, none, none, none, none, none], [], x) = mj_rL (kX0 d 157 [.ref 0] x) fun v2 x1 =>
  mj_rI (kX0 d 162 [.ref 0, .int a1, .int ((((x.1 0 94) + (x.1 0 95)) + (4 : Int32)) - ((x.1 0 95) - (x.1 0 95) / (4 : Int32) * (4 : Int32))), .int v2.toInt32] x1) fun v4 x3 =>
  some (none, (mj_wI x3 0 93 ((x.1 0 95) + v4))) := (mj_run_to (cd := cdX0) (rt := 0) (tab := tX0_goes) (cal := kX0 d) zX0_goes 187 (266, [some (.ref 0), some (.int a1), some (.int a2), none, none, none, none, none, none], [], x)).trans rfl
set_option maxRecDepth 100000 in
set_option maxHeartbeats 4000000 in
theorem bX0_goes_406 (d : Nat) (a1 : Int32) (a2 : Int32) (a3 : Int32) (s2 : Int32) (x : mj_X) : rX0_goes d (406, [some (.ref 0), some (.int a1), some (.int a2), some (.int a3), none, none, none, none, none], [.int s2, .ref 0, .ref 0], x) = mj_rL (kX0 d 157 [.ref 0] x) fun v2 x1 =>
  mj_rI (kX0 d 124 [.ref 0, .int s2, .int v2.toInt32] x1) fun v4 x3 =>
  mj_rV (kX0 d 153 [.ref 0, .long v4.toInt64] x3) fun x5 =>
  some (none, x5) := (mj_run_to (cd := cdX0) (rt := 0) (tab := tX0_goes) (cal := kX0 d) zX0_goes 187 (406, [some (.ref 0), some (.int a1), some (.int a2), some (.int a3), none, none, none, none, none], [.int s2, .ref 0, .ref 0], x)).trans rfl
noncomputable abbrev rX0_chosen (d : Nat) : mj_S → mj_R := mj_run cdX0 1 tX0_chosen (kX0 d)
def zX0_chosen (p : Nat) : Bool := bif Nat.beq p 72 then true else false
set_option maxRecDepth 100000 in
set_option maxHeartbeats 4000000 in
theorem eX0_chosen (d : Nat) (a1 : Int32) (a2 : Int32) (a3 : Int32) (x : mj_X) : kX0 (d + 1) 162 [.ref 0, .int a1, .int a2, .int a3] x = 
  if a1 = (170 : Int32) then mj_rI (kX0 d 109 [.ref 0, .int (a2 + (4 : Int32))] x) fun v2 x1 =>
   mj_rI (kX0 d 109 [.ref 0, .int (a2 + (8 : Int32))] x1) fun v4 x3 =>
   mj_rI (kX0 d 2 [.long a3.toInt64, .long v2.toInt64, .long v4.toInt64] x3) fun v6 x5 =>
   
   if v6 = 0 then mj_rI (kX0 d 109 [.ref 0, .int a2] x5) fun v8 x7 =>
    some (some (.int v8), x7)
   else mj_rI (kX0 d 109 [.ref 0, .int ((a2 + (12 : Int32)) + ((4 : Int32) * (a3 - v2)))] x5) fun v10 x9 =>
    some (some (.int v10), x9)
  else mj_rI (kX0 d 109 [.ref 0, .int (a2 + (4 : Int32))] x) fun v12 x11 =>
   rX0_chosen d (72, [some (.ref 0), some (.int a1), some (.int a2), some (.int a3), some (.int v12), some (.int (0 : Int32))], [], x11) := (mj_run_to (cd := cdX0) (rt := 1) (tab := tX0_chosen) (cal := kX0 d) zX0_chosen 49 (0, [some (.ref 0), some (.int a1), some (.int a2), some (.int a3), none, none], [], x)).trans rfl
set_option maxRecDepth 100000 in
set_option maxHeartbeats 4000000 in
theorem bX0_chosen_72 (d : Nat) (a1 : Int32) (a2 : Int32) (a3 : Int32) (a4 : Int32) (a5 : Int32) (x : mj_X) : rX0_chosen d (72, [some (.ref 0), some (.int a1), some (.int a2), some (.int a3), some (.int a4), some (.int a5)], [], x) = 
  if a4 ≤ a5 then mj_rI (kX0 d 109 [.ref 0, .int a2] x) fun v2 x1 =>
   some (some (.int v2), x1)
  else mj_rI (kX0 d 109 [.ref 0, .int ((a2 + (8 : Int32)) + ((8 : Int32) * a5))] x) fun v4 x3 =>
   
   if v4 = a3 then mj_rI (kX0 d 109 [.ref 0, .int ((a2 + (12 : Int32)) + ((8 : Int32) * a5))] x3) fun v6 x5 =>
    some (some (.int v6), x5)
   else rX0_chosen d (72, [some (.ref 0), some (.int a1), some (.int a2), some (.int a3), some (.int a4), some (.int (a5 + (1 : Int32)))], [], x3) := (mj_run_to (cd := cdX0) (rt := 1) (tab := tX0_chosen) (cal := kX0 d) zX0_chosen 49 (72, [some (.ref 0), some (.int a1), some (.int a2), some (.int a3), some (.int a4), some (.int a5)], [], x)).trans rfl
noncomputable abbrev rX0_returns (d : Nat) : mj_S → mj_R := mj_run cdX0 0 tX0_returns (kX0 d)
def zX0_returns (p : Nat) : Bool := bif Nat.blt p 80 then (bif Nat.beq p 20 then true else false) else (bif Nat.beq p 80 then true else false)
set_option maxRecDepth 100000 in
set_option maxHeartbeats 4000000 in
theorem eX0_returns (d : Nat) (a1 : Int32) (x : mj_X) : kX0 (d + 1) 163 [.ref 0, .int a1] x = 
  if a1 = (177 : Int32) then rX0_returns d (20, [some (.ref 0), some (.int a1), none, none], [.long (0 : Int64)], x)
  else mj_rL (kX0 d 155 [.ref 0, .int (a1 - (172 : Int32))] x) fun v2 x1 =>
   rX0_returns d (20, [some (.ref 0), some (.int a1), none, none], [.long v2], x1) := (mj_run_to (cd := cdX0) (rt := 0) (tab := tX0_returns) (cal := kX0 d) zX0_returns 37 (0, [some (.ref 0), some (.int a1), none, none], [], x)).trans rfl
set_option maxRecDepth 100000 in
set_option maxHeartbeats 4000000 in
theorem bX0_returns_20 (d : Nat) (a1 : Int32) (s0 : Int64) (x : mj_X) : rX0_returns d (20, [some (.ref 0), some (.int a1), none, none], [.long s0], x) = 
  if (x.1 0 83) = 0 then some (none, (mj_wI (mj_wL x 0 96 s0) 0 93 (-2 : Int32)))
  else mj_g (x.1 0 83) 11 (
   if a1 = (177 : Int32) then rX0_returns d (80, [some (.ref 0), some (.int a1), some (.long s0), none], [], (mj_wI (mj_wI x 0 92 (x.1 91 (x.1 0 83).toNatClampNeg)) 0 83 ((x.1 0 83) - (1 : Int32))))
   else mj_rV (kX0 d 151 [.ref 0, .int (a1 - (172 : Int32)), .long s0] (mj_wI (mj_wI x 0 92 (x.1 91 (x.1 0 83).toNatClampNeg)) 0 83 ((x.1 0 83) - (1 : Int32)))) fun x1 =>
    rX0_returns d (80, [some (.ref 0), some (.int a1), some (.long s0), none], [], x1)) := (mj_run_to (cd := cdX0) (rt := 0) (tab := tX0_returns) (cal := kX0 d) zX0_returns 37 (20, [some (.ref 0), some (.int a1), none, none], [.long s0], x)).trans rfl
set_option maxRecDepth 100000 in
set_option maxHeartbeats 4000000 in
theorem bX0_returns_80 (d : Nat) (a1 : Int32) (a2 : Int64) (x : mj_X) : rX0_returns d (80, [some (.ref 0), some (.int a1), some (.long a2), none], [], x) = mj_g (x.1 0 83) 11 (some (none, (mj_wI x 0 93 ((x.1 92 (x.1 0 83).toNatClampNeg) + (3 : Int32))))) := (mj_run_to (cd := cdX0) (rt := 0) (tab := tX0_returns) (cal := kX0 d) zX0_returns 37 (80, [some (.ref 0), some (.int a1), some (.long a2), none], [], x)).trans rfl
noncomputable abbrev rX0_calls (d : Nat) : mj_S → mj_R := mj_run cdX0 0 tX0_calls (kX0 d)
def zX0_calls (p : Nat) : Bool := bif Nat.beq p 88 then true else false
set_option maxRecDepth 100000 in
set_option maxHeartbeats 4000000 in
theorem eX0_calls (d : Nat) (a1 : Int32) (x : mj_X) : kX0 (d + 1) 164 [.ref 0, .int a1] x = mj_g a1 8000 (
  if (x.1 19 a1.toNatClampNeg) = (71 : Int32) then mj_rL (kX0 d 157 [.ref 0] x) fun v2 x1 =>
   mj_rV (kX0 d 153 [.ref 0, .long ((4611686048492158976 : Int64) ||| (v2 &&& (4294967295 : Int64)))] x1) fun x3 =>
   some (none, x3)
  else mj_g a1 8000 (
   if (x.1 19 a1.toNatClampNeg) = (72 : Int32) then mj_rL (kX0 d 157 [.ref 0] x) fun v5 x4 =>
    
    if ((v5 >>> ((32 : Int32).toInt64 &&& 63)).toInt32 &&& (255 : Int32)) = (7 : Int32) then mj_rV (kX0 d 153 [.ref 0, .long v5.toInt32.toInt64] x4) fun x6 =>
     some (none, x6)
    else mj_rV (kX0 d 153 [.ref 0, .long (0 : Int64)] x4) fun x7 =>
     some (none, x7)
   else mj_g a1 8000 (mj_g (x.2 20 a1.toNatClampNeg).toInt32 40 (rX0_calls d (88, [some (.ref 0), some (.int a1), some (.int (x.2 20 a1.toNatClampNeg).toInt32), some (.int (0 : Int32)), some (.int (x.1 10 (x.2 20 a1.toNatClampNeg).toInt32.toNatClampNeg))], [], x))))) := (mj_run_to (cd := cdX0) (rt := 0) (tab := tX0_calls) (cal := kX0 d) zX0_calls 58 (0, [some (.ref 0), some (.int a1), none, none, none], [], x)).trans rfl
set_option maxRecDepth 100000 in
set_option maxHeartbeats 4000000 in
theorem bX0_calls_88 (d : Nat) (a1 : Int32) (a2 : Int32) (a3 : Int32) (a4 : Int32) (x : mj_X) : rX0_calls d (88, [some (.ref 0), some (.int a1), some (.int a2), some (.int a3), some (.int a4)], [], x) = 
  if a4 = (-1 : Int32) then mj_rI (kX0 d 165 [.ref 0, .int a2, .int ((x.1 0 92) - a3)] x) fun v2 x1 =>
   
   if v2 = 0 then some (none, x1)
   else mj_g a2 40 (some (none, (mj_wI (mj_wI x1 0 92 (((x1.1 0 92) - a3) + (x1.1 14 a2.toNatClampNeg))) 0 93 (0 : Int32))))
  else mj_g a4 4000 (mj_g (x.1 2 a4.toNatClampNeg) 4000 (mj_rI (kX0 d 26 [.int (x.1 4 (x.1 2 a4.toNatClampNeg).toNatClampNeg)] x) fun v4 x3 =>
   mj_g a4 4000 (rX0_calls d (88, [some (.ref 0), some (.int a1), some (.int a2), some (.int (a3 + v4)), some (.int (x3.1 3 a4.toNatClampNeg))], [], x3)))) := (mj_run_to (cd := cdX0) (rt := 0) (tab := tX0_calls) (cal := kX0 d) zX0_calls 58 (88, [some (.ref 0), some (.int a1), some (.int a2), some (.int a3), some (.int a4)], [], x)).trans rfl
noncomputable abbrev rX0_enter (d : Nat) : mj_S → mj_R := mj_run cdX0 5 tX0_enter (kX0 d)
def zX0_enter (p : Nat) : Bool := false
set_option maxRecDepth 100000 in
set_option maxHeartbeats 4000000 in
theorem eX0_enter (d : Nat) (a1 : Int32) (a2 : Int32) (x : mj_X) : kX0 (d + 1) 165 [.ref 0, .int a1, .int a2] x = 
  if (x.1 0 83) = (10 : Int32) then mj_rV (kX0 d 139 [.ref 0, .int (5 : Int32)] x) fun x1 =>
   some (some (.int (0 : Int32)), x1)
  else mj_g ((x.1 0 83) + (1 : Int32)) 11 (mj_g ((x.1 0 83) + (1 : Int32)) 11 (some (some (.int (1 : Int32)), (mj_wI (mj_wI (mj_wI x 0 83 ((x.1 0 83) + (1 : Int32))) 90 ((x.1 0 83) + (1 : Int32)).toNatClampNeg a1) 91 ((x.1 0 83) + (1 : Int32)).toNatClampNeg a2)))) := (mj_run_to (cd := cdX0) (rt := 5) (tab := tX0_enter) (cal := kX0 d) zX0_enter 31 (0, [some (.ref 0), some (.int a1), some (.int a2)], [], x)).trans rfl
noncomputable abbrev rX0_caught (d : Nat) : mj_S → mj_R := mj_run cdX0 1 tX0_caught (kX0 d)
def zX0_caught (p : Nat) : Bool := bif Nat.blt p 24 then (bif Nat.beq p 0 then true else false) else (bif Nat.blt p 100 then (bif Nat.beq p 24 then true else false) else (bif Nat.beq p 100 then true else false))
set_option maxRecDepth 100000 in
set_option maxHeartbeats 4000000 in
theorem eX0_caught (d : Nat) (x : mj_X) : kX0 (d + 1) 166 [.ref 0] x = rX0_caught d (0, [some (.ref 0), none, none, none], [], x) := rfl
set_option maxRecDepth 100000 in
set_option maxHeartbeats 4000000 in
theorem bX0_caught_0 (d : Nat) (o1 : Option Value) (o2 : Option Value) (o3 : Option Value) (x : mj_X) : rX0_caught d (0, [some (.ref 0), o1, o2, o3], [], x) = 
  if (x.1 0 83) < 0 then some (some (.int (-1 : Int32)), (mj_wI x 0 83 (0 : Int32)))
  else mj_g (x.1 0 83) 11 (mj_g (x.1 90 (x.1 0 83).toNatClampNeg) 41 (rX0_caught d (24, [some (.ref 0), some (.int (x.1 90 (x.1 0 83).toNatClampNeg)), some (.int (x.1 21 (x.1 90 (x.1 0 83).toNatClampNeg).toNatClampNeg)), o3], [], x))) := (mj_run_to (cd := cdX0) (rt := 1) (tab := tX0_caught) (cal := kX0 d) zX0_caught 68 (0, [some (.ref 0), o1, o2, o3], [], x)).trans rfl
set_option maxRecDepth 100000 in
set_option maxHeartbeats 4000000 in
theorem bX0_caught_24 (d : Nat) (a1 : Int32) (a2 : Int32) (o3 : Option Value) (x : mj_X) : rX0_caught d (24, [some (.ref 0), some (.int a1), some (.int a2), o3], [], x) = mj_g (a1 + (1 : Int32)) 41 (
  if (x.1 21 (a1 + (1 : Int32)).toNatClampNeg) ≤ a2 then rX0_caught d (0, [some (.ref 0), some (.int a1), some (.int a2), o3], [], (mj_wI x 0 83 ((x.1 0 83) - (1 : Int32))))
  else mj_g (x.1 0 83) 11 (mj_g ((4 : Int32) * a2) 80000 (mj_g (((4 : Int32) * a2) + (1 : Int32)) 80000 (mj_rI (kX0 d 2 [.long (x.1 92 (x.1 0 83).toNatClampNeg).toInt64, .long (x.1 22 ((4 : Int32) * a2).toNatClampNeg).toInt64, .long ((x.1 22 (((4 : Int32) * a2) + (1 : Int32)).toNatClampNeg) - (1 : Int32)).toInt64] x) fun v2 x1 =>
   
   if v2 = 0 then rX0_caught d (24, [some (.ref 0), some (.int a1), some (.int (a2 + (1 : Int32))), some (.int ((4 : Int32) * a2))], [], x1)
   else mj_g (((4 : Int32) * a2) + (3 : Int32)) 80000 (
    if (x1.1 22 (((4 : Int32) * a2) + (3 : Int32)).toNatClampNeg) = 0 then rX0_caught d (100, [some (.ref 0), some (.int a1), some (.int a2), some (.int ((4 : Int32) * a2))], [], x1)
    else mj_g (((4 : Int32) * a2) + (3 : Int32)) 80000 (
     if (x1.1 22 (((4 : Int32) * a2) + (3 : Int32)).toNatClampNeg) = (x1.1 0 78) then rX0_caught d (100, [some (.ref 0), some (.int a1), some (.int a2), some (.int ((4 : Int32) * a2))], [], x1)
     else rX0_caught d (24, [some (.ref 0), some (.int a1), some (.int (a2 + (1 : Int32))), some (.int ((4 : Int32) * a2))], [], x1))))))) := (mj_run_to (cd := cdX0) (rt := 1) (tab := tX0_caught) (cal := kX0 d) zX0_caught 68 (24, [some (.ref 0), some (.int a1), some (.int a2), o3], [], x)).trans rfl
set_option maxRecDepth 100000 in
set_option maxHeartbeats 4000000 in
theorem bX0_caught_100 (d : Nat) (a1 : Int32) (a2 : Int32) (a3 : Int32) (x : mj_X) : rX0_caught d (100, [some (.ref 0), some (.int a1), some (.int a2), some (.int a3)], [], x) = mj_g (x.1 0 83) 11 (mj_g a1 40 (mj_rV (kX0 d 153 [.ref 0, .long (((4611686018427387904 : Int64) ||| ((x.1 0 78).toInt64 <<< ((32 : Int32).toInt64 &&& 63))) ||| ((x.1 0 79).toInt64 &&& (4294967295 : Int64)))] (mj_wI x 0 92 ((x.1 91 (x.1 0 83).toNatClampNeg) + (x.1 14 a1.toNatClampNeg)))) fun x1 =>
  mj_g (a3 + (2 : Int32)) 80000 (some (some (.int (x1.1 22 (a3 + (2 : Int32)).toNatClampNeg)), (mj_wI x1 0 78 (0 : Int32)))))) := (mj_run_to (cd := cdX0) (rt := 1) (tab := tX0_caught) (cal := kX0 d) zX0_caught 68 (100, [some (.ref 0), some (.int a1), some (.int a2), some (.int a3)], [], x)).trans rfl
