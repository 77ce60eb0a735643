noncomputable abbrev rX1_dup (d : Nat) : mj_S → mj_R := mj_run cdX1 0 tX1_dup (kX1 d)
def zX1_dup (p : Nat) : Bool := false
set_option maxRecDepth 100000 in
set_option maxHeartbeats 4000000 in
theorem eX1_dup (d : Nat) (a1 : Int32) (x : mj_X) : kX1 (d + 1) 70 [.ref 0, .int a1] x = mj_rI (kX1 d 25 [.int a1] x) fun v2 x1 =>
  
  if v2 = (2 : Int32) then mj_rV (kX1 d 42 [.ref 0, .int (92 : Int32), .int (2 : Int32), .int (4 : Int32)] x1) fun x3 =>
   some (none, x3)
  else mj_rV (kX1 d 42 [.ref 0, .int (89 : Int32), .int (1 : Int32), .int (2 : Int32)] x1) fun x4 =>
   some (none, x4) := (mj_run_to (cd := cdX1) (rt := 0) (tab := tX1_dup) (cal := kX1 d) zX1_dup 19 (0, [some (.ref 0), some (.int a1)], [], x)).trans rfl
noncomputable abbrev rX1_store (d : Nat) : mj_S → mj_R := mj_run cdX1 0 tX1_store (kX1 d)
def zX1_store (p : Nat) : Bool := false
set_option maxRecDepth 100000 in
set_option maxHeartbeats 4000000 in
theorem eX1_store (d : Nat) (a1 : Int32) (a2 : Int32) (x : mj_X) : kX1 (d + 1) 71 [.ref 0, .int a1, .int a2] x = mj_rI (kX1 d 25 [.int a2] x) fun v2 x1 =>
  mj_rV (kX1 d 58 [.ref 0, .int a1, .int (54 : Int32), .int (59 : Int32), .int a2, .int v2, .int (0 : Int32)] x1) fun x3 =>
  some (none, x3) := (mj_run_to (cd := cdX1) (rt := 0) (tab := tX1_store) (cal := kX1 d) zX1_store 12 (0, [some (.ref 0), some (.int a1), some (.int a2)], [], x)).trans rfl
noncomputable abbrev rX1_element (d : Nat) : mj_S → mj_R := mj_run cdX1 0 tX1_element (kX1 d)
def zX1_element (p : Nat) : Bool := bif Nat.beq p 45 then true else false
set_option maxRecDepth 100000 in
set_option maxHeartbeats 4000000 in
theorem eX1_element (d : Nat) (a1 : Int32) (a2 : Int32) (x : mj_X) : kX1 (d + 1) 72 [.ref 0, .int a1, .int a2] x = mj_rI (kX1 d 21 [.int a1] x) fun v2 x1 =>
  mj_rI (kX1 d 25 [.int v2] x1) fun v4 x3 =>
  
  if a1 = (5 : Int32) then rX1_element d (45, [some (.ref 0), some (.int a1), some (.int a2), some (.int v2), some (.int v4), none], [.int (51 : Int32)], x3)
  else 
   if a1 = (6 : Int32) then rX1_element d (45, [some (.ref 0), some (.int a1), some (.int a2), some (.int v2), some (.int v4), none], [.int (46 : Int32)], x3)
   else 
    if a1 = (7 : Int32) then rX1_element d (45, [some (.ref 0), some (.int a1), some (.int a2), some (.int v2), some (.int v4), none], [.int (47 : Int32)], x3)
    else rX1_element d (45, [some (.ref 0), some (.int a1), some (.int a2), some (.int v2), some (.int v4), none], [.int (49 : Int32)], x3) := (mj_run_to (cd := cdX1) (rt := 0) (tab := tX1_element) (cal := kX1 d) zX1_element 28 (0, [some (.ref 0), some (.int a1), some (.int a2), none, none, none], [], x)).trans rfl
set_option maxRecDepth 100000 in
set_option maxHeartbeats 4000000 in
theorem bX1_element_45 (d : Nat) (a1 : Int32) (a2 : Int32) (a3 : Int32) (a4 : Int32) (s0 : Int32) (x : mj_X) : rX1_element d (45, [some (.ref 0), some (.int a1), some (.int a2), some (.int a3), some (.int a4), none], [.int s0], x) = 
  if a2 = 0 then mj_rV (kX1 d 42 [.ref 0, .int s0, .int (2 : Int32), .int a4] x) fun x1 =>
   some (none, x1)
  else mj_rV (kX1 d 42 [.ref 0, .int (s0 + (33 : Int32)), .int ((2 : Int32) + a4), .int (0 : Int32)] x) fun x2 =>
   some (none, x2) := (mj_run_to (cd := cdX1) (rt := 0) (tab := tX1_element) (cal := kX1 d) zX1_element 28 (45, [some (.ref 0), some (.int a1), some (.int a2), some (.int a3), some (.int a4), none], [.int s0], x)).trans rfl
noncomputable abbrev rX1_dupBelow (d : Nat) : mj_S → mj_R := mj_run cdX1 0 tX1_dupBelow (kX1 d)
def zX1_dupBelow (p : Nat) : Bool := false
set_option maxRecDepth 100000 in
set_option maxHeartbeats 4000000 in
theorem eX1_dupBelow (d : Nat) (a1 : Int32) (x : mj_X) : kX1 (d + 1) 73 [.ref 0, .int a1] x = mj_rI (kX1 d 25 [.int a1] x) fun v2 x1 =>
  
  if v2 = (2 : Int32) then mj_rV (kX1 d 42 [.ref 0, .int (94 : Int32), .int (4 : Int32), .int (6 : Int32)] x1) fun x3 =>
   some (none, x3)
  else mj_rV (kX1 d 42 [.ref 0, .int (91 : Int32), .int (3 : Int32), .int (4 : Int32)] x1) fun x4 =>
   some (none, x4) := (mj_run_to (cd := cdX1) (rt := 0) (tab := tX1_dupBelow) (cal := kX1 d) zX1_dupBelow 19 (0, [some (.ref 0), some (.int a1)], [], x)).trans rfl
noncomputable abbrev rX1_putElement (d : Nat) : mj_S → mj_R := mj_run cdX1 0 tX1_putElement (kX1 d)
def zX1_putElement (p : Nat) : Bool := bif Nat.beq p 53 then true else false
set_option maxRecDepth 100000 in
set_option maxHeartbeats 4000000 in
theorem eX1_putElement (d : Nat) (a1 : Int32) (a2 : Int32) (a3 : Int32) (x : mj_X) : kX1 (d + 1) 74 [.ref 0, .int a1, .int a2, .int a3] x = mj_g a1 4000 (mj_g (x.1 3 a1.toNatClampNeg) 4000 (mj_g a1 4000 (mj_rV (kX1 d 40 [.ref 0, .int (x.1 3 a1.toNatClampNeg)] x) fun x1 =>
  mj_g a1 4000 (mj_rV (kX1 d 40 [.ref 0, .int (x1.1 4 a1.toNatClampNeg)] x1) fun x2 =>
  mj_rV (kX1 d 40 [.ref 0, .int a2] x2) fun x3 =>
  
  if (x.1 5 (x.1 3 a1.toNatClampNeg).toNatClampNeg) = (5 : Int32) then mj_rV (kX1 d 42 [.ref 0, .int (145 : Int32), .int (1 : Int32), .int (1 : Int32)] x3) fun x4 =>
   rX1_putElement d (53, [some (.ref 0), some (.int a1), some (.int a2), some (.int a3), some (.int (x.1 5 (x.1 3 a1.toNatClampNeg).toNatClampNeg))], [], x4)
  else rX1_putElement d (53, [some (.ref 0), some (.int a1), some (.int a2), some (.int a3), some (.int (x.1 5 (x.1 3 a1.toNatClampNeg).toNatClampNeg))], [], x3))))) := (mj_run_to (cd := cdX1) (rt := 0) (tab := tX1_putElement) (cal := kX1 d) zX1_putElement 35 (0, [some (.ref 0), some (.int a1), some (.int a2), some (.int a3), none], [], x)).trans rfl
set_option maxRecDepth 100000 in
set_option maxHeartbeats 4000000 in
theorem bX1_putElement_53 (d : Nat) (a1 : Int32) (a2 : Int32) (a3 : Int32) (a4 : Int32) (x : mj_X) : rX1_putElement d (53, [some (.ref 0), some (.int a1), some (.int a2), some (.int a3), some (.int a4)], [], x) = 
  if a3 = 0 then mj_rV (kX1 d 72 [.ref 0, .int a4, .int (1 : Int32)] x) fun x1 =>
   some (none, x1)
  else mj_rI (kX1 d 21 [.int a4] x) fun v3 x2 =>
   mj_rV (kX1 d 73 [.ref 0, .int v3] x2) fun x4 =>
   mj_rV (kX1 d 72 [.ref 0, .int a4, .int (1 : Int32)] x4) fun x5 =>
   some (none, x5) := (mj_run_to (cd := cdX1) (rt := 0) (tab := tX1_putElement) (cal := kX1 d) zX1_putElement 35 (53, [some (.ref 0), some (.int a1), some (.int a2), some (.int a3), some (.int a4)], [], x)).trans rfl
noncomputable abbrev rX1_cast (d : Nat) : mj_S → mj_R := mj_run cdX1 0 tX1_cast (kX1 d)
def zX1_cast (p : Nat) : Bool := bif Nat.blt p 30 then (bif Nat.beq p 10 then true else false) else (bif Nat.blt p 56 then (bif Nat.beq p 30 then true else false) else (bif Nat.beq p 56 then true else false))
set_option maxRecDepth 100000 in
set_option maxHeartbeats 4000000 in
theorem eX1_cast (d : Nat) (a1 : Int32) (a2 : Int32) (x : mj_X) : kX1 (d + 1) 75 [.ref 0, .int a1, .int a2] x = 
  if a2 ≤ (4 : Int32) then rX1_cast d (10, [some (.ref 0), some (.int a1), some (.int a2), none, none], [.int a2], x)
  else rX1_cast d (10, [some (.ref 0), some (.int a1), some (.int a2), none, none], [.int (1 : Int32)], x) := (mj_run_to (cd := cdX1) (rt := 0) (tab := tX1_cast) (cal := kX1 d) zX1_cast 19 (0, [some (.ref 0), some (.int a1), some (.int a2), none, none], [], x)).trans rfl
set_option maxRecDepth 100000 in
set_option maxHeartbeats 4000000 in
theorem bX1_cast_10 (d : Nat) (a1 : Int32) (a2 : Int32) (s0 : Int32) (x : mj_X) : rX1_cast d (10, [some (.ref 0), some (.int a1), some (.int a2), none, none], [.int s0], x) = 
  if a1 = s0 then rX1_cast d (56, [some (.ref 0), some (.int a1), some (.int a2), some (.int s0), none], [], x)
  else 
   if s0 ≤ a1 then rX1_cast d (30, [some (.ref 0), some (.int a1), some (.int a2), some (.int s0), none], [.int (s0 - (1 : Int32))], x)
   else rX1_cast d (30, [some (.ref 0), some (.int a1), some (.int a2), some (.int s0), none], [.int (s0 - (2 : Int32))], x) := (mj_run_to (cd := cdX1) (rt := 0) (tab := tX1_cast) (cal := kX1 d) zX1_cast 19 (10, [some (.ref 0), some (.int a1), some (.int a2), none, none], [.int s0], x)).trans rfl
set_option maxRecDepth 100000 in
set_option maxHeartbeats 4000000 in
theorem bX1_cast_30 (d : Nat) (a1 : Int32) (a2 : Int32) (a3 : Int32) (s0 : Int32) (x : mj_X) : rX1_cast d (30, [some (.ref 0), some (.int a1), some (.int a2), some (.int a3), none], [.int s0], x) = mj_rI (kX1 d 25 [.int a1] x) fun v2 x1 =>
  mj_rI (kX1 d 25 [.int a3] x1) fun v4 x3 =>
  mj_rV (kX1 d 42 [.ref 0, .int (((133 : Int32) + ((3 : Int32) * (a1 - (1 : Int32)))) + s0), .int v2, .int v4] x3) fun x5 =>
  rX1_cast d (56, [some (.ref 0), some (.int a1), some (.int a2), some (.int a3), some (.int s0)], [], x5) := (mj_run_to (cd := cdX1) (rt := 0) (tab := tX1_cast) (cal := kX1 d) zX1_cast 19 (30, [some (.ref 0), some (.int a1), some (.int a2), some (.int a3), none], [.int s0], x)).trans rfl
set_option maxRecDepth 100000 in
set_option maxHeartbeats 4000000 in
theorem bX1_cast_56 (d : Nat) (a1 : Int32) (a2 : Int32) (a3 : Int32) (o4 : Option Value) (x : mj_X) : rX1_cast d (56, [some (.ref 0), some (.int a1), some (.int a2), some (.int a3), o4], [], x) = 
  if a2 ≤ (4 : Int32) then some (none, x)
  else mj_rV (kX1 d 42 [.ref 0, .int (((145 : Int32) + a2) - (9 : Int32)), .int (1 : Int32), .int (1 : Int32)] x) fun x1 =>
   some (none, x1) := (mj_run_to (cd := cdX1) (rt := 0) (tab := tX1_cast) (cal := kX1 d) zX1_cast 19 (56, [some (.ref 0), some (.int a1), some (.int a2), some (.int a3), o4], [], x)).trans rfl
noncomputable abbrev rX1_chosen (d : Nat) : mj_S → mj_R := mj_run cdX1 0 tX1_chosen (kX1 d)
def zX1_chosen (p : Nat) : Bool := false
set_option maxRecDepth 100000 in
set_option maxHeartbeats 4000000 in
theorem eX1_chosen (d : Nat) (a1 : Int32) (a2 : Int32) (x : mj_X) : kX1 (d + 1) 76 [.ref 0, .int a1, .int a2] x = mj_rI (kX1 d 45 [.ref 0] x) fun v2 x1 =>
  mj_rI (kX1 d 45 [.ref 0] x1) fun v4 x3 =>
  mj_rV (kX1 d 46 [.ref 0, .int a1, .int (0 : Int32), .int v2] x3) fun x5 =>
  mj_g a2 4000 (mj_rV (kX1 d 40 [.ref 0, .int (x5.1 3 a2.toNatClampNeg)] x5) fun x6 =>
  mj_rV (kX1 d 47 [.ref 0, .int v4] x6) fun x7 =>
  mj_rV (kX1 d 51 [.ref 0, .int v2] x7) fun x8 =>
  mj_g a2 4000 (mj_rV (kX1 d 40 [.ref 0, .int (x8.1 4 a2.toNatClampNeg)] x8) fun x9 =>
  mj_rV (kX1 d 51 [.ref 0, .int v4] x9) fun x10 =>
  some (none, x10))) := (mj_run_to (cd := cdX1) (rt := 0) (tab := tX1_chosen) (cal := kX1 d) zX1_chosen 35 (0, [some (.ref 0), some (.int a1), some (.int a2), none, none], [], x)).trans rfl
noncomputable abbrev rX1_stepped (d : Nat) : mj_S → mj_R := mj_run cdX1 0 tX1_stepped (kX1 d)
def zX1_stepped (p : Nat) : Bool := bif Nat.blt p 81 then (bif Nat.blt p 33 then (bif Nat.beq p 21 then true else false) else (bif Nat.beq p 33 then true else false)) else (bif Nat.blt p 96 then (bif Nat.beq p 81 then true else false) else (bif Nat.blt p 116 then (bif Nat.beq p 96 then true else false) else (bif Nat.beq p 116 then true else false)))
set_option maxRecDepth 100000 in
set_option maxHeartbeats 4000000 in
theorem eX1_stepped (d : Nat) (a1 : Int32) (a2 : Int32) (a3 : Int32) (x : mj_X) : kX1 (d + 1) 77 [.ref 0, .int a1, .int a2, .int a3] x = mj_g a1 4000 (
  if (a2 - a2 / (2 : Int32) * (2 : Int32)) = 0 then rX1_stepped d (21, [some (.ref 0), some (.int a1), some (.int a2), some (.int a3), some (.int (x.1 5 a1.toNatClampNeg)), none, none, none], [.int (10 : Int32)], x)
  else rX1_stepped d (21, [some (.ref 0), some (.int a1), some (.int a2), some (.int a3), some (.int (x.1 5 a1.toNatClampNeg)), none, none, none], [.int (11 : Int32)], x)) := (mj_run_to (cd := cdX1) (rt := 0) (tab := tX1_stepped) (cal := kX1 d) zX1_stepped 110 (0, [some (.ref 0), some (.int a1), some (.int a2), some (.int a3), none, none, none, none], [], x)).trans rfl
set_option maxRecDepth 100000 in
set_option maxHeartbeats 4000000 in
theorem bX1_stepped_21 (d : Nat) (a1 : Int32) (a2 : Int32) (a3 : Int32) (a4 : Int32) (s0 : Int32) (x : mj_X) : rX1_stepped d (21, [some (.ref 0), some (.int a1), some (.int a2), some (.int a3), some (.int a4), none, none, none], [.int s0], x) = 
  if a2 < (2 : Int32) then rX1_stepped d (33, [some (.ref 0), some (.int a1), some (.int a2), some (.int a3), some (.int a4), some (.int s0), none, none], [.int (0 : Int32)], x)
  else rX1_stepped d (33, [some (.ref 0), some (.int a1), some (.int a2), some (.int a3), some (.int a4), some (.int s0), none, none], [.int (1 : Int32)], x) := (mj_run_to (cd := cdX1) (rt := 0) (tab := tX1_stepped) (cal := kX1 d) zX1_stepped 110 (21, [some (.ref 0), some (.int a1), some (.int a2), some (.int a3), some (.int a4), none, none, none], [.int s0], x)).trans rfl
set_option maxRecDepth 100000 in
set_option maxHeartbeats 4000000 in
theorem bX1_stepped_33 (d : Nat) (a1 : Int32) (a2 : Int32) (a3 : Int32) (a4 : Int32) (a5 : Int32) (s0 : Int32) (x : mj_X) : rX1_stepped d (33, [some (.ref 0), some (.int a1), some (.int a2), some (.int a3), some (.int a4), some (.int a5), none, none], [.int s0], x) = mj_g a1 4000 (
  if (x.1 2 a1.toNatClampNeg) = (6 : Int32) then 
   if a4 = (1 : Int32) then mj_g a1 4000 (mj_g (x.1 3 a1.toNatClampNeg) 4000 (
    if a3 = 0 then rX1_stepped d (81, [some (.ref 0), some (.int a1), some (.int a2), some (.int a3), some (.int a4), some (.int a5), some (.int s0), some (.int (x.1 48 (x.1 3 a1.toNatClampNeg).toNatClampNeg))], [], x)
    else 
     if s0 = 0 then rX1_stepped d (81, [some (.ref 0), some (.int a1), some (.int a2), some (.int a3), some (.int a4), some (.int a5), some (.int s0), some (.int (x.1 48 (x.1 3 a1.toNatClampNeg).toNatClampNeg))], [], x)
     else mj_rV (kX1 d 57 [.ref 0, .int (x.1 48 (x.1 3 a1.toNatClampNeg).toNatClampNeg), .int (1 : Int32)] x) fun x1 =>
      rX1_stepped d (81, [some (.ref 0), some (.int a1), some (.int a2), some (.int a3), some (.int a4), some (.int a5), some (.int s0), some (.int (x.1 48 (x.1 3 a1.toNatClampNeg).toNatClampNeg))], [], x1)))
   else rX1_stepped d (116, [some (.ref 0), some (.int a1), some (.int a2), some (.int a3), some (.int a4), some (.int a5), some (.int s0), none], [], x)
  else rX1_stepped d (116, [some (.ref 0), some (.int a1), some (.int a2), some (.int a3), some (.int a4), some (.int a5), some (.int s0), none], [], x)) := (mj_run_to (cd := cdX1) (rt := 0) (tab := tX1_stepped) (cal := kX1 d) zX1_stepped 110 (33, [some (.ref 0), some (.int a1), some (.int a2), some (.int a3), some (.int a4), some (.int a5), none, none], [.int s0], x)).trans rfl
set_option maxRecDepth 100000 in
set_option maxHeartbeats 4000000 in
theorem bX1_stepped_81 (d : Nat) (a1 : Int32) (a2 : Int32) (a3 : Int32) (a4 : Int32) (a5 : Int32) (a6 : Int32) (a7 : Int32) (x : mj_X) : rX1_stepped d (81, [some (.ref 0), some (.int a1), some (.int a2), some (.int a3), some (.int a4), some (.int a5), some (.int a6), some (.int a7)], [], x) = 
  if a5 = (10 : Int32) then rX1_stepped d (96, [some (.ref 0), some (.int a1), some (.int a2), some (.int a3), some (.int a4), some (.int a5), some (.int a6), some (.int a7)], [.int (1 : Int32), .int a7, .ref 0], x)
  else rX1_stepped d (96, [some (.ref 0), some (.int a1), some (.int a2), some (.int a3), some (.int a4), some (.int a5), some (.int a6), some (.int a7)], [.int (-1 : Int32), .int a7, .ref 0], x) := (mj_run_to (cd := cdX1) (rt := 0) (tab := tX1_stepped) (cal := kX1 d) zX1_stepped 110 (81, [some (.ref 0), some (.int a1), some (.int a2), some (.int a3), some (.int a4), some (.int a5), some (.int a6), some (.int a7)], [], x)).trans rfl
set_option maxRecDepth 100000 in
set_option maxHeartbeats 4000000 in
theorem bX1_stepped_96 (d : Nat) (a1 : Int32) (a2 : Int32) (a3 : Int32) (a4 : Int32) (a5 : Int32) (a6 : Int32) (a7 : Int32) (s1 : Int32) (s2 : Int32) (x : mj_X) : rX1_stepped d (96, [some (.ref 0), some (.int a1), some (.int a2), some (.int a3), some (.int a4), some (.int a5), some (.int a6), some (.int a7)], [.int s2, .int s1, .ref 0], x) = mj_rV (kX1 d 56 [.ref 0, .int s1, .int s2] x) fun x1 =>
  
  if a3 = 0 then some (none, x1)
  else 
   if a6 = 0 then mj_rV (kX1 d 57 [.ref 0, .int a7, .int (1 : Int32)] x1) fun x2 =>
    some (none, x2)
   else some (none, x1) := (mj_run_to (cd := cdX1) (rt := 0) (tab := tX1_stepped) (cal := kX1 d) zX1_stepped 110 (96, [some (.ref 0), some (.int a1), some (.int a2), some (.int a3), some (.int a4), some (.int a5), some (.int a6), some (.int a7)], [.int s2, .int s1, .ref 0], x)).trans rfl
set_option maxRecDepth 100000 in
set_option maxHeartbeats 4000000 in
theorem bX1_stepped_116 (d : Nat) (a1 : Int32) (a2 : Int32) (a3 : Int32) (a4 : Int32) (a5 : Int32) (a6 : Int32) (x : mj_X) : rX1_stepped d (116, [some (.ref 0), some (.int a1), some (.int a2), some (.int a3), some (.int a4), some (.int a5), some (.int a6), none], [], x) = 
  if a3 = 0 then mj_rV (kX1 d 55 [.ref 0, .int a1, .int a5, .int (-1 : Int32), .int a3] x) fun x1 =>
   some (none, x1)
  else 
   if a6 = 0 then mj_rV (kX1 d 55 [.ref 0, .int a1, .int a5, .int (-1 : Int32), .int a3] x) fun x2 =>
    some (none, x2)
   else mj_g a1 4000 (
    if (x.1 2 a1.toNatClampNeg) = (6 : Int32) then mj_g a1 4000 (mj_g (x.1 3 a1.toNatClampNeg) 4000 (mj_rV (kX1 d 57 [.ref 0, .int (x.1 48 (x.1 3 a1.toNatClampNeg).toNatClampNeg), .int a4] x) fun x3 =>
     mj_rV (kX1 d 70 [.ref 0, .int a4] x3) fun x4 =>
     mj_rV (kX1 d 61 [.ref 0, .int a4] x4) fun x5 =>
     mj_rV (kX1 d 41 [.ref 0, .int a5, .int a4] x5) fun x6 =>
     mj_rV (kX1 d 71 [.ref 0, .int (x.1 48 (x.1 3 a1.toNatClampNeg).toNatClampNeg), .int a4] x6) fun x7 =>
     some (none, x7)))
    else mj_g a1 4000 (mj_g (x.1 3 a1.toNatClampNeg) 4000 (mj_g a1 4000 (mj_rV (kX1 d 40 [.ref 0, .int (x.1 3 a1.toNatClampNeg)] x) fun x8 =>
     mj_g a1 4000 (mj_rV (kX1 d 40 [.ref 0, .int (x8.1 4 a1.toNatClampNeg)] x8) fun x9 =>
     mj_rV (kX1 d 42 [.ref 0, .int (92 : Int32), .int (2 : Int32), .int (4 : Int32)] x9) fun x10 =>
     mj_rV (kX1 d 72 [.ref 0, .int (x.1 5 (x.1 3 a1.toNatClampNeg).toNatClampNeg), .int (0 : Int32)] x10) fun x11 =>
     mj_rV (kX1 d 73 [.ref 0, .int a4] x11) fun x12 =>
     mj_rV (kX1 d 61 [.ref 0, .int a4] x12) fun x13 =>
     mj_rV (kX1 d 41 [.ref 0, .int a5, .int a4] x13) fun x14 =>
     
     if (x.1 5 (x.1 3 a1.toNatClampNeg).toNatClampNeg) = (5 : Int32) then mj_rV (kX1 d 42 [.ref 0, .int (145 : Int32), .int (1 : Int32), .int (1 : Int32)] x14) fun x15 =>
      mj_rV (kX1 d 72 [.ref 0, .int (x.1 5 (x.1 3 a1.toNatClampNeg).toNatClampNeg), .int (1 : Int32)] x15) fun x16 =>
      some (none, x16)
     else mj_rV (kX1 d 72 [.ref 0, .int (x.1 5 (x.1 3 a1.toNatClampNeg).toNatClampNeg), .int (1 : Int32)] x14) fun x17 =>
      some (none, x17)))))) := (mj_run_to (cd := cdX1) (rt := 0) (tab := tX1_stepped) (cal := kX1 d) zX1_stepped 110 (116, [some (.ref 0), some (.int a1), some (.int a2), some (.int a3), some (.int a4), some (.int a5), some (.int a6), none], [], x)).trans rfl
noncomputable abbrev rX1_invoke (d : Nat) : mj_S → mj_R := mj_run cdX1 0 tX1_invoke (kX1 d)
def zX1_invoke (p : Nat) : Bool := false
set_option maxRecDepth 100000 in
set_option maxHeartbeats 4000000 in
theorem eX1_invoke (d : Nat) (a1 : Int32) (a2 : Int32) (a3 : Int32) (a4 : Int32) (x : mj_X) : kX1 (d + 1) 78 [.ref 0, .int a1, .int a2, .int a3, .int a4] x = 
  if (x.1 0 35) = 0 then some (none, x)
  else 
   if (x.1 0 34) = 0 then mj_rI (kX1 d 64 [.ref 0, .int a1, .int a2, .int (0 : Int32)] x) fun v2 x1 =>
    mj_rV (kX1 d 42 [.ref 0, .int (184 : Int32), .int a3, .int a4] x1) fun x3 =>
    mj_rV (kX1 d 49 [.ref 0, .int v2, .int (2 : Int32)] x3) fun x4 =>
    some (none, x4)
   else some (none, x) := (mj_run_to (cd := cdX1) (rt := 0) (tab := tX1_invoke) (cal := kX1 d) zX1_invoke 26 (0, [some (.ref 0), some (.int a1), some (.int a2), some (.int a3), some (.int a4), none], [], x)).trans rfl
noncomputable abbrev rX1_either (d : Nat) : mj_S → mj_R := mj_run cdX1 0 tX1_either (kX1 d)
def zX1_either (p : Nat) : Bool := false
set_option maxRecDepth 100000 in
set_option maxHeartbeats 4000000 in
theorem eX1_either (d : Nat) (a1 : Int32) (a2 : Int32) (x : mj_X) : kX1 (d + 1) 79 [.ref 0, .int a1, .int a2] x = mj_rI (kX1 d 45 [.ref 0] x) fun v2 x1 =>
  mj_rI (kX1 d 45 [.ref 0] x1) fun v4 x3 =>
  mj_rV (kX1 d 46 [.ref 0, .int a1, .int (0 : Int32), .int v2] x3) fun x5 =>
  mj_g a2 4000 (mj_rV (kX1 d 37 [.ref 0, .int (x5.1 3 a2.toNatClampNeg)] x5) fun x6 =>
  mj_rV (kX1 d 47 [.ref 0, .int v4] x6) fun x7 =>
  mj_rV (kX1 d 51 [.ref 0, .int v2] x7) fun x8 =>
  mj_g a2 4000 (mj_rV (kX1 d 37 [.ref 0, .int (x8.1 4 a2.toNatClampNeg)] x8) fun x9 =>
  mj_rV (kX1 d 51 [.ref 0, .int v4] x9) fun x10 =>
  some (none, x10))) := (mj_run_to (cd := cdX1) (rt := 0) (tab := tX1_either) (cal := kX1 d) zX1_either 35 (0, [some (.ref 0), some (.int a1), some (.int a2), none, none], [], x)).trans rfl
noncomputable abbrev rX1_loop (d : Nat) : mj_S → mj_R := mj_run cdX1 0 tX1_loop (kX1 d)
def zX1_loop (p : Nat) : Bool := bif Nat.beq p 169 then true else false
set_option maxRecDepth 100000 in
set_option maxHeartbeats 4000000 in
theorem eX1_loop (d : Nat) (a1 : Int32) (a2 : Int32) (a3 : Int32) (x : mj_X) : kX1 (d + 1) 80 [.ref 0, .int a1, .int a2, .int a3] x = mj_rI (kX1 d 81 [.ref 0, .int (0 : Int32)] x) fun v2 x1 =>
  mj_rI (kX1 d 45 [.ref 0] x1) fun v4 x3 =>
  mj_rI (kX1 d 45 [.ref 0] x3) fun v6 x5 =>
  mj_g v2 4000 (mj_g v2 4000 (
  if a1 = (67 : Int32) then mj_rV (kX1 d 51 [.ref 0, .int v6] (mj_wI (mj_wI x5 63 v2.toNatClampNeg v4) 64 v2.toNatClampNeg v6)) fun x7 =>
   mj_rV (kX1 d 46 [.ref 0, .int a2, .int (0 : Int32), .int v4] x7) fun x8 =>
   mj_rV (kX1 d 37 [.ref 0, .int a3] x8) fun x9 =>
   mj_rV (kX1 d 47 [.ref 0, .int v6] x9) fun x10 =>
   rX1_loop d (169, [some (.ref 0), some (.int a1), some (.int a2), some (.int a3), some (.int v2), some (.int v4), some (.int v6), none], [], x10)
  else 
   if a1 = (68 : Int32) then mj_rI (kX1 d 45 [.ref 0] (mj_wI (mj_wI x5 63 v2.toNatClampNeg v4) 64 v2.toNatClampNeg v6)) fun v12 x11 =>
    mj_rV (kX1 d 51 [.ref 0, .int v12] x11) fun x13 =>
    mj_rV (kX1 d 37 [.ref 0, .int a2] x13) fun x14 =>
    mj_rV (kX1 d 51 [.ref 0, .int v6] x14) fun x15 =>
    mj_rV (kX1 d 46 [.ref 0, .int a3, .int (1 : Int32), .int v12] x15) fun x16 =>
    rX1_loop d (169, [some (.ref 0), some (.int a1), some (.int a2), some (.int a3), some (.int v2), some (.int v4), some (.int v6), some (.int v12)], [], x16)
   else mj_rI (kX1 d 45 [.ref 0] (mj_wI (mj_wI x5 63 v2.toNatClampNeg v4) 64 v2.toNatClampNeg v6)) fun v18 x17 =>
    mj_rV (kX1 d 51 [.ref 0, .int v18] x17) fun x19 =>
    mj_g a2 4000 (mj_rV (kX1 d 46 [.ref 0, .int (x19.1 3 a2.toNatClampNeg), .int (0 : Int32), .int v4] x19) fun x20 =>
    mj_rV (kX1 d 37 [.ref 0, .int a3] x20) fun x21 =>
    mj_rV (kX1 d 51 [.ref 0, .int v6] x21) fun x22 =>
    mj_rV (kX1 d 82 [.ref 0, .int v2] x22) fun x23 =>
    mj_g a2 4000 (mj_rV (kX1 d 37 [.ref 0, .int (x23.1 4 a2.toNatClampNeg)] x23) fun x24 =>
    mj_rV (kX1 d 47 [.ref 0, .int v18] x24) fun x25 =>
    rX1_loop d (169, [some (.ref 0), some (.int a1), some (.int a2), some (.int a3), some (.int v2), some (.int v4), some (.int v6), some (.int v18)], [], x25))))) := (mj_run_to (cd := cdX1) (rt := 0) (tab := tX1_loop) (cal := kX1 d) zX1_loop 96 (0, [some (.ref 0), some (.int a1), some (.int a2), some (.int a3), none, none, none, none], [], x)).trans rfl
set_option maxRecDepth 100000 in
set_option maxHeartbeats 4000000 in
theorem bX1_loop_169 (d : Nat) (a1 : Int32) (a2 : Int32) (a3 : Int32) (a4 : Int32) (a5 : Int32) (a6 : Int32) (o7 : Option Value) (x : mj_X) : rX1_loop d (169, [some (.ref 0), some (.int a1), some (.int a2), some (.int a3), some (.int a4), some (.int a5), some (.int a6), o7], [], x) = mj_rV (kX1 d 82 [.ref 0, .int a4] x) fun x1 =>
  mj_rV (kX1 d 51 [.ref 0, .int a5] (mj_wI x1 0 58 a4)) fun x2 =>
  some (none, x2) := (mj_run_to (cd := cdX1) (rt := 0) (tab := tX1_loop) (cal := kX1 d) zX1_loop 96 (169, [some (.ref 0), some (.int a1), some (.int a2), some (.int a3), some (.int a4), some (.int a5), some (.int a6), o7], [], x)).trans rfl
noncomputable abbrev rX1_open (d : Nat) : mj_S → mj_R := mj_run cdX1 1 tX1_open (kX1 d)
def zX1_open (p : Nat) : Bool := false
set_option maxRecDepth 100000 in
set_option maxHeartbeats 4000000 in
theorem eX1_open (d : Nat) (a1 : Int32) (x : mj_X) : kX1 (d + 1) 81 [.ref 0, .int a1] x = mj_g (x.1 0 58) 4000 (mj_g (x.1 0 58) 4000 (mj_g (x.1 0 58) 4000 (mj_g (x.1 0 58) 4000 (mj_g (x.1 0 58) 4000 (mj_g (x.1 0 58) 4000 (some (some (.int (x.1 0 58)), (mj_wI (mj_wI (mj_wI (mj_wI (mj_wI (mj_wI (mj_wI (mj_wI x 0 58 ((x.1 0 58) + (1 : Int32))) 61 (x.1 0 58).toNatClampNeg a1) 62 (x.1 0 58).toNatClampNeg (x.1 0 59)) 66 (x.1 0 58).toNatClampNeg (x.1 0 38)) 67 (x.1 0 58).toNatClampNeg (x.1 0 32)) 68 (x.1 0 58).toNatClampNeg (-1 : Int32)) 69 (x.1 0 58).toNatClampNeg (-1 : Int32)) 0 59 (x.1 0 58))))))))) := (mj_run_to (cd := cdX1) (rt := 1) (tab := tX1_open) (cal := kX1 d) zX1_open 49 (0, [some (.ref 0), some (.int a1), none], [], x)).trans rfl
noncomputable abbrev rX1_close (d : Nat) : mj_S → mj_R := mj_run cdX1 0 tX1_close (kX1 d)
def zX1_close (p : Nat) : Bool := false
set_option maxRecDepth 100000 in
set_option maxHeartbeats 4000000 in
theorem eX1_close (d : Nat) (a1 : Int32) (x : mj_X) : kX1 (d + 1) 82 [.ref 0, .int a1] x = mj_g a1 4000 (some (none, (mj_wI x 0 59 (x.1 62 a1.toNatClampNeg)))) := (mj_run_to (cd := cdX1) (rt := 0) (tab := tX1_close) (cal := kX1 d) zX1_close 9 (0, [some (.ref 0), some (.int a1)], [], x)).trans rfl
noncomputable abbrev rX1_target (d : Nat) : mj_S → mj_R := mj_run cdX1 1 tX1_target (kX1 d)
def zX1_target (p : Nat) : Bool := bif Nat.blt p 38 then (bif Nat.beq p 8 then true else false) else (bif Nat.beq p 38 then true else false)
set_option maxRecDepth 100000 in
set_option maxHeartbeats 4000000 in
theorem eX1_target (d : Nat) (a1 : Int32) (a2 : Int32) (x : mj_X) : kX1 (d + 1) 83 [.ref 0, .int a1, .int a2] x = rX1_target d (8, [some (.ref 0), some (.int a1), some (.int a2), some (.int a1), some (.int (x.1 0 59))], [], x) := (mj_run_to (cd := cdX1) (rt := 1) (tab := tX1_target) (cal := kX1 d) zX1_target 35 (0, [some (.ref 0), some (.int a1), some (.int a2), none, none], [], x)).trans rfl
set_option maxRecDepth 100000 in
set_option maxHeartbeats 4000000 in
theorem bX1_target_8 (d : Nat) (a1 : Int32) (a2 : Int32) (a3 : Int32) (a4 : Int32) (x : mj_X) : rX1_target d (8, [some (.ref 0), some (.int a1), some (.int a2), some (.int a3), some (.int a4)], [], x) = 
  if a4 < 0 then some (some (.int (-1 : Int32)), x)
  else mj_g a4 4000 (
   if (x.1 61 a4.toNatClampNeg) = 0 then rX1_target d (38, [some (.ref 0), some (.int a1), some (.int a2), some (.int a3), some (.int a4)], [], x)
   else mj_g a4 4000 (
    if (x.1 61 a4.toNatClampNeg) = (1 : Int32) then 
     if a2 = 0 then rX1_target d (38, [some (.ref 0), some (.int a1), some (.int a2), some (.int a3), some (.int a4)], [], x)
     else mj_g a4 4000 (rX1_target d (8, [some (.ref 0), some (.int a1), some (.int a2), some (.int a3), some (.int (x.1 62 a4.toNatClampNeg))], [], x))
    else mj_g a4 4000 (rX1_target d (8, [some (.ref 0), some (.int a1), some (.int a2), some (.int a3), some (.int (x.1 62 a4.toNatClampNeg))], [], x)))) := (mj_run_to (cd := cdX1) (rt := 1) (tab := tX1_target) (cal := kX1 d) zX1_target 35 (8, [some (.ref 0), some (.int a1), some (.int a2), some (.int a3), some (.int a4)], [], x)).trans rfl
set_option maxRecDepth 100000 in
set_option maxHeartbeats 4000000 in
theorem bX1_target_38 (d : Nat) (a1 : Int32) (a2 : Int32) (a3 : Int32) (a4 : Int32) (x : mj_X) : rX1_target d (38, [some (.ref 0), some (.int a1), some (.int a2), some (.int a3), some (.int a4)], [], x) = 
  if a3 = 0 then some (some (.int a4), x)
  else mj_g a4 4000 (rX1_target d (8, [some (.ref 0), some (.int a1), some (.int a2), some (.int (a3 + (-1 : Int32))), some (.int (x.1 62 a4.toNatClampNeg))], [], x)) := (mj_run_to (cd := cdX1) (rt := 1) (tab := tX1_target) (cal := kX1 d) zX1_target 35 (38, [some (.ref 0), some (.int a1), some (.int a2), some (.int a3), some (.int a4)], [], x)).trans rfl
noncomputable abbrev rX1_leaves (d : Nat) : mj_S → mj_R := mj_run cdX1 0 tX1_leaves (kX1 d)
def zX1_leaves (p : Nat) : Bool := false
set_option maxRecDepth 100000 in
set_option maxHeartbeats 4000000 in
theorem eX1_leaves (d : Nat) (a1 : Int32) (a2 : Int32) (x : mj_X) : kX1 (d + 1) 84 [.ref 0, .int a1, .int a2] x = mj_rI (kX1 d 85 [.ref 0, .int a1, .int (0 : Int32)] x) fun v2 x1 =>
  
  if a2 = 0 then mj_g a1 4000 (mj_rV (kX1 d 47 [.ref 0, .int (x1.1 64 a1.toNatClampNeg)] x1) fun x3 =>
   mj_rV (kX1 d 88 [.ref 0, .int v2] (mj_wI x3 0 35 (0 : Int32))) fun x4 =>
   some (none, x4))
  else mj_g a1 4000 (mj_rV (kX1 d 47 [.ref 0, .int (x1.1 63 a1.toNatClampNeg)] x1) fun x5 =>
   mj_rV (kX1 d 88 [.ref 0, .int v2] (mj_wI x5 0 35 (0 : Int32))) fun x6 =>
   some (none, x6)) := (mj_run_to (cd := cdX1) (rt := 0) (tab := tX1_leaves) (cal := kX1 d) zX1_leaves 35 (0, [some (.ref 0), some (.int a1), some (.int a2), none], [], x)).trans rfl
noncomputable abbrev rX1_ends (d : Nat) : mj_S → mj_R := mj_run cdX1 1 tX1_ends (kX1 d)
def zX1_ends (p : Nat) : Bool := bif Nat.blt p 51 then (bif Nat.beq p 14 then true else false) else (bif Nat.beq p 51 then true else false)
set_option maxRecDepth 100000 in
set_option maxHeartbeats 4000000 in
theorem eX1_ends (d : Nat) (a1 : Int32) (a2 : Int32) (x : mj_X) : kX1 (d + 1) 85 [.ref 0, .int a1, .int a2] x = rX1_ends d (14, [some (.ref 0), some (.int a1), some (.int a2), some (.int (x.1 0 59)), some (.int (x.1 0 38)), some (.int (x.1 0 59))], [], x) := (mj_run_to (cd := cdX1) (rt := 1) (tab := tX1_ends) (cal := kX1 d) zX1_ends 46 (0, [some (.ref 0), some (.int a1), some (.int a2), none, none, none], [], x)).trans rfl
set_option maxRecDepth 100000 in
set_option maxHeartbeats 4000000 in
theorem bX1_ends_14 (d : Nat) (a1 : Int32) (a2 : Int32) (a3 : Int32) (a4 : Int32) (a5 : Int32) (x : mj_X) : rX1_ends d (14, [some (.ref 0), some (.int a1), some (.int a2), some (.int a3), some (.int a4), some (.int a5)], [], x) = 
  if a5 = a1 then some (some (.int a5), (mj_wI (mj_wI x 0 59 a3) 0 38 a4))
  else 
   if (x.1 0 35) = 0 then some (some (.int a5), (mj_wI (mj_wI x 0 59 a3) 0 38 a4))
   else 
    if (x.1 0 34) = 0 then mj_g a5 4000 (
     if (x.1 61 a5.toNatClampNeg) < (2 : Int32) then rX1_ends d (51, [some (.ref 0), some (.int a1), some (.int a2), some (.int a3), some (.int a4), some (.int a5)], [], x)
     else mj_rV (kX1 d 86 [.ref 0, .int a5] x) fun x1 =>
      rX1_ends d (51, [some (.ref 0), some (.int a1), some (.int a2), some (.int a3), some (.int a4), some (.int a5)], [], x1))
    else some (some (.int a5), (mj_wI (mj_wI x 0 59 a3) 0 38 a4)) := (mj_run_to (cd := cdX1) (rt := 1) (tab := tX1_ends) (cal := kX1 d) zX1_ends 46 (14, [some (.ref 0), some (.int a1), some (.int a2), some (.int a3), some (.int a4), some (.int a5)], [], x)).trans rfl
set_option maxRecDepth 100000 in
set_option maxHeartbeats 4000000 in
theorem bX1_ends_51 (d : Nat) (a1 : Int32) (a2 : Int32) (a3 : Int32) (a4 : Int32) (a5 : Int32) (x : mj_X) : rX1_ends d (51, [some (.ref 0), some (.int a1), some (.int a2), some (.int a3), some (.int a4), some (.int a5)], [], x) = mj_g a5 4000 (
  if (x.1 61 a5.toNatClampNeg) < (3 : Int32) then mj_g a5 4000 (rX1_ends d (14, [some (.ref 0), some (.int a1), some (.int a2), some (.int a3), some (.int a4), some (.int (x.1 62 a5.toNatClampNeg))], [], x))
  else mj_g a5 4000 (mj_g a5 4000 (mj_rI (kX1 d 19 [.int (x.1 66 a5.toNatClampNeg), .int a2] (mj_wI x 0 59 (x.1 62 a5.toNatClampNeg))) fun v2 x1 =>
   mj_rV (kX1 d 87 [.ref 0, .int a5] (mj_wI x1 0 38 v2)) fun x3 =>
   mj_g a5 4000 (rX1_ends d (14, [some (.ref 0), some (.int a1), some (.int a2), some (.int a3), some (.int a4), some (.int (x3.1 62 a5.toNatClampNeg))], [], x3))))) := (mj_run_to (cd := cdX1) (rt := 1) (tab := tX1_ends) (cal := kX1 d) zX1_ends 46 (51, [some (.ref 0), some (.int a1), some (.int a2), some (.int a3), some (.int a4), some (.int a5)], [], x)).trans rfl
noncomputable abbrev rX1_piece (d : Nat) : mj_S → mj_R := mj_run cdX1 0 tX1_piece (kX1 d)
def zX1_piece (p : Nat) : Bool := bif Nat.beq p 104 then true else false
set_option maxRecDepth 100000 in
set_option maxHeartbeats 4000000 in
theorem eX1_piece (d : Nat) (a1 : Int32) (x : mj_X) : kX1 (d + 1) 86 [.ref 0, .int a1] x = mj_g a1 4000 (
  if (x.1 0 32) ≤ (x.1 67 a1.toNatClampNeg) then mj_g a1 4000 (some (none, (mj_wI x 67 a1.toNatClampNeg (x.1 0 32))))
  else 
   if (x.1 0 72) = (30000 : Int32) then some (none, (mj_wI x 0 34 (1 : Int32)))
   else mj_g a1 4000 (mj_g (x.1 0 72) 30000 (mj_g (x.1 0 72) 30000 (mj_g (x.1 0 72) 30000 (mj_g a1 4000 (
    if 0 ≤ (x.1 68 a1.toNatClampNeg) then mj_g a1 4000 (mj_g (x.1 69 a1.toNatClampNeg) 30000 (rX1_piece d (104, [some (.ref 0), some (.int a1)], [], (mj_wI (mj_wI (mj_wI (mj_wI x 70 (x.1 0 72).toNatClampNeg (x.1 67 a1.toNatClampNeg)) 71 (x.1 0 72).toNatClampNeg (x.1 0 32)) 72 (x.1 0 72).toNatClampNeg (-1 : Int32)) 72 (x.1 69 a1.toNatClampNeg).toNatClampNeg (x.1 0 72)))))
    else mj_g a1 4000 (rX1_piece d (104, [some (.ref 0), some (.int a1)], [], (mj_wI (mj_wI (mj_wI (mj_wI x 70 (x.1 0 72).toNatClampNeg (x.1 67 a1.toNatClampNeg)) 71 (x.1 0 72).toNatClampNeg (x.1 0 32)) 72 (x.1 0 72).toNatClampNeg (-1 : Int32)) 68 a1.toNatClampNeg (x.1 0 72)))))))))) := (mj_run_to (cd := cdX1) (rt := 0) (tab := tX1_piece) (cal := kX1 d) zX1_piece 69 (0, [some (.ref 0), some (.int a1)], [], x)).trans rfl
set_option maxRecDepth 100000 in
set_option maxHeartbeats 4000000 in
theorem bX1_piece_104 (d : Nat) (a1 : Int32) (x : mj_X) : rX1_piece d (104, [some (.ref 0), some (.int a1)], [], x) = mj_g a1 4000 (mj_g a1 4000 (some (none, (mj_wI (mj_wI (mj_wI x 69 a1.toNatClampNeg (x.1 0 72)) 0 72 ((x.1 0 72) + (1 : Int32))) 67 a1.toNatClampNeg (x.1 0 32))))) := (mj_run_to (cd := cdX1) (rt := 0) (tab := tX1_piece) (cal := kX1 d) zX1_piece 69 (104, [some (.ref 0), some (.int a1)], [], x)).trans rfl
noncomputable abbrev rX1_end (d : Nat) : mj_S → mj_R := mj_run cdX1 0 tX1_end (kX1 d)
def zX1_end (p : Nat) : Bool := false
set_option maxRecDepth 100000 in
set_option maxHeartbeats 4000000 in
theorem eX1_end (d : Nat) (a1 : Int32) (x : mj_X) : kX1 (d + 1) 87 [.ref 0, .int a1] x = mj_g a1 4000 (
  if (x.1 61 a1.toNatClampNeg) = (4 : Int32) then mj_g a1 4000 (mj_rV (kX1 d 57 [.ref 0, .int (x.1 65 a1.toNatClampNeg), .int (5 : Int32)] x) fun x1 =>
   mj_rV (kX1 d 42 [.ref 0, .int (195 : Int32), .int (1 : Int32), .int (0 : Int32)] x1) fun x2 =>
   some (none, x2))
  else mj_g a1 4000 (mj_rV (kX1 d 37 [.ref 0, .int (x.1 65 a1.toNatClampNeg)] x) fun x3 =>
   some (none, x3))) := (mj_run_to (cd := cdX1) (rt := 0) (tab := tX1_end) (cal := kX1 d) zX1_end 29 (0, [some (.ref 0), some (.int a1)], [], x)).trans rfl
noncomputable abbrev rX1_goOn (d : Nat) : mj_S → mj_R := mj_run cdX1 0 tX1_goOn (kX1 d)
def zX1_goOn (p : Nat) : Bool := bif Nat.beq p 5 then true else false
set_option maxRecDepth 100000 in
set_option maxHeartbeats 4000000 in
theorem eX1_goOn (d : Nat) (a1 : Int32) (x : mj_X) : kX1 (d + 1) 88 [.ref 0, .int a1] x = rX1_goOn d (5, [some (.ref 0), some (.int a1), some (.int (x.1 0 59))], [], x) := (mj_run_to (cd := cdX1) (rt := 0) (tab := tX1_goOn) (cal := kX1 d) zX1_goOn 19 (0, [some (.ref 0), some (.int a1), none], [], x)).trans rfl
set_option maxRecDepth 100000 in
set_option maxHeartbeats 4000000 in
theorem bX1_goOn_5 (d : Nat) (a1 : Int32) (a2 : Int32) (x : mj_X) : rX1_goOn d (5, [some (.ref 0), some (.int a1), some (.int a2)], [], x) = 
  if a2 = a1 then some (none, x)
  else mj_g a2 4000 (mj_g a2 4000 (rX1_goOn d (5, [some (.ref 0), some (.int a1), some (.int (x.1 62 a2.toNatClampNeg))], [], (mj_wI x 67 a2.toNatClampNeg (x.1 0 32))))) := (mj_run_to (cd := cdX1) (rt := 0) (tab := tX1_goOn) (cal := kX1 d) zX1_goOn 19 (5, [some (.ref 0), some (.int a1), some (.int a2)], [], x)).trans rfl
noncomputable abbrev rX1_returns (d : Nat) : mj_S → mj_R := mj_run cdX1 0 tX1_returns (kX1 d)
def zX1_returns (p : Nat) : Bool := bif Nat.blt p 103 then (bif Nat.blt p 32 then (bif Nat.beq p 14 then true else false) else (bif Nat.blt p 72 then (bif Nat.beq p 32 then true else false) else (bif Nat.beq p 72 then true else false))) else (bif Nat.blt p 128 then (bif Nat.beq p 103 then true else false) else (bif Nat.blt p 146 then (bif Nat.beq p 128 then true else false) else (bif Nat.beq p 146 then true else false)))
set_option maxRecDepth 100000 in
set_option maxHeartbeats 4000000 in
theorem eX1_returns (d : Nat) (a1 : Int32) (x : mj_X) : kX1 (d + 1) 89 [.ref 0, .int a1] x = 
  if a1 = (-1 : Int32) then rX1_returns d (14, [some (.ref 0), some (.int a1), some (.int (0 : Int32)), some (.int (0 : Int32)), none, none, none], [], x)
  else mj_rV (kX1 d 40 [.ref 0, .int a1] x) fun x1 =>
   rX1_returns d (14, [some (.ref 0), some (.int a1), some (.int (0 : Int32)), some (.int (0 : Int32)), none, none, none], [], x1) := (mj_run_to (cd := cdX1) (rt := 0) (tab := tX1_returns) (cal := kX1 d) zX1_returns 27 (0, [some (.ref 0), some (.int a1), none, none, none, none, none], [], x)).trans rfl
set_option maxRecDepth 100000 in
set_option maxHeartbeats 4000000 in
theorem bX1_returns_14 (d : Nat) (a1 : Int32) (a2 : Int32) (a3 : Int32) (x : mj_X) : rX1_returns d (14, [some (.ref 0), some (.int a1), some (.int a2), some (.int a3), none, none, none], [], x) = 
  if a1 = (-1 : Int32) then rX1_returns d (32, [some (.ref 0), some (.int a1), some (.int a2), some (.int a3), none, none, none], [.int (0 : Int32)], x)
  else mj_rI (kX1 d 90 [.ref 0, .int (-1 : Int32)] x) fun v2 x1 =>
   
   if v2 = 0 then rX1_returns d (32, [some (.ref 0), some (.int a1), some (.int a2), some (.int a3), none, none, none], [.int (0 : Int32)], x1)
   else rX1_returns d (32, [some (.ref 0), some (.int a1), some (.int a2), some (.int a3), none, none, none], [.int (1 : Int32)], x1) := (mj_run_to (cd := cdX1) (rt := 0) (tab := tX1_returns) (cal := kX1 d) zX1_returns 27 (14, [some (.ref 0), some (.int a1), some (.int a2), some (.int a3), none, none, none], [], x)).trans rfl
set_option maxRecDepth 100000 in
set_option maxHeartbeats 4000000 in
theorem bX1_returns_32 (d : Nat) (a1 : Int32) (a2 : Int32) (a3 : Int32) (s0 : Int32) (x : mj_X) : rX1_returns d (32, [some (.ref 0), some (.int a1), some (.int a2), some (.int a3), none, none, none], [.int s0], x) = 
  if s0 = 0 then rX1_returns d (72, [some (.ref 0), some (.int a1), some (.int a2), some (.int a3), some (.int s0), some (.int (x.1 0 38)), none], [], x)
  else mj_g a1 4000 (mj_rI (kX1 d 36 [.ref 0, .int (x.1 5 a1.toNatClampNeg)] x) fun v2 x1 =>
   mj_g a1 4000 (mj_rV (kX1 d 71 [.ref 0, .int v2, .int (x1.1 5 a1.toNatClampNeg)] x1) fun x3 =>
   rX1_returns d (72, [some (.ref 0), some (.int a1), some (.int (x3.1 0 38)), some (.int v2), some (.int s0), some (.int (x.1 0 38)), none], [], x3))) := (mj_run_to (cd := cdX1) (rt := 0) (tab := tX1_returns) (cal := kX1 d) zX1_returns 27 (32, [some (.ref 0), some (.int a1), some (.int a2), some (.int a3), none, none, none], [.int s0], x)).trans rfl
set_option maxRecDepth 100000 in
set_option maxHeartbeats 4000000 in
theorem bX1_returns_72 (d : Nat) (a1 : Int32) (a2 : Int32) (a3 : Int32) (a4 : Int32) (a5 : Int32) (x : mj_X) : rX1_returns d (72, [some (.ref 0), some (.int a1), some (.int a2), some (.int a3), some (.int a4), some (.int a5), none], [], x) = mj_rI (kX1 d 85 [.ref 0, .int (-1 : Int32), .int a2] x) fun v2 x1 =>
  
  if a4 = 0 then rX1_returns d (103, [some (.ref 0), some (.int a1), some (.int a2), some (.int a3), some (.int a4), some (.int a5), some (.int v2)], [], x1)
  else 
   if (x1.1 0 35) = 0 then rX1_returns d (103, [some (.ref 0), some (.int a1), some (.int a2), some (.int a3), some (.int a4), some (.int a5), some (.int v2)], [], x1)
   else mj_g a1 4000 (mj_rV (kX1 d 57 [.ref 0, .int a3, .int (x1.1 5 a1.toNatClampNeg)] x1) fun x3 =>
    rX1_returns d (103, [some (.ref 0), some (.int a1), some (.int a2), some (.int a3), some (.int a4), some (.int a5), some (.int v2)], [], x3)) := (mj_run_to (cd := cdX1) (rt := 0) (tab := tX1_returns) (cal := kX1 d) zX1_returns 27 (72, [some (.ref 0), some (.int a1), some (.int a2), some (.int a3), some (.int a4), some (.int a5), none], [], x)).trans rfl
set_option maxRecDepth 100000 in
set_option maxHeartbeats 4000000 in
theorem bX1_returns_103 (d : Nat) (a1 : Int32) (a2 : Int32) (a3 : Int32) (a4 : Int32) (a5 : Int32) (a6 : Int32) (x : mj_X) : rX1_returns d (103, [some (.ref 0), some (.int a1), some (.int a2), some (.int a3), some (.int a4), some (.int a5), some (.int a6)], [], x) = 
  if a1 = (-1 : Int32) then rX1_returns d (128, [some (.ref 0), some (.int a1), some (.int a2), some (.int a3), some (.int a4), some (.int a5), some (.int a6)], [.int (177 : Int32), .ref 0], x)
  else mj_g a1 4000 (mj_rI (kX1 d 59 [.int (x.1 5 a1.toNatClampNeg)] x) fun v2 x1 =>
   rX1_returns d (128, [some (.ref 0), some (.int a1), some (.int a2), some (.int a3), some (.int a4), some (.int a5), some (.int a6)], [.int ((172 : Int32) + v2), .ref 0], x1)) := (mj_run_to (cd := cdX1) (rt := 0) (tab := tX1_returns) (cal := kX1 d) zX1_returns 27 (103, [some (.ref 0), some (.int a1), some (.int a2), some (.int a3), some (.int a4), some (.int a5), some (.int a6)], [], x)).trans rfl
set_option maxRecDepth 100000 in
set_option maxHeartbeats 4000000 in
theorem bX1_returns_128 (d : Nat) (a1 : Int32) (a2 : Int32) (a3 : Int32) (a4 : Int32) (a5 : Int32) (a6 : Int32) (s1 : Int32) (x : mj_X) : rX1_returns d (128, [some (.ref 0), some (.int a1), some (.int a2), some (.int a3), some (.int a4), some (.int a5), some (.int a6)], [.int s1, .ref 0], x) = 
  if a1 = (-1 : Int32) then rX1_returns d (146, [some (.ref 0), some (.int a1), some (.int a2), some (.int a3), some (.int a4), some (.int a5), some (.int a6)], [.int (0 : Int32), .int s1, .ref 0], x)
  else mj_g a1 4000 (mj_rI (kX1 d 25 [.int (x.1 5 a1.toNatClampNeg)] x) fun v2 x1 =>
   rX1_returns d (146, [some (.ref 0), some (.int a1), some (.int a2), some (.int a3), some (.int a4), some (.int a5), some (.int a6)], [.int v2, .int s1, .ref 0], x1)) := (mj_run_to (cd := cdX1) (rt := 0) (tab := tX1_returns) (cal := kX1 d) zX1_returns 27 (128, [some (.ref 0), some (.int a1), some (.int a2), some (.int a3), some (.int a4), some (.int a5), some (.int a6)], [.int s1, .ref 0], x)).trans rfl
set_option maxRecDepth 100000 in
set_option maxHeartbeats 4000000 in
theorem bX1_returns_146 (d : Nat) (a1 : Int32) (a2 : Int32) (a3 : Int32) (a4 : Int32) (a5 : Int32) (a6 : Int32) (s1 : Int32) (s2 : Int32) (x : mj_X) : rX1_returns d (146, [some (.ref 0), some (.int a1), some (.int a2), some (.int a3), some (.int a4), some (.int a5), some (.int a6)], [.int s2, .int s1, .ref 0], x) = mj_rV (kX1 d 42 [.ref 0, .int s1, .int s2, .int (0 : Int32)] x) fun x1 =>
  mj_rV (kX1 d 88 [.ref 0, .int a6] (mj_wI (mj_wI x1 0 35 (0 : Int32)) 0 38 a5)) fun x2 =>
  some (none, x2) := (mj_run_to (cd := cdX1) (rt := 0) (tab := tX1_returns) (cal := kX1 d) zX1_returns 27 (146, [some (.ref 0), some (.int a1), some (.int a2), some (.int a3), some (.int a4), some (.int a5), some (.int a6)], [.int s2, .int s1, .ref 0], x)).trans rfl
noncomputable abbrev rX1_leavesEnds (d : Nat) : mj_S → mj_R := mj_run cdX1 5 tX1_leavesEnds (kX1 d)
def zX1_leavesEnds (p : Nat) : Bool := bif Nat.blt p 26 then (bif Nat.beq p 7 then true else false) else (bif Nat.beq p 26 then true else false)
set_option maxRecDepth 100000 in
set_option maxHeartbeats 4000000 in
theorem eX1_leavesEnds (d : Nat) (a1 : Int32) (x : mj_X) : kX1 (d + 1) 90 [.ref 0, .int a1] x = rX1_leavesEnds d (7, [some (.ref 0), some (.int a1), some (.int (0 : Int32)), some (.int (x.1 0 59))], [], x) := (mj_run_to (cd := cdX1) (rt := 5) (tab := tX1_leavesEnds) (cal := kX1 d) zX1_leavesEnds 26 (0, [some (.ref 0), some (.int a1), none, none], [], x)).trans rfl
set_option maxRecDepth 100000 in
set_option maxHeartbeats 4000000 in
theorem bX1_leavesEnds_7 (d : Nat) (a1 : Int32) (a2 : Int32) (a3 : Int32) (x : mj_X) : rX1_leavesEnds d (7, [some (.ref 0), some (.int a1), some (.int a2), some (.int a3)], [], x) = 
  if a3 = a1 then mj_gb a2 (some (some (.int a2), x))
  else 
   if a2 = 0 then mj_g a3 4000 (
    if (x.1 61 a3.toNatClampNeg) < (3 : Int32) then mj_g a3 4000 (rX1_leavesEnds d (7, [some (.ref 0), some (.int a1), some (.int (0 : Int32)), some (.int (x.1 62 a3.toNatClampNeg))], [], x))
    else rX1_leavesEnds d (26, [some (.ref 0), some (.int a1), some (.int a2), some (.int a3)], [], x))
   else rX1_leavesEnds d (26, [some (.ref 0), some (.int a1), some (.int a2), some (.int a3)], [], x) := (mj_run_to (cd := cdX1) (rt := 5) (tab := tX1_leavesEnds) (cal := kX1 d) zX1_leavesEnds 26 (7, [some (.ref 0), some (.int a1), some (.int a2), some (.int a3)], [], x)).trans rfl
set_option maxRecDepth 100000 in
set_option maxHeartbeats 4000000 in
theorem bX1_leavesEnds_26 (d : Nat) (a1 : Int32) (a2 : Int32) (a3 : Int32) (x : mj_X) : rX1_leavesEnds d (26, [some (.ref 0), some (.int a1), some (.int a2), some (.int a3)], [], x) = mj_g a3 4000 (rX1_leavesEnds d (7, [some (.ref 0), some (.int a1), some (.int (1 : Int32)), some (.int (x.1 62 a3.toNatClampNeg))], [], x)) := (mj_run_to (cd := cdX1) (rt := 5) (tab := tX1_leavesEnds) (cal := kX1 d) zX1_leavesEnds 26 (26, [some (.ref 0), some (.int a1), some (.int a2), some (.int a3)], [], x)).trans rfl
noncomputable abbrev rX1_caught (d : Nat) : mj_S → mj_R := mj_run cdX1 0 tX1_caught (kX1 d)
def zX1_caught (p : Nat) : Bool := bif Nat.blt p 109 then (bif Nat.blt p 90 then (bif Nat.beq p 36 then true else false) else (bif Nat.beq p 90 then true else false)) else (bif Nat.blt p 176 then (bif Nat.beq p 109 then true else false) else (bif Nat.beq p 176 then true else false))
set_option maxRecDepth 100000 in
set_option maxHeartbeats 4000000 in
theorem eX1_caught (d : Nat) (a1 : Int32) (a2 : Int32) (x : mj_X) : kX1 (d + 1) 91 [.ref 0, .int a1, .int a2] x = mj_rI (kX1 d 81 [.ref 0, .int (2 : Int32)] x) fun v2 x1 =>
  mj_rI (kX1 d 45 [.ref 0] x1) fun v4 x3 =>
  mj_rV (kX1 d 37 [.ref 0, .int a1] x3) fun x5 =>
  mj_rV (kX1 d 86 [.ref 0, .int v2] x5) fun x6 =>
  mj_rV (kX1 d 82 [.ref 0, .int v2] x6) fun x7 =>
  mj_rV (kX1 d 47 [.ref 0, .int v4] x7) fun x8 =>
  rX1_caught d (36, [some (.ref 0), some (.int a1), some (.int a2), some (.int v2), some (.int v4), some (.int a2), none, none, none, none], [], x8) := (mj_run_to (cd := cdX1) (rt := 0) (tab := tX1_caught) (cal := kX1 d) zX1_caught 53 (0, [some (.ref 0), some (.int a1), some (.int a2), none, none, none, none, none, none, none], [], x)).trans rfl
set_option maxRecDepth 100000 in
set_option maxHeartbeats 4000000 in
theorem bX1_caught_36 (d : Nat) (a1 : Int32) (a2 : Int32) (a3 : Int32) (a4 : Int32) (a5 : Int32) (o6 : Option Value) (o7 : Option Value) (o8 : Option Value) (o9 : Option Value) (x : mj_X) : rX1_caught d (36, [some (.ref 0), some (.int a1), some (.int a2), some (.int a3), some (.int a4), some (.int a5), o6, o7, o8, o9], [], x) = 
  if a5 = (-1 : Int32) then mj_rV (kX1 d 51 [.ref 0, .int a4] (mj_wI x 0 58 a3)) fun x1 =>
   some (none, x1)
  else mj_g a3 4000 (
   if (x.1 68 a3.toNatClampNeg) < 0 then mj_rV (kX1 d 51 [.ref 0, .int a4] (mj_wI x 0 58 a3)) fun x2 =>
    some (none, x2)
   else 
    if (x.1 0 34) = 0 then mj_g a5 4000 (mj_g (x.1 3 a5.toNatClampNeg) 4000 (
     if (x.1 2 (x.1 3 a5.toNatClampNeg).toNatClampNeg) = (78 : Int32) then rX1_caught d (90, [some (.ref 0), some (.int a1), some (.int a2), some (.int a3), some (.int a4), some (.int a5), some (.int (x.1 3 a5.toNatClampNeg)), some (.int (x.1 0 38)), o8, o9], [.int (1 : Int32)], x)
     else rX1_caught d (90, [some (.ref 0), some (.int a1), some (.int a2), some (.int a3), some (.int a4), some (.int a5), some (.int (x.1 3 a5.toNatClampNeg)), some (.int (x.1 0 38)), o8, o9], [.int (0 : Int32)], x)))
    else mj_rV (kX1 d 51 [.ref 0, .int a4] (mj_wI x 0 58 a3)) fun x3 =>
     some (none, x3)) := (mj_run_to (cd := cdX1) (rt := 0) (tab := tX1_caught) (cal := kX1 d) zX1_caught 53 (36, [some (.ref 0), some (.int a1), some (.int a2), some (.int a3), some (.int a4), some (.int a5), o6, o7, o8, o9], [], x)).trans rfl
set_option maxRecDepth 100000 in
set_option maxHeartbeats 4000000 in
theorem bX1_caught_90 (d : Nat) (a1 : Int32) (a2 : Int32) (a3 : Int32) (a4 : Int32) (a5 : Int32) (a6 : Int32) (a7 : Int32) (o8 : Option Value) (o9 : Option Value) (s0 : Int32) (x : mj_X) : rX1_caught d (90, [some (.ref 0), some (.int a1), some (.int a2), some (.int a3), some (.int a4), some (.int a5), some (.int a6), some (.int a7), o8, o9], [.int s0], x) = 
  if s0 = 0 then rX1_caught d (109, [some (.ref 0), some (.int a1), some (.int a2), some (.int a3), some (.int a4), some (.int a5), some (.int a6), some (.int a7), some (.int s0), o9], [.int a6], x)
  else mj_g a6 4000 (rX1_caught d (109, [some (.ref 0), some (.int a1), some (.int a2), some (.int a3), some (.int a4), some (.int a5), some (.int a6), some (.int a7), some (.int s0), o9], [.int (x.1 4 a6.toNatClampNeg)], x)) := (mj_run_to (cd := cdX1) (rt := 0) (tab := tX1_caught) (cal := kX1 d) zX1_caught 53 (90, [some (.ref 0), some (.int a1), some (.int a2), some (.int a3), some (.int a4), some (.int a5), some (.int a6), some (.int a7), o8, o9], [.int s0], x)).trans rfl
set_option maxRecDepth 100000 in
set_option maxHeartbeats 4000000 in
theorem bX1_caught_109 (d : Nat) (a1 : Int32) (a2 : Int32) (a3 : Int32) (a4 : Int32) (a5 : Int32) (a6 : Int32) (a7 : Int32) (a8 : Int32) (o9 : Option Value) (s0 : Int32) (x : mj_X) : rX1_caught d (109, [some (.ref 0), some (.int a1), some (.int a2), some (.int a3), some (.int a4), some (.int a5), some (.int a6), some (.int a7), some (.int a8), o9], [.int s0], x) = mj_g s0 4000 (mj_rV (kX1 d 92 [.ref 0, .int a3, .int (x.1 3 s0.toNatClampNeg)] x) fun x1 =>
  
  if a8 = 0 then mj_rV (kX1 d 42 [.ref 0, .int (87 : Int32), .int (1 : Int32), .int (0 : Int32)] x1) fun x2 =>
   rX1_caught d (176, [some (.ref 0), some (.int a1), some (.int a2), some (.int a3), some (.int a4), some (.int a5), some (.int a6), some (.int a7), some (.int a8), some (.int s0)], [], x2)
  else mj_g a6 4000 (mj_rV (kX1 d 35 [.ref 0, .int (x1.1 3 a6.toNatClampNeg)] x1) fun x3 =>
   mj_rV (kX1 d 78 [.ref 0, .int (72 : Int32), .int (0 : Int32), .int (1 : Int32), .int (1 : Int32)] x3) fun x4 =>
   mj_g a6 4000 (mj_g (x4.1 3 a6.toNatClampNeg) 4000 (mj_rV (kX1 d 71 [.ref 0, .int (x4.1 48 (x4.1 3 a6.toNatClampNeg).toNatClampNeg), .int (1 : Int32)] x4) fun x5 =>
   rX1_caught d (176, [some (.ref 0), some (.int a1), some (.int a2), some (.int a3), some (.int a4), some (.int a5), some (.int a6), some (.int a7), some (.int a8), some (.int s0)], [], x5))))) := (mj_run_to (cd := cdX1) (rt := 0) (tab := tX1_caught) (cal := kX1 d) zX1_caught 53 (109, [some (.ref 0), some (.int a1), some (.int a2), some (.int a3), some (.int a4), some (.int a5), some (.int a6), some (.int a7), some (.int a8), o9], [.int s0], x)).trans rfl
set_option maxRecDepth 100000 in
set_option maxHeartbeats 4000000 in
theorem bX1_caught_176 (d : Nat) (a1 : Int32) (a2 : Int32) (a3 : Int32) (a4 : Int32) (a5 : Int32) (a6 : Int32) (a7 : Int32) (a8 : Int32) (a9 : Int32) (x : mj_X) : rX1_caught d (176, [some (.ref 0), some (.int a1), some (.int a2), some (.int a3), some (.int a4), some (.int a5), some (.int a6), some (.int a7), some (.int a8), some (.int a9)], [], x) = mj_g a9 4000 (mj_rV (kX1 d 37 [.ref 0, .int (x.1 4 a9.toNatClampNeg)] x) fun x1 =>
  mj_rV (kX1 d 47 [.ref 0, .int a4] (mj_wI x1 0 38 a7)) fun x2 =>
  mj_g a5 4000 (rX1_caught d (36, [some (.ref 0), some (.int a1), some (.int a2), some (.int a3), some (.int a4), some (.int (x2.1 4 a5.toNatClampNeg)), some (.int a6), some (.int a7), some (.int a8), some (.int a9)], [], x2))) := (mj_run_to (cd := cdX1) (rt := 0) (tab := tX1_caught) (cal := kX1 d) zX1_caught 53 (176, [some (.ref 0), some (.int a1), some (.int a2), some (.int a3), some (.int a4), some (.int a5), some (.int a6), some (.int a7), some (.int a8), some (.int a9)], [], x)).trans rfl
noncomputable abbrev rX1_handler (d : Nat) : mj_S → mj_R := mj_run cdX1 0 tX1_handler (kX1 d)
def zX1_handler (p : Nat) : Bool := bif Nat.beq p 7 then true else false
set_option maxRecDepth 100000 in
set_option maxHeartbeats 4000000 in
theorem eX1_handler (d : Nat) (a1 : Int32) (a2 : Int32) (x : mj_X) : kX1 (d + 1) 92 [.ref 0, .int a1, .int a2] x = mj_g a1 4000 (rX1_handler d (7, [some (.ref 0), some (.int a1), some (.int a2), some (.int (x.1 68 a1.toNatClampNeg))], [], x)) := (mj_run_to (cd := cdX1) (rt := 0) (tab := tX1_handler) (cal := kX1 d) zX1_handler 38 (0, [some (.ref 0), some (.int a1), some (.int a2), none], [], x)).trans rfl
set_option maxRecDepth 100000 in
set_option maxHeartbeats 4000000 in
theorem bX1_handler_7 (d : Nat) (a1 : Int32) (a2 : Int32) (a3 : Int32) (x : mj_X) : rX1_handler d (7, [some (.ref 0), some (.int a1), some (.int a2), some (.int a3)], [], x) = 
  if a3 = (-1 : Int32) then mj_rI (kX1 d 19 [.int (x.1 0 37), .int (1 : Int32)] (mj_wI (mj_wI x 0 35 (1 : Int32)) 0 36 (1 : Int32))) fun v2 x1 =>
   some (none, (mj_wI x1 0 37 v2))
  else mj_g a3 30000 (mj_g a3 30000 (mj_rV (kX1 d 93 [.ref 0, .int (x.1 70 a3.toNatClampNeg), .int (x.1 71 a3.toNatClampNeg), .int (x.1 0 32), .int a2] x) fun x3 =>
   mj_g a3 30000 (rX1_handler d (7, [some (.ref 0), some (.int a1), some (.int a2), some (.int (x3.1 72 a3.toNatClampNeg))], [], x3)))) := (mj_run_to (cd := cdX1) (rt := 0) (tab := tX1_handler) (cal := kX1 d) zX1_handler 38 (7, [some (.ref 0), some (.int a1), some (.int a2), some (.int a3)], [], x)).trans rfl
