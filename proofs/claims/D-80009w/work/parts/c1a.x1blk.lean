noncomputable abbrev rX1_node (d : Nat) : mj_S → mj_R := mj_run cdX1 1 tX1_node (kX1 d)
def zX1_node (p : Nat) : Bool := bif Nat.blt p 75 then (bif Nat.blt p 58 then (bif Nat.beq p 39 then true else false) else (bif Nat.beq p 58 then true else false)) else (bif Nat.blt p 90 then (bif Nat.beq p 75 then true else false) else (bif Nat.blt p 205 then (bif Nat.beq p 90 then true else false) else (bif Nat.beq p 205 then true else false)))
set_option maxRecDepth 100000 in
set_option maxHeartbeats 4000000 in
theorem eX1_node (d : Nat) (a1 : Int32) (a2 : Int32) (a3 : Int32) (x : mj_X) : kX1 (d + 1) 1 [.ref 0, .int a1, .int a2, .int a3] x = mj_rI (kX1 d 2 [.int a1] x) fun v2 x1 =>
  
  if v2 = 0 then some (some (.int (-1 : Int32)), x1)
  else mj_rI (kX1 d 5 [.ref 0, .int a1, .int a2, .int a3] x1) fun v4 x3 =>
   
   if v4 = 0 then some (some (.int (-2 : Int32)), x3)
   else mj_rI (kX1 d 17 [.int a1] x3) fun v6 x5 =>
    
    if v6 = 0 then rX1_node d (39, [some (.ref 0), some (.int a1), some (.int a2), some (.int a3), none, none, none, none], [.int (0 : Int32)], x5)
    else 
     if a2 = (-1 : Int32) then rX1_node d (39, [some (.ref 0), some (.int a1), some (.int a2), some (.int a3), none, none, none, none], [.int (0 : Int32)], x5)
     else rX1_node d (39, [some (.ref 0), some (.int a1), some (.int a2), some (.int a3), none, none, none, none], [.int (1 : Int32)], x5) := (mj_run_to (cd := cdX1) (rt := 1) (tab := tX1_node) (cal := kX1 d) zX1_node 71 (0, [some (.ref 0), some (.int a1), some (.int a2), some (.int a3), none, none, none, none], [], x)).trans rfl
set_option maxRecDepth 100000 in
set_option maxHeartbeats 4000000 in
theorem bX1_node_39 (d : Nat) (a1 : Int32) (a2 : Int32) (a3 : Int32) (s0 : Int32) (x : mj_X) : rX1_node d (39, [some (.ref 0), some (.int a1), some (.int a2), some (.int a3), none, none, none, none], [.int s0], x) = mj_rI (kX1 d 18 [.int a1] x) fun v2 x1 =>
  
  if v2 = 0 then rX1_node d (58, [some (.ref 0), some (.int a1), some (.int a2), some (.int a3), some (.int s0), none, none, none], [.int (0 : Int32)], x1)
  else 
   if a3 = (-1 : Int32) then rX1_node d (58, [some (.ref 0), some (.int a1), some (.int a2), some (.int a3), some (.int s0), none, none, none], [.int (0 : Int32)], x1)
   else rX1_node d (58, [some (.ref 0), some (.int a1), some (.int a2), some (.int a3), some (.int s0), none, none, none], [.int (1 : Int32)], x1) := (mj_run_to (cd := cdX1) (rt := 1) (tab := tX1_node) (cal := kX1 d) zX1_node 71 (39, [some (.ref 0), some (.int a1), some (.int a2), some (.int a3), none, none, none, none], [.int s0], x)).trans rfl
set_option maxRecDepth 100000 in
set_option maxHeartbeats 4000000 in
theorem bX1_node_58 (d : Nat) (a1 : Int32) (a2 : Int32) (a3 : Int32) (a4 : Int32) (s0 : Int32) (x : mj_X) : rX1_node d (58, [some (.ref 0), some (.int a1), some (.int a2), some (.int a3), some (.int a4), none, none, none], [.int s0], x) = 
  if a4 = 0 then rX1_node d (75, [some (.ref 0), some (.int a1), some (.int a2), some (.int a3), some (.int a4), some (.int s0), none, none], [.int (0 : Int32)], x)
  else mj_g a2 4000 (rX1_node d (75, [some (.ref 0), some (.int a1), some (.int a2), some (.int a3), some (.int a4), some (.int s0), none, none], [.int (x.1 6 a2.toNatClampNeg)], x)) := (mj_run_to (cd := cdX1) (rt := 1) (tab := tX1_node) (cal := kX1 d) zX1_node 71 (58, [some (.ref 0), some (.int a1), some (.int a2), some (.int a3), some (.int a4), none, none, none], [.int s0], x)).trans rfl
set_option maxRecDepth 100000 in
set_option maxHeartbeats 4000000 in
theorem bX1_node_75 (d : Nat) (a1 : Int32) (a2 : Int32) (a3 : Int32) (a4 : Int32) (a5 : Int32) (s0 : Int32) (x : mj_X) : rX1_node d (75, [some (.ref 0), some (.int a1), some (.int a2), some (.int a3), some (.int a4), some (.int a5), none, none], [.int s0], x) = 
  if a5 = 0 then rX1_node d (90, [some (.ref 0), some (.int a1), some (.int a2), some (.int a3), some (.int a4), some (.int a5), none, none], [.int (0 : Int32), .int s0], x)
  else mj_g a3 4000 (rX1_node d (90, [some (.ref 0), some (.int a1), some (.int a2), some (.int a3), some (.int a4), some (.int a5), none, none], [.int (x.1 6 a3.toNatClampNeg), .int s0], x)) := (mj_run_to (cd := cdX1) (rt := 1) (tab := tX1_node) (cal := kX1 d) zX1_node 71 (75, [some (.ref 0), some (.int a1), some (.int a2), some (.int a3), some (.int a4), some (.int a5), none, none], [.int s0], x)).trans rfl
set_option maxRecDepth 100000 in
set_option maxHeartbeats 4000000 in
theorem bX1_node_90 (d : Nat) (a1 : Int32) (a2 : Int32) (a3 : Int32) (a4 : Int32) (a5 : Int32) (s0 : Int32) (s1 : Int32) (x : mj_X) : rX1_node d (90, [some (.ref 0), some (.int a1), some (.int a2), some (.int a3), some (.int a4), some (.int a5), none, none], [.int s1, .int s0], x) = mj_rI (kX1 d 19 [.int s0, .int s1] x) fun v2 x1 =>
  
  if (v2 + (1 : Int32)) ≤ (40 : Int32) then 
   if (x1.1 0 0) = (4000 : Int32) then some (some (.int (-4 : Int32)), x1)
   else mj_g (x1.1 0 0) 4000 (mj_g (x1.1 0 0) 4000 (mj_g (x1.1 0 0) 4000 (mj_rI (kX1 d 20 [.ref 0, .int a1, .int a2, .int a3] (mj_wI (mj_wI (mj_wI (mj_wI x1 0 0 ((x1.1 0 0) + (1 : Int32))) 2 (x1.1 0 0).toNatClampNeg a1) 3 (x1.1 0 0).toNatClampNeg a2) 4 (x1.1 0 0).toNatClampNeg a3)) fun v4 x3 =>
    mj_g (x1.1 0 0) 4000 (mj_g (x1.1 0 0) 4000 (mj_g (x1.1 0 0) 4000 (
    if a4 = 0 then rX1_node d (205, [some (.ref 0), some (.int a1), some (.int a2), some (.int a3), some (.int a4), some (.int a5), some (.int v2), some (.int (x1.1 0 0))], [], (mj_wI (mj_wI (mj_wI x3 5 (x1.1 0 0).toNatClampNeg v4) 6 (x1.1 0 0).toNatClampNeg (v2 + (1 : Int32))) 7 (x1.1 0 0).toNatClampNeg (0 : Int32)))
    else mj_g a2 4000 (rX1_node d (205, [some (.ref 0), some (.int a1), some (.int a2), some (.int a3), some (.int a4), some (.int a5), some (.int v2), some (.int (x1.1 0 0))], [], (mj_wI (mj_wI (mj_wI (mj_wI x3 5 (x1.1 0 0).toNatClampNeg v4) 6 (x1.1 0 0).toNatClampNeg (v2 + (1 : Int32))) 7 (x1.1 0 0).toNatClampNeg (0 : Int32)) 7 a2.toNatClampNeg (1 : Int32))))))))))
  else some (some (.int (-3 : Int32)), x1) := (mj_run_to (cd := cdX1) (rt := 1) (tab := tX1_node) (cal := kX1 d) zX1_node 71 (90, [some (.ref 0), some (.int a1), some (.int a2), some (.int a3), some (.int a4), some (.int a5), none, none], [.int s1, .int s0], x)).trans rfl
set_option maxRecDepth 100000 in
set_option maxHeartbeats 4000000 in
theorem bX1_node_205 (d : Nat) (a1 : Int32) (a2 : Int32) (a3 : Int32) (a4 : Int32) (a5 : Int32) (a6 : Int32) (a7 : Int32) (x : mj_X) : rX1_node d (205, [some (.ref 0), some (.int a1), some (.int a2), some (.int a3), some (.int a4), some (.int a5), some (.int a6), some (.int a7)], [], x) = 
  if a5 = 0 then some (some (.int a7), x)
  else mj_g a3 4000 (some (some (.int a7), (mj_wI x 7 a3.toNatClampNeg (1 : Int32)))) := (mj_run_to (cd := cdX1) (rt := 1) (tab := tX1_node) (cal := kX1 d) zX1_node 71 (205, [some (.ref 0), some (.int a1), some (.int a2), some (.int a3), some (.int a4), some (.int a5), some (.int a6), some (.int a7)], [], x)).trans rfl
noncomputable abbrev rX1_isKind (d : Nat) : mj_S → mj_R := mj_run cdX1 5 tX1_isKind (kX1 d)
def zX1_isKind (p : Nat) : Bool := bif Nat.blt p 73 then (bif Nat.beq p 55 then true else false) else (bif Nat.beq p 73 then true else false)
set_option maxRecDepth 100000 in
set_option maxHeartbeats 4000000 in
theorem eX1_isKind (d : Nat) (a0 : Int32) (x : mj_X) : kX1 (d + 1) 2 [.int a0] x = mj_rI (kX1 d 3 [.int a0] x) fun v2 x1 =>
  
  if v2 = 0 then mj_rI (kX1 d 4 [.int a0] x1) fun v4 x3 =>
   
   if v4 = 0 then 
    if a0 = (5 : Int32) then rX1_isKind d (73, [some (.int a0)], [], x3)
    else 
     if a0 = (33 : Int32) then rX1_isKind d (73, [some (.int a0)], [], x3)
     else 
      if a0 = (49 : Int32) then rX1_isKind d (73, [some (.int a0)], [], x3)
      else 
       if a0 = (66 : Int32) then rX1_isKind d (73, [some (.int a0)], [], x3)
       else 
        if a0 = (70 : Int32) then rX1_isKind d (73, [some (.int a0)], [], x3)
        else 
         if a0 < (76 : Int32) then rX1_isKind d (55, [some (.int a0)], [], x3)
         else 
          if a0 ≤ (78 : Int32) then rX1_isKind d (73, [some (.int a0)], [], x3)
          else rX1_isKind d (55, [some (.int a0)], [], x3)
   else rX1_isKind d (73, [some (.int a0)], [], x3)
  else rX1_isKind d (73, [some (.int a0)], [], x1) := (mj_run_to (cd := cdX1) (rt := 5) (tab := tX1_isKind) (cal := kX1 d) zX1_isKind 39 (0, [some (.int a0)], [], x)).trans rfl
set_option maxRecDepth 100000 in
set_option maxHeartbeats 4000000 in
theorem bX1_isKind_55 (d : Nat) (a0 : Int32) (x : mj_X) : rX1_isKind d (55, [some (.int a0)], [], x) = 
  if a0 < (82 : Int32) then 
   if a0 = (86 : Int32) then rX1_isKind d (73, [some (.int a0)], [], x)
   else some (some (.int (0 : Int32)), x)
  else 
   if a0 ≤ (84 : Int32) then rX1_isKind d (73, [some (.int a0)], [], x)
   else 
    if a0 = (86 : Int32) then rX1_isKind d (73, [some (.int a0)], [], x)
    else some (some (.int (0 : Int32)), x) := (mj_run_to (cd := cdX1) (rt := 5) (tab := tX1_isKind) (cal := kX1 d) zX1_isKind 39 (55, [some (.int a0)], [], x)).trans rfl
set_option maxRecDepth 100000 in
set_option maxHeartbeats 4000000 in
theorem bX1_isKind_73 (d : Nat) (a0 : Int32) (x : mj_X) : rX1_isKind d (73, [some (.int a0)], [], x) = some (some (.int (1 : Int32)), x) := (mj_run_to (cd := cdX1) (rt := 5) (tab := tX1_isKind) (cal := kX1 d) zX1_isKind 39 (73, [some (.int a0)], [], x)).trans rfl
noncomputable abbrev rX1_isStatementKind (d : Nat) : mj_S → mj_R := mj_run cdX1 5 tX1_isStatementKind (kX1 d)
def zX1_isStatementKind (p : Nat) : Bool := bif Nat.blt p 36 then (bif Nat.blt p 24 then (bif Nat.beq p 12 then true else false) else (bif Nat.beq p 24 then true else false)) else (bif Nat.blt p 54 then (bif Nat.beq p 36 then true else false) else (bif Nat.beq p 54 then true else false))
set_option maxRecDepth 100000 in
set_option maxHeartbeats 4000000 in
theorem eX1_isStatementKind (d : Nat) (a0 : Int32) (x : mj_X) : kX1 (d + 1) 3 [.int a0] x = 
  if a0 < (60 : Int32) then rX1_isStatementKind d (12, [some (.int a0)], [], x)
  else 
   if a0 ≤ (65 : Int32) then rX1_isStatementKind d (54, [some (.int a0)], [], x)
   else rX1_isStatementKind d (12, [some (.int a0)], [], x) := (mj_run_to (cd := cdX1) (rt := 5) (tab := tX1_isStatementKind) (cal := kX1 d) zX1_isStatementKind 21 (0, [some (.int a0)], [], x)).trans rfl
set_option maxRecDepth 100000 in
set_option maxHeartbeats 4000000 in
theorem bX1_isStatementKind_12 (d : Nat) (a0 : Int32) (x : mj_X) : rX1_isStatementKind d (12, [some (.int a0)], [], x) = 
  if a0 < (67 : Int32) then rX1_isStatementKind d (24, [some (.int a0)], [], x)
  else 
   if a0 ≤ (69 : Int32) then rX1_isStatementKind d (54, [some (.int a0)], [], x)
   else rX1_isStatementKind d (24, [some (.int a0)], [], x) := (mj_run_to (cd := cdX1) (rt := 5) (tab := tX1_isStatementKind) (cal := kX1 d) zX1_isStatementKind 21 (12, [some (.int a0)], [], x)).trans rfl
set_option maxRecDepth 100000 in
set_option maxHeartbeats 4000000 in
theorem bX1_isStatementKind_24 (d : Nat) (a0 : Int32) (x : mj_X) : rX1_isStatementKind d (24, [some (.int a0)], [], x) = 
  if a0 < (71 : Int32) then rX1_isStatementKind d (36, [some (.int a0)], [], x)
  else 
   if a0 ≤ (75 : Int32) then rX1_isStatementKind d (54, [some (.int a0)], [], x)
   else rX1_isStatementKind d (36, [some (.int a0)], [], x) := (mj_run_to (cd := cdX1) (rt := 5) (tab := tX1_isStatementKind) (cal := kX1 d) zX1_isStatementKind 21 (24, [some (.int a0)], [], x)).trans rfl
set_option maxRecDepth 100000 in
set_option maxHeartbeats 4000000 in
theorem bX1_isStatementKind_36 (d : Nat) (a0 : Int32) (x : mj_X) : rX1_isStatementKind d (36, [some (.int a0)], [], x) = 
  if a0 < (79 : Int32) then 
   if a0 = (85 : Int32) then rX1_isStatementKind d (54, [some (.int a0)], [], x)
   else some (some (.int (0 : Int32)), x)
  else 
   if a0 ≤ (81 : Int32) then rX1_isStatementKind d (54, [some (.int a0)], [], x)
   else 
    if a0 = (85 : Int32) then rX1_isStatementKind d (54, [some (.int a0)], [], x)
    else some (some (.int (0 : Int32)), x) := (mj_run_to (cd := cdX1) (rt := 5) (tab := tX1_isStatementKind) (cal := kX1 d) zX1_isStatementKind 21 (36, [some (.int a0)], [], x)).trans rfl
set_option maxRecDepth 100000 in
set_option maxHeartbeats 4000000 in
theorem bX1_isStatementKind_54 (d : Nat) (a0 : Int32) (x : mj_X) : rX1_isStatementKind d (54, [some (.int a0)], [], x) = some (some (.int (1 : Int32)), x) := (mj_run_to (cd := cdX1) (rt := 5) (tab := tX1_isStatementKind) (cal := kX1 d) zX1_isStatementKind 21 (54, [some (.int a0)], [], x)).trans rfl
noncomputable abbrev rX1_isExpressionKind (d : Nat) : mj_S → mj_R := mj_run cdX1 5 tX1_isExpressionKind (kX1 d)
def zX1_isExpressionKind (p : Nat) : Bool := bif Nat.blt p 22 then (bif Nat.beq p 10 then true else false) else (bif Nat.blt p 40 then (bif Nat.beq p 22 then true else false) else (bif Nat.beq p 40 then true else false))
set_option maxRecDepth 100000 in
set_option maxHeartbeats 4000000 in
theorem eX1_isExpressionKind (d : Nat) (a0 : Int32) (x : mj_X) : kX1 (d + 1) 4 [.int a0] x = 
  if a0 < (1 : Int32) then rX1_isExpressionKind d (10, [some (.int a0)], [], x)
  else 
   if a0 ≤ (4 : Int32) then rX1_isExpressionKind d (40, [some (.int a0)], [], x)
   else rX1_isExpressionKind d (10, [some (.int a0)], [], x) := (mj_run_to (cd := cdX1) (rt := 5) (tab := tX1_isExpressionKind) (cal := kX1 d) zX1_isExpressionKind 21 (0, [some (.int a0)], [], x)).trans rfl
set_option maxRecDepth 100000 in
set_option maxHeartbeats 4000000 in
theorem bX1_isExpressionKind_10 (d : Nat) (a0 : Int32) (x : mj_X) : rX1_isExpressionKind d (10, [some (.int a0)], [], x) = 
  if a0 < (6 : Int32) then rX1_isExpressionKind d (22, [some (.int a0)], [], x)
  else 
   if a0 ≤ (32 : Int32) then rX1_isExpressionKind d (40, [some (.int a0)], [], x)
   else rX1_isExpressionKind d (22, [some (.int a0)], [], x) := (mj_run_to (cd := cdX1) (rt := 5) (tab := tX1_isExpressionKind) (cal := kX1 d) zX1_isExpressionKind 21 (10, [some (.int a0)], [], x)).trans rfl
set_option maxRecDepth 100000 in
set_option maxHeartbeats 4000000 in
theorem bX1_isExpressionKind_22 (d : Nat) (a0 : Int32) (x : mj_X) : rX1_isExpressionKind d (22, [some (.int a0)], [], x) = 
  if a0 < (34 : Int32) then 
   if a0 = (51 : Int32) then rX1_isExpressionKind d (40, [some (.int a0)], [], x)
   else some (some (.int (0 : Int32)), x)
  else 
   if a0 ≤ (48 : Int32) then rX1_isExpressionKind d (40, [some (.int a0)], [], x)
   else 
    if a0 = (51 : Int32) then rX1_isExpressionKind d (40, [some (.int a0)], [], x)
    else some (some (.int (0 : Int32)), x) := (mj_run_to (cd := cdX1) (rt := 5) (tab := tX1_isExpressionKind) (cal := kX1 d) zX1_isExpressionKind 21 (22, [some (.int a0)], [], x)).trans rfl
set_option maxRecDepth 100000 in
set_option maxHeartbeats 4000000 in
theorem bX1_isExpressionKind_40 (d : Nat) (a0 : Int32) (x : mj_X) : rX1_isExpressionKind d (40, [some (.int a0)], [], x) = some (some (.int (1 : Int32)), x) := (mj_run_to (cd := cdX1) (rt := 5) (tab := tX1_isExpressionKind) (cal := kX1 d) zX1_isExpressionKind 21 (40, [some (.int a0)], [], x)).trans rfl
noncomputable abbrev rX1_isRight (d : Nat) : mj_S → mj_R := mj_run cdX1 5 tX1_isRight (kX1 d)
def zX1_isRight (p : Nat) : Bool := bif Nat.blt p 790 then (bif Nat.blt p 600 then (bif Nat.blt p 106 then (bif Nat.blt p 24 then (bif Nat.beq p 12 then true else false) else (bif Nat.blt p 59 then (bif Nat.beq p 24 then true else false) else (bif Nat.beq p 59 then true else false))) else (bif Nat.blt p 201 then (bif Nat.blt p 148 then (bif Nat.beq p 106 then true else false) else (bif Nat.beq p 148 then true else false)) else (bif Nat.blt p 239 then (bif Nat.beq p 201 then true else false) else (bif Nat.beq p 239 then true else false)))) else (bif Nat.blt p 670 then (bif Nat.blt p 613 then (bif Nat.blt p 611 then (bif Nat.beq p 600 then true else false) else (bif Nat.beq p 611 then true else false)) else (bif Nat.blt p 635 then (bif Nat.beq p 613 then true else false) else (bif Nat.beq p 635 then true else false))) else (bif Nat.blt p 721 then (bif Nat.blt p 692 then (bif Nat.beq p 670 then true else false) else (bif Nat.beq p 692 then true else false)) else (bif Nat.blt p 759 then (bif Nat.beq p 721 then true else false) else (bif Nat.beq p 759 then true else false))))) else (bif Nat.blt p 958 then (bif Nat.blt p 868 then (bif Nat.blt p 846 then (bif Nat.blt p 825 then (bif Nat.beq p 790 then true else false) else (bif Nat.beq p 825 then true else false)) else (bif Nat.blt p 856 then (bif Nat.beq p 846 then true else false) else (bif Nat.beq p 856 then true else false))) else (bif Nat.blt p 913 then (bif Nat.blt p 884 then (bif Nat.beq p 868 then true else false) else (bif Nat.beq p 884 then true else false)) else (bif Nat.blt p 933 then (bif Nat.beq p 913 then true else false) else (bif Nat.beq p 933 then true else false)))) else (bif Nat.blt p 1062 then (bif Nat.blt p 1014 then (bif Nat.blt p 991 then (bif Nat.beq p 958 then true else false) else (bif Nat.beq p 991 then true else false)) else (bif Nat.blt p 1040 then (bif Nat.beq p 1014 then true else false) else (bif Nat.beq p 1040 then true else false))) else (bif Nat.blt p 1103 then (bif Nat.blt p 1069 then (bif Nat.beq p 1062 then true else false) else (bif Nat.beq p 1069 then true else false)) else (bif Nat.blt p 1134 then (bif Nat.beq p 1103 then true else false) else (bif Nat.beq p 1134 then true else false)))))
set_option maxRecDepth 100000 in
set_option maxHeartbeats 4000000 in
theorem eX1_isRight (d : Nat) (a1 : Int32) (a2 : Int32) (a3 : Int32) (x : mj_X) : kX1 (d + 1) 5 [.ref 0, .int a1, .int a2, .int a3] x = 
  if a1 < (10 : Int32) then rX1_isRight d (12, [some (.ref 0), some (.int a1), some (.int a2), some (.int a3), none, none], [], x)
  else 
   if a1 ≤ (14 : Int32) then rX1_isRight d (24, [some (.ref 0), some (.int a1), some (.int a2), some (.int a3), none, none], [], x)
   else rX1_isRight d (12, [some (.ref 0), some (.int a1), some (.int a2), some (.int a3), none, none], [], x) := (mj_run_to (cd := cdX1) (rt := 5) (tab := tX1_isRight) (cal := kX1 d) zX1_isRight 42 (0, [some (.ref 0), some (.int a1), some (.int a2), some (.int a3), none, none], [], x)).trans rfl
set_option maxRecDepth 100000 in
set_option maxHeartbeats 4000000 in
theorem bX1_isRight_12 (d : Nat) (a1 : Int32) (a2 : Int32) (a3 : Int32) (x : mj_X) : rX1_isRight d (12, [some (.ref 0), some (.int a1), some (.int a2), some (.int a3), none, none], [], x) = 
  if a1 < (23 : Int32) then rX1_isRight d (59, [some (.ref 0), some (.int a1), some (.int a2), some (.int a3), none, none], [], x)
  else 
   if (28 : Int32) < a1 then rX1_isRight d (59, [some (.ref 0), some (.int a1), some (.int a2), some (.int a3), none, none], [], x)
   else rX1_isRight d (24, [some (.ref 0), some (.int a1), some (.int a2), some (.int a3), none, none], [], x) := (mj_run_to (cd := cdX1) (rt := 5) (tab := tX1_isRight) (cal := kX1 d) zX1_isRight 42 (12, [some (.ref 0), some (.int a1), some (.int a2), some (.int a3), none, none], [], x)).trans rfl
set_option maxRecDepth 100000 in
set_option maxHeartbeats 4000000 in
theorem bX1_isRight_24 (d : Nat) (a1 : Int32) (a2 : Int32) (a3 : Int32) (x : mj_X) : rX1_isRight d (24, [some (.ref 0), some (.int a1), some (.int a2), some (.int a3), none, none], [], x) = mj_rI (kX1 d 6 [.ref 0, .int a2, .int (1 : Int32), .int (4 : Int32)] x) fun v2 x1 =>
  
  if v2 = 0 then some (some (.int (0 : Int32)), x1)
  else 
   if a2 = a3 then some (some (.int (0 : Int32)), x1)
   else mj_g a2 4000 (mj_rI (kX1 d 10 [.ref 0, .int a3, .int (x1.1 5 a2.toNatClampNeg)] x1) fun v4 x3 =>
    
    if v4 = 0 then some (some (.int (0 : Int32)), x3)
    else some (some (.int (1 : Int32)), x3)) := (mj_run_to (cd := cdX1) (rt := 5) (tab := tX1_isRight) (cal := kX1 d) zX1_isRight 42 (24, [some (.ref 0), some (.int a1), some (.int a2), some (.int a3), none, none], [], x)).trans rfl
set_option maxRecDepth 100000 in
set_option maxHeartbeats 4000000 in
theorem bX1_isRight_59 (d : Nat) (a1 : Int32) (a2 : Int32) (a3 : Int32) (x : mj_X) : rX1_isRight d (59, [some (.ref 0), some (.int a1), some (.int a2), some (.int a3), none, none], [], x) = 
  if a1 < (15 : Int32) then rX1_isRight d (106, [some (.ref 0), some (.int a1), some (.int a2), some (.int a3), none, none], [], x)
  else 
   if (17 : Int32) < a1 then rX1_isRight d (106, [some (.ref 0), some (.int a1), some (.int a2), some (.int a3), none, none], [], x)
   else mj_rI (kX1 d 6 [.ref 0, .int a2, .int (1 : Int32), .int (2 : Int32)] x) fun v2 x1 =>
    
    if v2 = 0 then some (some (.int (0 : Int32)), x1)
    else 
     if a2 = a3 then some (some (.int (0 : Int32)), x1)
     else mj_g a2 4000 (mj_rI (kX1 d 10 [.ref 0, .int a3, .int (x1.1 5 a2.toNatClampNeg)] x1) fun v4 x3 =>
      
      if v4 = 0 then some (some (.int (0 : Int32)), x3)
      else some (some (.int (1 : Int32)), x3)) := (mj_run_to (cd := cdX1) (rt := 5) (tab := tX1_isRight) (cal := kX1 d) zX1_isRight 42 (59, [some (.ref 0), some (.int a1), some (.int a2), some (.int a3), none, none], [], x)).trans rfl
set_option maxRecDepth 100000 in
set_option maxHeartbeats 4000000 in
theorem bX1_isRight_106 (d : Nat) (a1 : Int32) (a2 : Int32) (a3 : Int32) (x : mj_X) : rX1_isRight d (106, [some (.ref 0), some (.int a1), some (.int a2), some (.int a3), none, none], [], x) = 
  if a1 < (18 : Int32) then rX1_isRight d (148, [some (.ref 0), some (.int a1), some (.int a2), some (.int a3), none, none], [], x)
  else 
   if (20 : Int32) < a1 then rX1_isRight d (148, [some (.ref 0), some (.int a1), some (.int a2), some (.int a3), none, none], [], x)
   else mj_rI (kX1 d 6 [.ref 0, .int a2, .int (1 : Int32), .int (2 : Int32)] x) fun v2 x1 =>
    
    if v2 = 0 then some (some (.int (0 : Int32)), x1)
    else 
     if a2 = a3 then some (some (.int (0 : Int32)), x1)
     else mj_rI (kX1 d 10 [.ref 0, .int a3, .int (1 : Int32)] x1) fun v4 x3 =>
      
      if v4 = 0 then some (some (.int (0 : Int32)), x3)
      else some (some (.int (1 : Int32)), x3) := (mj_run_to (cd := cdX1) (rt := 5) (tab := tX1_isRight) (cal := kX1 d) zX1_isRight 42 (106, [some (.ref 0), some (.int a1), some (.int a2), some (.int a3), none, none], [], x)).trans rfl
set_option maxRecDepth 100000 in
set_option maxHeartbeats 4000000 in
theorem bX1_isRight_148 (d : Nat) (a1 : Int32) (a2 : Int32) (a3 : Int32) (x : mj_X) : rX1_isRight d (148, [some (.ref 0), some (.int a1), some (.int a2), some (.int a3), none, none], [], x) = 
  if a1 < (35 : Int32) then rX1_isRight d (239, [some (.ref 0), some (.int a1), some (.int a2), some (.int a3), none, none], [], x)
  else 
   if (45 : Int32) < a1 then rX1_isRight d (239, [some (.ref 0), some (.int a1), some (.int a2), some (.int a3), none, none], [], x)
   else mj_rI (kX1 d 11 [.ref 0, .int a2] x) fun v2 x1 =>
    
    if v2 = 0 then rX1_isRight d (201, [some (.ref 0), some (.int a1), some (.int a2), some (.int a3), some (.int (a1 - (25 : Int32))), none], [.int (0 : Int32)], x1)
    else 
     if a2 = a3 then rX1_isRight d (201, [some (.ref 0), some (.int a1), some (.int a2), some (.int a3), some (.int (a1 - (25 : Int32))), none], [.int (0 : Int32)], x1)
     else 
      if (a1 - (25 : Int32)) ≤ (14 : Int32) then rX1_isRight d (201, [some (.ref 0), some (.int a1), some (.int a2), some (.int a3), some (.int (a1 - (25 : Int32))), none], [.int (1 : Int32)], x1)
      else mj_g a2 4000 (
       if (2 : Int32) < (x1.1 5 a2.toNatClampNeg) then rX1_isRight d (201, [some (.ref 0), some (.int a1), some (.int a2), some (.int a3), some (.int (a1 - (25 : Int32))), none], [.int (0 : Int32)], x1)
       else rX1_isRight d (201, [some (.ref 0), some (.int a1), some (.int a2), some (.int a3), some (.int (a1 - (25 : Int32))), none], [.int (1 : Int32)], x1)) := (mj_run_to (cd := cdX1) (rt := 5) (tab := tX1_isRight) (cal := kX1 d) zX1_isRight 42 (148, [some (.ref 0), some (.int a1), some (.int a2), some (.int a3), none, none], [], x)).trans rfl
set_option maxRecDepth 100000 in
set_option maxHeartbeats 4000000 in
theorem bX1_isRight_201 (d : Nat) (a1 : Int32) (a2 : Int32) (a3 : Int32) (a4 : Int32) (s0 : Int32) (x : mj_X) : rX1_isRight d (201, [some (.ref 0), some (.int a1), some (.int a2), some (.int a3), some (.int a4), none], [.int s0], x) = 
  if s0 = 0 then some (some (.int (0 : Int32)), x)
  else 
   if a4 < (18 : Int32) then mj_g a2 4000 (mj_rI (kX1 d 10 [.ref 0, .int a3, .int (x.1 5 a2.toNatClampNeg)] x) fun v2 x1 =>
    
    if v2 = 0 then some (some (.int (0 : Int32)), x1)
    else some (some (.int (1 : Int32)), x1))
   else mj_rI (kX1 d 10 [.ref 0, .int a3, .int (1 : Int32)] x) fun v4 x3 =>
    
    if v4 = 0 then some (some (.int (0 : Int32)), x3)
    else some (some (.int (1 : Int32)), x3) := (mj_run_to (cd := cdX1) (rt := 5) (tab := tX1_isRight) (cal := kX1 d) zX1_isRight 42 (201, [some (.ref 0), some (.int a1), some (.int a2), some (.int a3), some (.int a4), none], [.int s0], x)).trans rfl
set_option maxRecDepth 100000 in
set_option maxHeartbeats 4000000 in
theorem bX1_isRight_239 (d : Nat) (a1 : Int32) (a2 : Int32) (a3 : Int32) (x : mj_X) : rX1_isRight d (239, [some (.ref 0), some (.int a1), some (.int a2), some (.int a3), none, none], [], x) = mj_sw a1 1 (894) [360, 371, 360, 371, 373, 452, 481, 519, 550, 894, 894, 894, 894, 894, 894, 894, 894, 894, 894, 894, 585, 606, 894, 894, 894, 894, 894, 894, 644, 644, 673, 693, 718, 751, 894, 894, 894, 894, 894, 894, 894, 894, 894, 894, 894, 774, 800, 822, 829, 894, 430, 894, 894, 894, 894, 894, 894, 894, 894, 863, 894, 894, 894, 894, 894, 894, 894, 894, 894, 894, 894, 894, 894, 894, 894, 894, 894, 894, 894, 894, 894, 894, 894, 894, 894, 395] fun off => mj_j 240 off fun t => rX1_isRight d (t, [some (.ref 0), some (.int a1), some (.int a2), some (.int a3), none, none], [], x) := (mj_run_to (cd := cdX1) (rt := 5) (tab := tX1_isRight) (cal := kX1 d) zX1_isRight 42 (239, [some (.ref 0), some (.int a1), some (.int a2), some (.int a3), none, none], [], x)).trans rfl
set_option maxRecDepth 100000 in
set_option maxHeartbeats 4000000 in
theorem bX1_isRight_600 (d : Nat) (a1 : Int32) (a2 : Int32) (a3 : Int32) (x : mj_X) : rX1_isRight d (600, [some (.ref 0), some (.int a1), some (.int a2), some (.int a3), none, none], [], x) = 
  if a3 = (-1 : Int32) then some (some (.int (1 : Int32)), x)
  else some (some (.int (0 : Int32)), x) := (mj_run_to (cd := cdX1) (rt := 5) (tab := tX1_isRight) (cal := kX1 d) zX1_isRight 42 (600, [some (.ref 0), some (.int a1), some (.int a2), some (.int a3), none, none], [], x)).trans rfl
set_option maxRecDepth 100000 in
set_option maxHeartbeats 4000000 in
theorem bX1_isRight_611 (d : Nat) (a1 : Int32) (a2 : Int32) (a3 : Int32) (x : mj_X) : rX1_isRight d (611, [some (.ref 0), some (.int a1), some (.int a2), some (.int a3), none, none], [], x) = some (some (.int (1 : Int32)), x) := (mj_run_to (cd := cdX1) (rt := 5) (tab := tX1_isRight) (cal := kX1 d) zX1_isRight 42 (611, [some (.ref 0), some (.int a1), some (.int a2), some (.int a3), none, none], [], x)).trans rfl
set_option maxRecDepth 100000 in
set_option maxHeartbeats 4000000 in
theorem bX1_isRight_613 (d : Nat) (a1 : Int32) (a2 : Int32) (a3 : Int32) (x : mj_X) : rX1_isRight d (613, [some (.ref 0), some (.int a1), some (.int a2), some (.int a3), none, none], [], x) = 
  if a2 < (1 : Int32) then some (some (.int (0 : Int32)), x)
  else 
   if (8 : Int32) < a2 then some (some (.int (0 : Int32)), x)
   else 
    if a3 = (-1 : Int32) then some (some (.int (1 : Int32)), x)
    else some (some (.int (0 : Int32)), x) := (mj_run_to (cd := cdX1) (rt := 5) (tab := tX1_isRight) (cal := kX1 d) zX1_isRight 42 (613, [some (.ref 0), some (.int a1), some (.int a2), some (.int a3), none, none], [], x)).trans rfl
set_option maxRecDepth 100000 in
set_option maxHeartbeats 4000000 in
theorem bX1_isRight_635 (d : Nat) (a1 : Int32) (a2 : Int32) (a3 : Int32) (x : mj_X) : rX1_isRight d (635, [some (.ref 0), some (.int a1), some (.int a2), some (.int a3), none, none], [], x) = mj_rI (kX1 d 12 [.ref 0, .int a2, .int (5 : Int32)] x) fun v2 x1 =>
  
  if v2 = 0 then some (some (.int (0 : Int32)), x1)
  else 
   if a3 = (-1 : Int32) then some (some (.int (1 : Int32)), x1)
   else 
    if a2 = a3 then some (some (.int (0 : Int32)), x1)
    else mj_rI (kX1 d 12 [.ref 0, .int a3, .int (86 : Int32)] x1) fun v4 x3 =>
     
     if v4 = 0 then some (some (.int (0 : Int32)), x3)
     else some (some (.int (1 : Int32)), x3) := (mj_run_to (cd := cdX1) (rt := 5) (tab := tX1_isRight) (cal := kX1 d) zX1_isRight 42 (635, [some (.ref 0), some (.int a1), some (.int a2), some (.int a3), none, none], [], x)).trans rfl
set_option maxRecDepth 100000 in
set_option maxHeartbeats 4000000 in
theorem bX1_isRight_670 (d : Nat) (a1 : Int32) (a2 : Int32) (a3 : Int32) (x : mj_X) : rX1_isRight d (670, [some (.ref 0), some (.int a1), some (.int a2), some (.int a3), none, none], [], x) = 
  if a2 < (5 : Int32) then some (some (.int (0 : Int32)), x)
  else 
   if (8 : Int32) < a2 then some (some (.int (0 : Int32)), x)
   else 
    if a3 = (-1 : Int32) then some (some (.int (1 : Int32)), x)
    else some (some (.int (0 : Int32)), x) := (mj_run_to (cd := cdX1) (rt := 5) (tab := tX1_isRight) (cal := kX1 d) zX1_isRight 42 (670, [some (.ref 0), some (.int a1), some (.int a2), some (.int a3), none, none], [], x)).trans rfl
set_option maxRecDepth 100000 in
set_option maxHeartbeats 4000000 in
theorem bX1_isRight_692 (d : Nat) (a1 : Int32) (a2 : Int32) (a3 : Int32) (x : mj_X) : rX1_isRight d (692, [some (.ref 0), some (.int a1), some (.int a2), some (.int a3), none, none], [], x) = mj_rI (kX1 d 9 [.ref 0, .int a2] x) fun v2 x1 =>
  
  if v2 = 0 then some (some (.int (0 : Int32)), x1)
  else mj_g a2 4000 (
   if (x1.1 2 a2.toNatClampNeg) = (5 : Int32) then 
    if a3 = (-1 : Int32) then some (some (.int (1 : Int32)), x1)
    else some (some (.int (0 : Int32)), x1)
   else some (some (.int (0 : Int32)), x1)) := (mj_run_to (cd := cdX1) (rt := 5) (tab := tX1_isRight) (cal := kX1 d) zX1_isRight 42 (692, [some (.ref 0), some (.int a1), some (.int a2), some (.int a3), none, none], [], x)).trans rfl
set_option maxRecDepth 100000 in
set_option maxHeartbeats 4000000 in
theorem bX1_isRight_721 (d : Nat) (a1 : Int32) (a2 : Int32) (a3 : Int32) (x : mj_X) : rX1_isRight d (721, [some (.ref 0), some (.int a1), some (.int a2), some (.int a3), none, none], [], x) = mj_rI (kX1 d 9 [.ref 0, .int a2] x) fun v2 x1 =>
  
  if v2 = 0 then some (some (.int (0 : Int32)), x1)
  else mj_g a2 4000 (
   if (x1.1 2 a2.toNatClampNeg) = (5 : Int32) then mj_g a2 4000 (mj_rI (kX1 d 10 [.ref 0, .int a3, .int (x1.1 5 a2.toNatClampNeg)] x1) fun v4 x3 =>
    
    if v4 = 0 then some (some (.int (0 : Int32)), x3)
    else some (some (.int (1 : Int32)), x3))
   else some (some (.int (0 : Int32)), x1)) := (mj_run_to (cd := cdX1) (rt := 5) (tab := tX1_isRight) (cal := kX1 d) zX1_isRight 42 (721, [some (.ref 0), some (.int a1), some (.int a2), some (.int a3), none, none], [], x)).trans rfl
set_option maxRecDepth 100000 in
set_option maxHeartbeats 4000000 in
theorem bX1_isRight_759 (d : Nat) (a1 : Int32) (a2 : Int32) (a3 : Int32) (x : mj_X) : rX1_isRight d (759, [some (.ref 0), some (.int a1), some (.int a2), some (.int a3), none, none], [], x) = mj_rI (kX1 d 6 [.ref 0, .int a2, .int (5 : Int32), .int (8 : Int32)] x) fun v2 x1 =>
  
  if v2 = 0 then some (some (.int (0 : Int32)), x1)
  else 
   if a2 = a3 then some (some (.int (0 : Int32)), x1)
   else mj_rI (kX1 d 10 [.ref 0, .int a3, .int (1 : Int32)] x1) fun v4 x3 =>
    
    if v4 = 0 then some (some (.int (0 : Int32)), x3)
    else some (some (.int (1 : Int32)), x3) := (mj_run_to (cd := cdX1) (rt := 5) (tab := tX1_isRight) (cal := kX1 d) zX1_isRight 42 (759, [some (.ref 0), some (.int a1), some (.int a2), some (.int a3), none, none], [], x)).trans rfl
set_option maxRecDepth 100000 in
set_option maxHeartbeats 4000000 in
theorem bX1_isRight_790 (d : Nat) (a1 : Int32) (a2 : Int32) (a3 : Int32) (x : mj_X) : rX1_isRight d (790, [some (.ref 0), some (.int a1), some (.int a2), some (.int a3), none, none], [], x) = mj_rI (kX1 d 12 [.ref 0, .int a2, .int (8 : Int32)] x) fun v2 x1 =>
  
  if v2 = 0 then some (some (.int (0 : Int32)), x1)
  else 
   if a2 = a3 then some (some (.int (0 : Int32)), x1)
   else mj_g a2 4000 (mj_rI (kX1 d 10 [.ref 0, .int a3, .int (x1.1 5 a2.toNatClampNeg)] x1) fun v4 x3 =>
    
    if v4 = 0 then some (some (.int (0 : Int32)), x3)
    else some (some (.int (1 : Int32)), x3)) := (mj_run_to (cd := cdX1) (rt := 5) (tab := tX1_isRight) (cal := kX1 d) zX1_isRight 42 (790, [some (.ref 0), some (.int a1), some (.int a2), some (.int a3), none, none], [], x)).trans rfl
set_option maxRecDepth 100000 in
set_option maxHeartbeats 4000000 in
theorem bX1_isRight_825 (d : Nat) (a1 : Int32) (a2 : Int32) (a3 : Int32) (x : mj_X) : rX1_isRight d (825, [some (.ref 0), some (.int a1), some (.int a2), some (.int a3), none, none], [], x) = mj_rI (kX1 d 6 [.ref 0, .int a2, .int (1 : Int32), .int (4 : Int32)] x) fun v2 x1 =>
  
  if v2 = 0 then some (some (.int (0 : Int32)), x1)
  else 
   if a3 = (-1 : Int32) then some (some (.int (1 : Int32)), x1)
   else some (some (.int (0 : Int32)), x1) := (mj_run_to (cd := cdX1) (rt := 5) (tab := tX1_isRight) (cal := kX1 d) zX1_isRight 42 (825, [some (.ref 0), some (.int a1), some (.int a2), some (.int a3), none, none], [], x)).trans rfl
set_option maxRecDepth 100000 in
set_option maxHeartbeats 4000000 in
theorem bX1_isRight_846 (d : Nat) (a1 : Int32) (a2 : Int32) (a3 : Int32) (x : mj_X) : rX1_isRight d (846, [some (.ref 0), some (.int a1), some (.int a2), some (.int a3), none, none], [], x) = 
  if a2 < (1 : Int32) then rX1_isRight d (856, [some (.ref 0), some (.int a1), some (.int a2), some (.int a3), none, none], [], x)
  else 
   if a2 ≤ (4 : Int32) then rX1_isRight d (868, [some (.ref 0), some (.int a1), some (.int a2), some (.int a3), none, none], [], x)
   else rX1_isRight d (856, [some (.ref 0), some (.int a1), some (.int a2), some (.int a3), none, none], [], x) := (mj_run_to (cd := cdX1) (rt := 5) (tab := tX1_isRight) (cal := kX1 d) zX1_isRight 42 (846, [some (.ref 0), some (.int a1), some (.int a2), some (.int a3), none, none], [], x)).trans rfl
set_option maxRecDepth 100000 in
set_option maxHeartbeats 4000000 in
theorem bX1_isRight_856 (d : Nat) (a1 : Int32) (a2 : Int32) (a3 : Int32) (x : mj_X) : rX1_isRight d (856, [some (.ref 0), some (.int a1), some (.int a2), some (.int a3), none, none], [], x) = 
  if a2 < (9 : Int32) then some (some (.int (0 : Int32)), x)
  else 
   if (11 : Int32) < a2 then some (some (.int (0 : Int32)), x)
   else rX1_isRight d (868, [some (.ref 0), some (.int a1), some (.int a2), some (.int a3), none, none], [], x) := (mj_run_to (cd := cdX1) (rt := 5) (tab := tX1_isRight) (cal := kX1 d) zX1_isRight 42 (856, [some (.ref 0), some (.int a1), some (.int a2), some (.int a3), none, none], [], x)).trans rfl
set_option maxRecDepth 100000 in
set_option maxHeartbeats 4000000 in
theorem bX1_isRight_868 (d : Nat) (a1 : Int32) (a2 : Int32) (a3 : Int32) (x : mj_X) : rX1_isRight d (868, [some (.ref 0), some (.int a1), some (.int a2), some (.int a3), none, none], [], x) = mj_rI (kX1 d 6 [.ref 0, .int a3, .int (1 : Int32), .int (4 : Int32)] x) fun v2 x1 =>
  
  if v2 = 0 then some (some (.int (0 : Int32)), x1)
  else some (some (.int (1 : Int32)), x1) := (mj_run_to (cd := cdX1) (rt := 5) (tab := tX1_isRight) (cal := kX1 d) zX1_isRight 42 (868, [some (.ref 0), some (.int a1), some (.int a2), some (.int a3), none, none], [], x)).trans rfl
set_option maxRecDepth 100000 in
set_option maxHeartbeats 4000000 in
theorem bX1_isRight_884 (d : Nat) (a1 : Int32) (a2 : Int32) (a3 : Int32) (x : mj_X) : rX1_isRight d (884, [some (.ref 0), some (.int a1), some (.int a2), some (.int a3), none, none], [], x) = mj_rI (kX1 d 10 [.ref 0, .int a2, .int (1 : Int32)] x) fun v2 x1 =>
  
  if v2 = 0 then some (some (.int (0 : Int32)), x1)
  else 
   if a2 = a3 then some (some (.int (0 : Int32)), x1)
   else mj_rI (kX1 d 10 [.ref 0, .int a3, .int (1 : Int32)] x1) fun v4 x3 =>
    
    if v4 = 0 then some (some (.int (0 : Int32)), x3)
    else some (some (.int (1 : Int32)), x3) := (mj_run_to (cd := cdX1) (rt := 5) (tab := tX1_isRight) (cal := kX1 d) zX1_isRight 42 (884, [some (.ref 0), some (.int a1), some (.int a2), some (.int a3), none, none], [], x)).trans rfl
set_option maxRecDepth 100000 in
set_option maxHeartbeats 4000000 in
theorem bX1_isRight_913 (d : Nat) (a1 : Int32) (a2 : Int32) (a3 : Int32) (x : mj_X) : rX1_isRight d (913, [some (.ref 0), some (.int a1), some (.int a2), some (.int a3), none, none], [], x) = mj_rI (kX1 d 10 [.ref 0, .int a2, .int (1 : Int32)] x) fun v2 x1 =>
  
  if v2 = 0 then some (some (.int (0 : Int32)), x1)
  else 
   if a3 = (-1 : Int32) then some (some (.int (1 : Int32)), x1)
   else some (some (.int (0 : Int32)), x1) := (mj_run_to (cd := cdX1) (rt := 5) (tab := tX1_isRight) (cal := kX1 d) zX1_isRight 42 (913, [some (.ref 0), some (.int a1), some (.int a2), some (.int a3), none, none], [], x)).trans rfl
set_option maxRecDepth 100000 in
set_option maxHeartbeats 4000000 in
theorem bX1_isRight_933 (d : Nat) (a1 : Int32) (a2 : Int32) (a3 : Int32) (x : mj_X) : rX1_isRight d (933, [some (.ref 0), some (.int a1), some (.int a2), some (.int a3), none, none], [], x) = mj_rI (kX1 d 10 [.ref 0, .int a2, .int (1 : Int32)] x) fun v2 x1 =>
  
  if v2 = 0 then some (some (.int (0 : Int32)), x1)
  else mj_rI (kX1 d 12 [.ref 0, .int a3, .int (33 : Int32)] x1) fun v4 x3 =>
   
   if v4 = 0 then some (some (.int (0 : Int32)), x3)
   else some (some (.int (1 : Int32)), x3) := (mj_run_to (cd := cdX1) (rt := 5) (tab := tX1_isRight) (cal := kX1 d) zX1_isRight 42 (933, [some (.ref 0), some (.int a1), some (.int a2), some (.int a3), none, none], [], x)).trans rfl
set_option maxRecDepth 100000 in
set_option maxHeartbeats 4000000 in
theorem bX1_isRight_958 (d : Nat) (a1 : Int32) (a2 : Int32) (a3 : Int32) (x : mj_X) : rX1_isRight d (958, [some (.ref 0), some (.int a1), some (.int a2), some (.int a3), none, none], [], x) = mj_rI (kX1 d 7 [.ref 0, .int a2] x) fun v2 x1 =>
  
  if v2 = 0 then some (some (.int (0 : Int32)), x1)
  else 
   if a2 = a3 then some (some (.int (0 : Int32)), x1)
   else mj_g a2 4000 (mj_rI (kX1 d 10 [.ref 0, .int a3, .int (x1.1 5 a2.toNatClampNeg)] x1) fun v4 x3 =>
    
    if v4 = 0 then some (some (.int (0 : Int32)), x3)
    else some (some (.int (1 : Int32)), x3)) := (mj_run_to (cd := cdX1) (rt := 5) (tab := tX1_isRight) (cal := kX1 d) zX1_isRight 42 (958, [some (.ref 0), some (.int a1), some (.int a2), some (.int a3), none, none], [], x)).trans rfl
set_option maxRecDepth 100000 in
set_option maxHeartbeats 4000000 in
theorem bX1_isRight_991 (d : Nat) (a1 : Int32) (a2 : Int32) (a3 : Int32) (x : mj_X) : rX1_isRight d (991, [some (.ref 0), some (.int a1), some (.int a2), some (.int a3), none, none], [], x) = mj_rI (kX1 d 11 [.ref 0, .int a2] x) fun v2 x1 =>
  
  if v2 = 0 then some (some (.int (0 : Int32)), x1)
  else 
   if a3 < 0 then some (some (.int (0 : Int32)), x1)
   else 
    if (3 : Int32) < a3 then some (some (.int (0 : Int32)), x1)
    else some (some (.int (1 : Int32)), x1) := (mj_run_to (cd := cdX1) (rt := 5) (tab := tX1_isRight) (cal := kX1 d) zX1_isRight 42 (991, [some (.ref 0), some (.int a1), some (.int a2), some (.int a3), none, none], [], x)).trans rfl
set_option maxRecDepth 100000 in
set_option maxHeartbeats 4000000 in
theorem bX1_isRight_1014 (d : Nat) (a1 : Int32) (a2 : Int32) (a3 : Int32) (x : mj_X) : rX1_isRight d (1014, [some (.ref 0), some (.int a1), some (.int a2), some (.int a3), none, none], [], x) = 
  if a2 < (5 : Int32) then some (some (.int (0 : Int32)), x)
  else 
   if (8 : Int32) < a2 then some (some (.int (0 : Int32)), x)
   else mj_rI (kX1 d 10 [.ref 0, .int a3, .int (1 : Int32)] x) fun v2 x1 =>
    
    if v2 = 0 then some (some (.int (0 : Int32)), x1)
    else some (some (.int (1 : Int32)), x1) := (mj_run_to (cd := cdX1) (rt := 5) (tab := tX1_isRight) (cal := kX1 d) zX1_isRight 42 (1014, [some (.ref 0), some (.int a1), some (.int a2), some (.int a3), none, none], [], x)).trans rfl
set_option maxRecDepth 100000 in
set_option maxHeartbeats 4000000 in
theorem bX1_isRight_1040 (d : Nat) (a1 : Int32) (a2 : Int32) (a3 : Int32) (x : mj_X) : rX1_isRight d (1040, [some (.ref 0), some (.int a1), some (.int a2), some (.int a3), none, none], [], x) = mj_rI (kX1 d 6 [.ref 0, .int a2, .int (5 : Int32), .int (8 : Int32)] x) fun v2 x1 =>
  
  if v2 = 0 then some (some (.int (0 : Int32)), x1)
  else 
   if a3 = (-1 : Int32) then some (some (.int (1 : Int32)), x1)
   else some (some (.int (0 : Int32)), x1) := (mj_run_to (cd := cdX1) (rt := 5) (tab := tX1_isRight) (cal := kX1 d) zX1_isRight 42 (1040, [some (.ref 0), some (.int a1), some (.int a2), some (.int a3), none, none], [], x)).trans rfl
set_option maxRecDepth 100000 in
set_option maxHeartbeats 4000000 in
theorem bX1_isRight_1062 (d : Nat) (a1 : Int32) (a2 : Int32) (a3 : Int32) (x : mj_X) : rX1_isRight d (1062, [some (.ref 0), some (.int a1), some (.int a2), some (.int a3), none, none], [], x) = mj_rI (kX1 d 13 [.ref 0, .int a2, .int a3] x) fun v2 x1 =>
  mj_gb v2 (some (some (.int v2), x1)) := (mj_run_to (cd := cdX1) (rt := 5) (tab := tX1_isRight) (cal := kX1 d) zX1_isRight 42 (1062, [some (.ref 0), some (.int a1), some (.int a2), some (.int a3), none, none], [], x)).trans rfl
set_option maxRecDepth 100000 in
set_option maxHeartbeats 4000000 in
theorem bX1_isRight_1069 (d : Nat) (a1 : Int32) (a2 : Int32) (a3 : Int32) (x : mj_X) : rX1_isRight d (1069, [some (.ref 0), some (.int a1), some (.int a2), some (.int a3), none, none], [], x) = mj_rI (kX1 d 7 [.ref 0, .int a2] x) fun v2 x1 =>
  
  if v2 = 0 then some (some (.int (0 : Int32)), x1)
  else 
   if a3 = (-1 : Int32) then some (some (.int (1 : Int32)), x1)
   else 
    if a2 = a3 then some (some (.int (0 : Int32)), x1)
    else mj_rI (kX1 d 12 [.ref 0, .int a3, .int (49 : Int32)] x1) fun v4 x3 =>
     
     if v4 = 0 then some (some (.int (0 : Int32)), x3)
     else some (some (.int (1 : Int32)), x3) := (mj_run_to (cd := cdX1) (rt := 5) (tab := tX1_isRight) (cal := kX1 d) zX1_isRight 42 (1069, [some (.ref 0), some (.int a1), some (.int a2), some (.int a3), none, none], [], x)).trans rfl
set_option maxRecDepth 100000 in
set_option maxHeartbeats 4000000 in
theorem bX1_isRight_1103 (d : Nat) (a1 : Int32) (a2 : Int32) (a3 : Int32) (x : mj_X) : rX1_isRight d (1103, [some (.ref 0), some (.int a1), some (.int a2), some (.int a3), none, none], [], x) = mj_rI (kX1 d 8 [.ref 0, .int a2] x) fun v2 x1 =>
  
  if v2 = 0 then some (some (.int (0 : Int32)), x1)
  else mj_g a2 4000 (mj_rI (kX1 d 4 [.int (x1.1 2 a2.toNatClampNeg)] x1) fun v4 x3 =>
   
   if v4 = 0 then some (some (.int (0 : Int32)), x3)
   else 
    if a3 = (-1 : Int32) then some (some (.int (1 : Int32)), x3)
    else some (some (.int (0 : Int32)), x3)) := (mj_run_to (cd := cdX1) (rt := 5) (tab := tX1_isRight) (cal := kX1 d) zX1_isRight 42 (1103, [some (.ref 0), some (.int a1), some (.int a2), some (.int a3), none, none], [], x)).trans rfl
set_option maxRecDepth 100000 in
set_option maxHeartbeats 4000000 in
theorem bX1_isRight_1134 (d : Nat) (a1 : Int32) (a2 : Int32) (a3 : Int32) (x : mj_X) : rX1_isRight d (1134, [some (.ref 0), some (.int a1), some (.int a2), some (.int a3), none, none], [], x) = mj_rI (kX1 d 14 [.ref 0, .int a1, .int a2, .int a3] x) fun v2 x1 =>
  mj_gb v2 (some (some (.int v2), x1)) := (mj_run_to (cd := cdX1) (rt := 5) (tab := tX1_isRight) (cal := kX1 d) zX1_isRight 42 (1134, [some (.ref 0), some (.int a1), some (.int a2), some (.int a3), none, none], [], x)).trans rfl
noncomputable abbrev rX1_isBetween (d : Nat) : mj_S → mj_R := mj_run cdX1 5 tX1_isBetween (kX1 d)
def zX1_isBetween (p : Nat) : Bool := false
set_option maxRecDepth 100000 in
set_option maxHeartbeats 4000000 in
theorem eX1_isBetween (d : Nat) (a1 : Int32) (a2 : Int32) (a3 : Int32) (x : mj_X) : kX1 (d + 1) 6 [.ref 0, .int a1, .int a2, .int a3] x = mj_rI (kX1 d 7 [.ref 0, .int a1] x) fun v2 x1 =>
  
  if v2 = 0 then some (some (.int (0 : Int32)), x1)
  else mj_g a1 4000 (
   if (x1.1 5 a1.toNatClampNeg) < a2 then some (some (.int (0 : Int32)), x1)
   else mj_g a1 4000 (
    if a3 < (x1.1 5 a1.toNatClampNeg) then some (some (.int (0 : Int32)), x1)
    else some (some (.int (1 : Int32)), x1))) := (mj_run_to (cd := cdX1) (rt := 5) (tab := tX1_isBetween) (cal := kX1 d) zX1_isBetween 27 (0, [some (.ref 0), some (.int a1), some (.int a2), some (.int a3)], [], x)).trans rfl
noncomputable abbrev rX1_isExpression (d : Nat) : mj_S → mj_R := mj_run cdX1 5 tX1_isExpression (kX1 d)
def zX1_isExpression (p : Nat) : Bool := false
set_option maxRecDepth 100000 in
set_option maxHeartbeats 4000000 in
theorem eX1_isExpression (d : Nat) (a1 : Int32) (x : mj_X) : kX1 (d + 1) 7 [.ref 0, .int a1] x = mj_rI (kX1 d 8 [.ref 0, .int a1] x) fun v2 x1 =>
  
  if v2 = 0 then some (some (.int (0 : Int32)), x1)
  else mj_g a1 4000 (mj_rI (kX1 d 4 [.int (x1.1 2 a1.toNatClampNeg)] x1) fun v4 x3 =>
   
   if v4 = 0 then some (some (.int (0 : Int32)), x3)
   else mj_g a1 4000 (
    if (x3.1 5 a1.toNatClampNeg) ≤ 0 then some (some (.int (0 : Int32)), x3)
    else some (some (.int (1 : Int32)), x3))) := (mj_run_to (cd := cdX1) (rt := 5) (tab := tX1_isExpression) (cal := kX1 d) zX1_isExpression 26 (0, [some (.ref 0), some (.int a1)], [], x)).trans rfl
noncomputable abbrev rX1_isFree (d : Nat) : mj_S → mj_R := mj_run cdX1 5 tX1_isFree (kX1 d)
def zX1_isFree (p : Nat) : Bool := false
set_option maxRecDepth 100000 in
set_option maxHeartbeats 4000000 in
theorem eX1_isFree (d : Nat) (a1 : Int32) (x : mj_X) : kX1 (d + 1) 8 [.ref 0, .int a1] x = mj_rI (kX1 d 9 [.ref 0, .int a1] x) fun v2 x1 =>
  
  if v2 = 0 then some (some (.int (0 : Int32)), x1)
  else mj_g a1 4000 (
   if (x1.1 7 a1.toNatClampNeg) = 0 then some (some (.int (1 : Int32)), x1)
   else some (some (.int (0 : Int32)), x1)) := (mj_run_to (cd := cdX1) (rt := 5) (tab := tX1_isFree) (cal := kX1 d) zX1_isFree 18 (0, [some (.ref 0), some (.int a1)], [], x)).trans rfl
noncomputable abbrev rX1_isThere (d : Nat) : mj_S → mj_R := mj_run cdX1 5 tX1_isThere (kX1 d)
def zX1_isThere (p : Nat) : Bool := false
set_option maxRecDepth 100000 in
set_option maxHeartbeats 4000000 in
theorem eX1_isThere (d : Nat) (a1 : Int32) (x : mj_X) : kX1 (d + 1) 9 [.ref 0, .int a1] x = 
  if a1 < 0 then some (some (.int (0 : Int32)), x)
  else 
   if (x.1 0 0) ≤ a1 then some (some (.int (0 : Int32)), x)
   else some (some (.int (1 : Int32)), x) := (mj_run_to (cd := cdX1) (rt := 5) (tab := tX1_isThere) (cal := kX1 d) zX1_isThere 15 (0, [some (.ref 0), some (.int a1)], [], x)).trans rfl
noncomputable abbrev rX1_isOf (d : Nat) : mj_S → mj_R := mj_run cdX1 5 tX1_isOf (kX1 d)
def zX1_isOf (p : Nat) : Bool := false
set_option maxRecDepth 100000 in
set_option maxHeartbeats 4000000 in
theorem eX1_isOf (d : Nat) (a1 : Int32) (a2 : Int32) (x : mj_X) : kX1 (d + 1) 10 [.ref 0, .int a1, .int a2] x = mj_rI (kX1 d 7 [.ref 0, .int a1] x) fun v2 x1 =>
  
  if v2 = 0 then some (some (.int (0 : Int32)), x1)
  else mj_g a1 4000 (
   if (x1.1 5 a1.toNatClampNeg) = a2 then some (some (.int (1 : Int32)), x1)
   else some (some (.int (0 : Int32)), x1)) := (mj_run_to (cd := cdX1) (rt := 5) (tab := tX1_isOf) (cal := kX1 d) zX1_isOf 19 (0, [some (.ref 0), some (.int a1), some (.int a2)], [], x)).trans rfl
noncomputable abbrev rX1_isTarget (d : Nat) : mj_S → mj_R := mj_run cdX1 5 tX1_isTarget (kX1 d)
def zX1_isTarget (p : Nat) : Bool := bif Nat.beq p 20 then true else false
set_option maxRecDepth 100000 in
set_option maxHeartbeats 4000000 in
theorem eX1_isTarget (d : Nat) (a1 : Int32) (x : mj_X) : kX1 (d + 1) 11 [.ref 0, .int a1] x = mj_rI (kX1 d 12 [.ref 0, .int a1, .int (6 : Int32)] x) fun v2 x1 =>
  
  if v2 = 0 then rX1_isTarget d (20, [some (.ref 0), some (.int a1)], [], x1)
  else mj_g a1 4000 (
   if (x1.1 5 a1.toNatClampNeg) ≤ (4 : Int32) then some (some (.int (1 : Int32)), x1)
   else rX1_isTarget d (20, [some (.ref 0), some (.int a1)], [], x1)) := (mj_run_to (cd := cdX1) (rt := 5) (tab := tX1_isTarget) (cal := kX1 d) zX1_isTarget 18 (0, [some (.ref 0), some (.int a1)], [], x)).trans rfl
set_option maxRecDepth 100000 in
set_option maxHeartbeats 4000000 in
theorem bX1_isTarget_20 (d : Nat) (a1 : Int32) (x : mj_X) : rX1_isTarget d (20, [some (.ref 0), some (.int a1)], [], x) = mj_rI (kX1 d 12 [.ref 0, .int a1, .int (8 : Int32)] x) fun v2 x1 =>
  
  if v2 = 0 then some (some (.int (0 : Int32)), x1)
  else some (some (.int (1 : Int32)), x1) := (mj_run_to (cd := cdX1) (rt := 5) (tab := tX1_isTarget) (cal := kX1 d) zX1_isTarget 18 (20, [some (.ref 0), some (.int a1)], [], x)).trans rfl
noncomputable abbrev rX1_isA (d : Nat) : mj_S → mj_R := mj_run cdX1 5 tX1_isA (kX1 d)
def zX1_isA (p : Nat) : Bool := false
set_option maxRecDepth 100000 in
set_option maxHeartbeats 4000000 in
theorem eX1_isA (d : Nat) (a1 : Int32) (a2 : Int32) (x : mj_X) : kX1 (d + 1) 12 [.ref 0, .int a1, .int a2] x = mj_rI (kX1 d 8 [.ref 0, .int a1] x) fun v2 x1 =>
  
  if v2 = 0 then some (some (.int (0 : Int32)), x1)
  else mj_g a1 4000 (
   if (x1.1 2 a1.toNatClampNeg) = a2 then some (some (.int (1 : Int32)), x1)
   else some (some (.int (0 : Int32)), x1)) := (mj_run_to (cd := cdX1) (rt := 5) (tab := tX1_isA) (cal := kX1 d) zX1_isA 19 (0, [some (.ref 0), some (.int a1), some (.int a2)], [], x)).trans rfl
noncomputable abbrev rX1_isCall (d : Nat) : mj_S → mj_R := mj_run cdX1 5 tX1_isCall (kX1 d)
def zX1_isCall (p : Nat) : Bool := bif Nat.blt p 95 then (bif Nat.beq p 39 then true else false) else (bif Nat.beq p 95 then true else false)
set_option maxRecDepth 100000 in
set_option maxHeartbeats 4000000 in
theorem eX1_isCall (d : Nat) (a1 : Int32) (a2 : Int32) (x : mj_X) : kX1 (d + 1) 13 [.ref 0, .int a1, .int a2] x = 
  if a1 < 0 then some (some (.int (0 : Int32)), x)
  else 
   if (x.1 0 7) ≤ a1 then some (some (.int (0 : Int32)), x)
   else 
    if a2 = (-1 : Int32) then mj_g a1 40 (rX1_isCall d (39, [some (.ref 0), some (.int a1), some (.int a2), some (.int (x.1 10 a1.toNatClampNeg)), some (.int a2)], [], x))
    else mj_rI (kX1 d 12 [.ref 0, .int a2, .int (49 : Int32)] x) fun v2 x1 =>
     
     if v2 = 0 then some (some (.int (0 : Int32)), x1)
     else mj_g a1 40 (rX1_isCall d (39, [some (.ref 0), some (.int a1), some (.int a2), some (.int (x1.1 10 a1.toNatClampNeg)), some (.int a2)], [], x1)) := (mj_run_to (cd := cdX1) (rt := 5) (tab := tX1_isCall) (cal := kX1 d) zX1_isCall 38 (0, [some (.ref 0), some (.int a1), some (.int a2), none, none], [], x)).trans rfl
set_option maxRecDepth 100000 in
set_option maxHeartbeats 4000000 in
theorem bX1_isCall_39 (d : Nat) (a1 : Int32) (a2 : Int32) (a3 : Int32) (a4 : Int32) (x : mj_X) : rX1_isCall d (39, [some (.ref 0), some (.int a1), some (.int a2), some (.int a3), some (.int a4)], [], x) = 
  if a3 = (-1 : Int32) then rX1_isCall d (95, [some (.ref 0), some (.int a1), some (.int a2), some (.int a3), some (.int a4)], [], x)
  else 
   if a4 = (-1 : Int32) then rX1_isCall d (95, [some (.ref 0), some (.int a1), some (.int a2), some (.int a3), some (.int a4)], [], x)
   else mj_g a3 4000 (mj_g (x.1 3 a3.toNatClampNeg) 4000 (mj_g a4 4000 (mj_g (x.1 3 a4.toNatClampNeg) 4000 (
    if (x.1 5 (x.1 3 a3.toNatClampNeg).toNatClampNeg) = (x.1 5 (x.1 3 a4.toNatClampNeg).toNatClampNeg) then mj_g a3 4000 (mj_g a4 4000 (rX1_isCall d (39, [some (.ref 0), some (.int a1), some (.int a2), some (.int (x.1 4 a3.toNatClampNeg)), some (.int (x.1 4 a4.toNatClampNeg))], [], x)))
    else rX1_isCall d (95, [some (.ref 0), some (.int a1), some (.int a2), some (.int a3), some (.int a4)], [], x))))) := (mj_run_to (cd := cdX1) (rt := 5) (tab := tX1_isCall) (cal := kX1 d) zX1_isCall 38 (39, [some (.ref 0), some (.int a1), some (.int a2), some (.int a3), some (.int a4)], [], x)).trans rfl
set_option maxRecDepth 100000 in
set_option maxHeartbeats 4000000 in
theorem bX1_isCall_95 (d : Nat) (a1 : Int32) (a2 : Int32) (a3 : Int32) (a4 : Int32) (x : mj_X) : rX1_isCall d (95, [some (.ref 0), some (.int a1), some (.int a2), some (.int a3), some (.int a4)], [], x) = 
  if a3 = (-1 : Int32) then 
   if a4 = (-1 : Int32) then some (some (.int (1 : Int32)), x)
   else some (some (.int (0 : Int32)), x)
  else some (some (.int (0 : Int32)), x) := (mj_run_to (cd := cdX1) (rt := 5) (tab := tX1_isCall) (cal := kX1 d) zX1_isCall 38 (95, [some (.ref 0), some (.int a1), some (.int a2), some (.int a3), some (.int a4)], [], x)).trans rfl
noncomputable abbrev rX1_isRightStatement (d : Nat) : mj_S → mj_R := mj_run cdX1 5 tX1_isRightStatement (kX1 d)
def zX1_isRightStatement (p : Nat) : Bool := bif Nat.blt p 374 then (bif Nat.blt p 244 then (bif Nat.blt p 177 then (bif Nat.blt p 150 then (bif Nat.beq p 116 then true else false) else (bif Nat.beq p 150 then true else false)) else (bif Nat.blt p 196 then (bif Nat.beq p 177 then true else false) else (bif Nat.blt p 219 then (bif Nat.beq p 196 then true else false) else (bif Nat.beq p 219 then true else false)))) else (bif Nat.blt p 306 then (bif Nat.blt p 267 then (bif Nat.beq p 244 then true else false) else (bif Nat.blt p 291 then (bif Nat.beq p 267 then true else false) else (bif Nat.beq p 291 then true else false))) else (bif Nat.blt p 330 then (bif Nat.beq p 306 then true else false) else (bif Nat.blt p 350 then (bif Nat.beq p 330 then true else false) else (bif Nat.beq p 350 then true else false))))) else (bif Nat.blt p 524 then (bif Nat.blt p 439 then (bif Nat.blt p 394 then (bif Nat.beq p 374 then true else false) else (bif Nat.blt p 415 then (bif Nat.beq p 394 then true else false) else (bif Nat.beq p 415 then true else false))) else (bif Nat.blt p 474 then (bif Nat.beq p 439 then true else false) else (bif Nat.blt p 499 then (bif Nat.beq p 474 then true else false) else (bif Nat.beq p 499 then true else false)))) else (bif Nat.blt p 580 then (bif Nat.blt p 544 then (bif Nat.beq p 524 then true else false) else (bif Nat.blt p 574 then (bif Nat.beq p 544 then true else false) else (bif Nat.beq p 574 then true else false))) else (bif Nat.blt p 599 then (bif Nat.beq p 580 then true else false) else (bif Nat.blt p 624 then (bif Nat.beq p 599 then true else false) else (bif Nat.beq p 624 then true else false)))))
set_option maxRecDepth 100000 in
set_option maxHeartbeats 4000000 in
theorem eX1_isRightStatement (d : Nat) (a1 : Int32) (a2 : Int32) (a3 : Int32) (x : mj_X) : kX1 (d + 1) 14 [.ref 0, .int a1, .int a2, .int a3] x = mj_sw a1 61 (623) [115, 149, 176, 195, 218, 149, 195, 243, 266, 195, 290, 290, 305, 329, 349, 373, 414, 438, 149, 473, 498, 523, 573, 579, 598] fun off => mj_j 1 off fun t => rX1_isRightStatement d (t, [some (.ref 0), some (.int a1), some (.int a2), some (.int a3)], [], x) := (mj_run_to (cd := cdX1) (rt := 5) (tab := tX1_isRightStatement) (cal := kX1 d) zX1_isRightStatement 27 (0, [some (.ref 0), some (.int a1), some (.int a2), some (.int a3)], [], x)).trans rfl
set_option maxRecDepth 100000 in
set_option maxHeartbeats 4000000 in
theorem bX1_isRightStatement_116 (d : Nat) (a1 : Int32) (a2 : Int32) (a3 : Int32) (x : mj_X) : rX1_isRightStatement d (116, [some (.ref 0), some (.int a1), some (.int a2), some (.int a3)], [], x) = mj_rI (kX1 d 12 [.ref 0, .int a2, .int (5 : Int32)] x) fun v2 x1 =>
  
  if v2 = 0 then some (some (.int (0 : Int32)), x1)
  else 
   if a2 = a3 then some (some (.int (0 : Int32)), x1)
   else mj_g a2 4000 (mj_rI (kX1 d 10 [.ref 0, .int a3, .int (x1.1 5 a2.toNatClampNeg)] x1) fun v4 x3 =>
    
    if v4 = 0 then some (some (.int (0 : Int32)), x3)
    else some (some (.int (1 : Int32)), x3)) := (mj_run_to (cd := cdX1) (rt := 5) (tab := tX1_isRightStatement) (cal := kX1 d) zX1_isRightStatement 27 (116, [some (.ref 0), some (.int a1), some (.int a2), some (.int a3)], [], x)).trans rfl
set_option maxRecDepth 100000 in
set_option maxHeartbeats 4000000 in
theorem bX1_isRightStatement_150 (d : Nat) (a1 : Int32) (a2 : Int32) (a3 : Int32) (x : mj_X) : rX1_isRightStatement d (150, [some (.ref 0), some (.int a1), some (.int a2), some (.int a3)], [], x) = mj_rI (kX1 d 15 [.ref 0, .int a2] x) fun v2 x1 =>
  
  if v2 = 0 then some (some (.int (0 : Int32)), x1)
  else 
   if a2 = a3 then some (some (.int (0 : Int32)), x1)
   else mj_rI (kX1 d 15 [.ref 0, .int a3] x1) fun v4 x3 =>
    
    if v4 = 0 then some (some (.int (0 : Int32)), x3)
    else some (some (.int (1 : Int32)), x3) := (mj_run_to (cd := cdX1) (rt := 5) (tab := tX1_isRightStatement) (cal := kX1 d) zX1_isRightStatement 27 (150, [some (.ref 0), some (.int a1), some (.int a2), some (.int a3)], [], x)).trans rfl
set_option maxRecDepth 100000 in
set_option maxHeartbeats 4000000 in
theorem bX1_isRightStatement_177 (d : Nat) (a1 : Int32) (a2 : Int32) (a3 : Int32) (x : mj_X) : rX1_isRightStatement d (177, [some (.ref 0), some (.int a1), some (.int a2), some (.int a3)], [], x) = mj_rI (kX1 d 15 [.ref 0, .int a2] x) fun v2 x1 =>
  
  if v2 = 0 then some (some (.int (0 : Int32)), x1)
  else 
   if a3 = (-1 : Int32) then some (some (.int (1 : Int32)), x1)
   else some (some (.int (0 : Int32)), x1) := (mj_run_to (cd := cdX1) (rt := 5) (tab := tX1_isRightStatement) (cal := kX1 d) zX1_isRightStatement 27 (177, [some (.ref 0), some (.int a1), some (.int a2), some (.int a3)], [], x)).trans rfl
set_option maxRecDepth 100000 in
set_option maxHeartbeats 4000000 in
theorem bX1_isRightStatement_196 (d : Nat) (a1 : Int32) (a2 : Int32) (a3 : Int32) (x : mj_X) : rX1_isRightStatement d (196, [some (.ref 0), some (.int a1), some (.int a2), some (.int a3)], [], x) = mj_rI (kX1 d 10 [.ref 0, .int a2, .int (1 : Int32)] x) fun v2 x1 =>
  
  if v2 = 0 then some (some (.int (0 : Int32)), x1)
  else mj_rI (kX1 d 15 [.ref 0, .int a3] x1) fun v4 x3 =>
   
   if v4 = 0 then some (some (.int (0 : Int32)), x3)
   else some (some (.int (1 : Int32)), x3) := (mj_run_to (cd := cdX1) (rt := 5) (tab := tX1_isRightStatement) (cal := kX1 d) zX1_isRightStatement 27 (196, [some (.ref 0), some (.int a1), some (.int a2), some (.int a3)], [], x)).trans rfl
set_option maxRecDepth 100000 in
set_option maxHeartbeats 4000000 in
theorem bX1_isRightStatement_219 (d : Nat) (a1 : Int32) (a2 : Int32) (a3 : Int32) (x : mj_X) : rX1_isRightStatement d (219, [some (.ref 0), some (.int a1), some (.int a2), some (.int a3)], [], x) = mj_rI (kX1 d 10 [.ref 0, .int a2, .int (1 : Int32)] x) fun v2 x1 =>
  
  if v2 = 0 then some (some (.int (0 : Int32)), x1)
  else mj_rI (kX1 d 12 [.ref 0, .int a3, .int (66 : Int32)] x1) fun v4 x3 =>
   
   if v4 = 0 then some (some (.int (0 : Int32)), x3)
   else some (some (.int (1 : Int32)), x3) := (mj_run_to (cd := cdX1) (rt := 5) (tab := tX1_isRightStatement) (cal := kX1 d) zX1_isRightStatement 27 (219, [some (.ref 0), some (.int a1), some (.int a2), some (.int a3)], [], x)).trans rfl
set_option maxRecDepth 100000 in
set_option maxHeartbeats 4000000 in
theorem bX1_isRightStatement_244 (d : Nat) (a1 : Int32) (a2 : Int32) (a3 : Int32) (x : mj_X) : rX1_isRightStatement d (244, [some (.ref 0), some (.int a1), some (.int a2), some (.int a3)], [], x) = mj_rI (kX1 d 15 [.ref 0, .int a2] x) fun v2 x1 =>
  
  if v2 = 0 then some (some (.int (0 : Int32)), x1)
  else mj_rI (kX1 d 10 [.ref 0, .int a3, .int (1 : Int32)] x1) fun v4 x3 =>
   
   if v4 = 0 then some (some (.int (0 : Int32)), x3)
   else some (some (.int (1 : Int32)), x3) := (mj_run_to (cd := cdX1) (rt := 5) (tab := tX1_isRightStatement) (cal := kX1 d) zX1_isRightStatement 27 (244, [some (.ref 0), some (.int a1), some (.int a2), some (.int a3)], [], x)).trans rfl
set_option maxRecDepth 100000 in
set_option maxHeartbeats 4000000 in
theorem bX1_isRightStatement_267 (d : Nat) (a1 : Int32) (a2 : Int32) (a3 : Int32) (x : mj_X) : rX1_isRightStatement d (267, [some (.ref 0), some (.int a1), some (.int a2), some (.int a3)], [], x) = mj_rI (kX1 d 12 [.ref 0, .int a2, .int (70 : Int32)] x) fun v2 x1 =>
  
  if v2 = 0 then some (some (.int (0 : Int32)), x1)
  else mj_rI (kX1 d 15 [.ref 0, .int a3] x1) fun v4 x3 =>
   
   if v4 = 0 then some (some (.int (0 : Int32)), x3)
   else some (some (.int (1 : Int32)), x3) := (mj_run_to (cd := cdX1) (rt := 5) (tab := tX1_isRightStatement) (cal := kX1 d) zX1_isRightStatement 27 (267, [some (.ref 0), some (.int a1), some (.int a2), some (.int a3)], [], x)).trans rfl
set_option maxRecDepth 100000 in
set_option maxHeartbeats 4000000 in
theorem bX1_isRightStatement_291 (d : Nat) (a1 : Int32) (a2 : Int32) (a3 : Int32) (x : mj_X) : rX1_isRightStatement d (291, [some (.ref 0), some (.int a1), some (.int a2), some (.int a3)], [], x) = 
  if a2 < 0 then some (some (.int (0 : Int32)), x)
  else 
   if a3 = (-1 : Int32) then some (some (.int (1 : Int32)), x)
   else some (some (.int (0 : Int32)), x) := (mj_run_to (cd := cdX1) (rt := 5) (tab := tX1_isRightStatement) (cal := kX1 d) zX1_isRightStatement 27 (291, [some (.ref 0), some (.int a1), some (.int a2), some (.int a3)], [], x)).trans rfl
set_option maxRecDepth 100000 in
set_option maxHeartbeats 4000000 in
theorem bX1_isRightStatement_306 (d : Nat) (a1 : Int32) (a2 : Int32) (a3 : Int32) (x : mj_X) : rX1_isRightStatement d (306, [some (.ref 0), some (.int a1), some (.int a2), some (.int a3)], [], x) = 
  if a2 = (-1 : Int32) then 
   if a3 = (-1 : Int32) then some (some (.int (1 : Int32)), x)
   else some (some (.int (0 : Int32)), x)
  else mj_rI (kX1 d 7 [.ref 0, .int a2] x) fun v2 x1 =>
   
   if v2 = 0 then some (some (.int (0 : Int32)), x1)
   else 
    if a3 = (-1 : Int32) then some (some (.int (1 : Int32)), x1)
    else some (some (.int (0 : Int32)), x1) := (mj_run_to (cd := cdX1) (rt := 5) (tab := tX1_isRightStatement) (cal := kX1 d) zX1_isRightStatement 27 (306, [some (.ref 0), some (.int a1), some (.int a2), some (.int a3)], [], x)).trans rfl
set_option maxRecDepth 100000 in
set_option maxHeartbeats 4000000 in
theorem bX1_isRightStatement_330 (d : Nat) (a1 : Int32) (a2 : Int32) (a3 : Int32) (x : mj_X) : rX1_isRightStatement d (330, [some (.ref 0), some (.int a1), some (.int a2), some (.int a3)], [], x) = mj_rI (kX1 d 10 [.ref 0, .int a2, .int (1 : Int32)] x) fun v2 x1 =>
  
  if v2 = 0 then some (some (.int (0 : Int32)), x1)
  else 
   if a3 = (-1 : Int32) then some (some (.int (1 : Int32)), x1)
   else some (some (.int (0 : Int32)), x1) := (mj_run_to (cd := cdX1) (rt := 5) (tab := tX1_isRightStatement) (cal := kX1 d) zX1_isRightStatement 27 (330, [some (.ref 0), some (.int a1), some (.int a2), some (.int a3)], [], x)).trans rfl
set_option maxRecDepth 100000 in
set_option maxHeartbeats 4000000 in
theorem bX1_isRightStatement_350 (d : Nat) (a1 : Int32) (a2 : Int32) (a3 : Int32) (x : mj_X) : rX1_isRightStatement d (350, [some (.ref 0), some (.int a1), some (.int a2), some (.int a3)], [], x) = mj_rI (kX1 d 15 [.ref 0, .int a2] x) fun v2 x1 =>
  
  if v2 = 0 then some (some (.int (0 : Int32)), x1)
  else mj_rI (kX1 d 12 [.ref 0, .int a3, .int (76 : Int32)] x1) fun v4 x3 =>
   
   if v4 = 0 then some (some (.int (0 : Int32)), x3)
   else some (some (.int (1 : Int32)), x3) := (mj_run_to (cd := cdX1) (rt := 5) (tab := tX1_isRightStatement) (cal := kX1 d) zX1_isRightStatement 27 (350, [some (.ref 0), some (.int a1), some (.int a2), some (.int a3)], [], x)).trans rfl
set_option maxRecDepth 100000 in
set_option maxHeartbeats 4000000 in
theorem bX1_isRightStatement_374 (d : Nat) (a1 : Int32) (a2 : Int32) (a3 : Int32) (x : mj_X) : rX1_isRightStatement d (374, [some (.ref 0), some (.int a1), some (.int a2), some (.int a3)], [], x) = mj_rI (kX1 d 12 [.ref 0, .int a2, .int (77 : Int32)] x) fun v2 x1 =>
  
  if v2 = 0 then mj_rI (kX1 d 12 [.ref 0, .int a2, .int (78 : Int32)] x1) fun v4 x3 =>
   
   if v4 = 0 then some (some (.int (0 : Int32)), x3)
   else rX1_isRightStatement d (394, [some (.ref 0), some (.int a1), some (.int a2), some (.int a3)], [], x3)
  else rX1_isRightStatement d (394, [some (.ref 0), some (.int a1), some (.int a2), some (.int a3)], [], x1) := (mj_run_to (cd := cdX1) (rt := 5) (tab := tX1_isRightStatement) (cal := kX1 d) zX1_isRightStatement 27 (374, [some (.ref 0), some (.int a1), some (.int a2), some (.int a3)], [], x)).trans rfl
set_option maxRecDepth 100000 in
set_option maxHeartbeats 4000000 in
theorem bX1_isRightStatement_394 (d : Nat) (a1 : Int32) (a2 : Int32) (a3 : Int32) (x : mj_X) : rX1_isRightStatement d (394, [some (.ref 0), some (.int a1), some (.int a2), some (.int a3)], [], x) = 
  if a3 = (-1 : Int32) then some (some (.int (1 : Int32)), x)
  else mj_rI (kX1 d 12 [.ref 0, .int a3, .int (76 : Int32)] x) fun v2 x1 =>
   
   if v2 = 0 then some (some (.int (0 : Int32)), x1)
   else some (some (.int (1 : Int32)), x1) := (mj_run_to (cd := cdX1) (rt := 5) (tab := tX1_isRightStatement) (cal := kX1 d) zX1_isRightStatement 27 (394, [some (.ref 0), some (.int a1), some (.int a2), some (.int a3)], [], x)).trans rfl
set_option maxRecDepth 100000 in
set_option maxHeartbeats 4000000 in
theorem bX1_isRightStatement_415 (d : Nat) (a1 : Int32) (a2 : Int32) (a3 : Int32) (x : mj_X) : rX1_isRightStatement d (415, [some (.ref 0), some (.int a1), some (.int a2), some (.int a3)], [], x) = 
  if a2 < 0 then some (some (.int (0 : Int32)), x)
  else 
   if (7 : Int32) < a2 then some (some (.int (0 : Int32)), x)
   else mj_rI (kX1 d 15 [.ref 0, .int a3] x) fun v2 x1 =>
    
    if v2 = 0 then some (some (.int (0 : Int32)), x1)
    else some (some (.int (1 : Int32)), x1) := (mj_run_to (cd := cdX1) (rt := 5) (tab := tX1_isRightStatement) (cal := kX1 d) zX1_isRightStatement 27 (415, [some (.ref 0), some (.int a1), some (.int a2), some (.int a3)], [], x)).trans rfl
set_option maxRecDepth 100000 in
set_option maxHeartbeats 4000000 in
theorem bX1_isRightStatement_439 (d : Nat) (a1 : Int32) (a2 : Int32) (a3 : Int32) (x : mj_X) : rX1_isRightStatement d (439, [some (.ref 0), some (.int a1), some (.int a2), some (.int a3)], [], x) = mj_rI (kX1 d 12 [.ref 0, .int a2, .int (5 : Int32)] x) fun v2 x1 =>
  
  if v2 = 0 then some (some (.int (0 : Int32)), x1)
  else mj_g a2 4000 (
   if (x1.1 5 a2.toNatClampNeg) = (1 : Int32) then mj_rI (kX1 d 12 [.ref 0, .int a3, .int (77 : Int32)] x1) fun v4 x3 =>
    
    if v4 = 0 then some (some (.int (0 : Int32)), x3)
    else some (some (.int (1 : Int32)), x3)
   else some (some (.int (0 : Int32)), x1)) := (mj_run_to (cd := cdX1) (rt := 5) (tab := tX1_isRightStatement) (cal := kX1 d) zX1_isRightStatement 27 (439, [some (.ref 0), some (.int a1), some (.int a2), some (.int a3)], [], x)).trans rfl
set_option maxRecDepth 100000 in
set_option maxHeartbeats 4000000 in
theorem bX1_isRightStatement_474 (d : Nat) (a1 : Int32) (a2 : Int32) (a3 : Int32) (x : mj_X) : rX1_isRightStatement d (474, [some (.ref 0), some (.int a1), some (.int a2), some (.int a3)], [], x) = mj_rI (kX1 d 6 [.ref 0, .int a2, .int (5 : Int32), .int (8 : Int32)] x) fun v2 x1 =>
  
  if v2 = 0 then some (some (.int (0 : Int32)), x1)
  else mj_rI (kX1 d 15 [.ref 0, .int a3] x1) fun v4 x3 =>
   
   if v4 = 0 then some (some (.int (0 : Int32)), x3)
   else some (some (.int (1 : Int32)), x3) := (mj_run_to (cd := cdX1) (rt := 5) (tab := tX1_isRightStatement) (cal := kX1 d) zX1_isRightStatement 27 (474, [some (.ref 0), some (.int a1), some (.int a2), some (.int a3)], [], x)).trans rfl
set_option maxRecDepth 100000 in
set_option maxHeartbeats 4000000 in
theorem bX1_isRightStatement_499 (d : Nat) (a1 : Int32) (a2 : Int32) (a3 : Int32) (x : mj_X) : rX1_isRightStatement d (499, [some (.ref 0), some (.int a1), some (.int a2), some (.int a3)], [], x) = mj_rI (kX1 d 10 [.ref 0, .int a2, .int (1 : Int32)] x) fun v2 x1 =>
  
  if v2 = 0 then some (some (.int (0 : Int32)), x1)
  else mj_rI (kX1 d 12 [.ref 0, .int a3, .int (82 : Int32)] x1) fun v4 x3 =>
   
   if v4 = 0 then some (some (.int (0 : Int32)), x3)
   else some (some (.int (1 : Int32)), x3) := (mj_run_to (cd := cdX1) (rt := 5) (tab := tX1_isRightStatement) (cal := kX1 d) zX1_isRightStatement 27 (499, [some (.ref 0), some (.int a1), some (.int a2), some (.int a3)], [], x)).trans rfl
set_option maxRecDepth 100000 in
set_option maxHeartbeats 4000000 in
theorem bX1_isRightStatement_524 (d : Nat) (a1 : Int32) (a2 : Int32) (a3 : Int32) (x : mj_X) : rX1_isRightStatement d (524, [some (.ref 0), some (.int a1), some (.int a2), some (.int a3)], [], x) = mj_rI (kX1 d 12 [.ref 0, .int a2, .int (83 : Int32)] x) fun v2 x1 =>
  
  if v2 = 0 then mj_rI (kX1 d 12 [.ref 0, .int a2, .int (84 : Int32)] x1) fun v4 x3 =>
   
   if v4 = 0 then some (some (.int (0 : Int32)), x3)
   else rX1_isRightStatement d (544, [some (.ref 0), some (.int a1), some (.int a2), some (.int a3)], [], x3)
  else rX1_isRightStatement d (544, [some (.ref 0), some (.int a1), some (.int a2), some (.int a3)], [], x1) := (mj_run_to (cd := cdX1) (rt := 5) (tab := tX1_isRightStatement) (cal := kX1 d) zX1_isRightStatement 27 (524, [some (.ref 0), some (.int a1), some (.int a2), some (.int a3)], [], x)).trans rfl
set_option maxRecDepth 100000 in
set_option maxHeartbeats 4000000 in
theorem bX1_isRightStatement_544 (d : Nat) (a1 : Int32) (a2 : Int32) (a3 : Int32) (x : mj_X) : rX1_isRightStatement d (544, [some (.ref 0), some (.int a1), some (.int a2), some (.int a3)], [], x) = 
  if a3 = (-1 : Int32) then some (some (.int (1 : Int32)), x)
  else mj_rI (kX1 d 12 [.ref 0, .int a3, .int (82 : Int32)] x) fun v2 x1 =>
   
   if v2 = 0 then some (some (.int (0 : Int32)), x1)
   else mj_rI (kX1 d 16 [.ref 0, .int a3, .int a2] x1) fun v4 x3 =>
    
    if v4 = 0 then some (some (.int (1 : Int32)), x3)
    else some (some (.int (0 : Int32)), x3) := (mj_run_to (cd := cdX1) (rt := 5) (tab := tX1_isRightStatement) (cal := kX1 d) zX1_isRightStatement 27 (544, [some (.ref 0), some (.int a1), some (.int a2), some (.int a3)], [], x)).trans rfl
set_option maxRecDepth 100000 in
set_option maxHeartbeats 4000000 in
theorem bX1_isRightStatement_574 (d : Nat) (a1 : Int32) (a2 : Int32) (a3 : Int32) (x : mj_X) : rX1_isRightStatement d (574, [some (.ref 0), some (.int a1), some (.int a2), some (.int a3)], [], x) = mj_rI (kX1 d 15 [.ref 0, .int a3] x) fun v2 x1 =>
  mj_gb v2 (some (some (.int v2), x1)) := (mj_run_to (cd := cdX1) (rt := 5) (tab := tX1_isRightStatement) (cal := kX1 d) zX1_isRightStatement 27 (574, [some (.ref 0), some (.int a1), some (.int a2), some (.int a3)], [], x)).trans rfl
set_option maxRecDepth 100000 in
set_option maxHeartbeats 4000000 in
theorem bX1_isRightStatement_580 (d : Nat) (a1 : Int32) (a2 : Int32) (a3 : Int32) (x : mj_X) : rX1_isRightStatement d (580, [some (.ref 0), some (.int a1), some (.int a2), some (.int a3)], [], x) = 
  if a2 = (-1 : Int32) then mj_rI (kX1 d 15 [.ref 0, .int a3] x) fun v2 x1 =>
   
   if v2 = 0 then some (some (.int (0 : Int32)), x1)
   else some (some (.int (1 : Int32)), x1)
  else some (some (.int (0 : Int32)), x) := (mj_run_to (cd := cdX1) (rt := 5) (tab := tX1_isRightStatement) (cal := kX1 d) zX1_isRightStatement 27 (580, [some (.ref 0), some (.int a1), some (.int a2), some (.int a3)], [], x)).trans rfl
set_option maxRecDepth 100000 in
set_option maxHeartbeats 4000000 in
theorem bX1_isRightStatement_599 (d : Nat) (a1 : Int32) (a2 : Int32) (a3 : Int32) (x : mj_X) : rX1_isRightStatement d (599, [some (.ref 0), some (.int a1), some (.int a2), some (.int a3)], [], x) = 
  if a2 < 0 then some (some (.int (0 : Int32)), x)
  else 
   if (65535 : Int32) < a2 then some (some (.int (0 : Int32)), x)
   else mj_rI (kX1 d 15 [.ref 0, .int a3] x) fun v2 x1 =>
    
    if v2 = 0 then some (some (.int (0 : Int32)), x1)
    else some (some (.int (1 : Int32)), x1) := (mj_run_to (cd := cdX1) (rt := 5) (tab := tX1_isRightStatement) (cal := kX1 d) zX1_isRightStatement 27 (599, [some (.ref 0), some (.int a1), some (.int a2), some (.int a3)], [], x)).trans rfl
set_option maxRecDepth 100000 in
set_option maxHeartbeats 4000000 in
theorem bX1_isRightStatement_624 (d : Nat) (a1 : Int32) (a2 : Int32) (a3 : Int32) (x : mj_X) : rX1_isRightStatement d (624, [some (.ref 0), some (.int a1), some (.int a2), some (.int a3)], [], x) = some (some (.int (0 : Int32)), x) := (mj_run_to (cd := cdX1) (rt := 5) (tab := tX1_isRightStatement) (cal := kX1 d) zX1_isRightStatement 27 (624, [some (.ref 0), some (.int a1), some (.int a2), some (.int a3)], [], x)).trans rfl
noncomputable abbrev rX1_isStatement (d : Nat) : mj_S → mj_R := mj_run cdX1 5 tX1_isStatement (kX1 d)
def zX1_isStatement (p : Nat) : Bool := false
set_option maxRecDepth 100000 in
set_option maxHeartbeats 4000000 in
theorem eX1_isStatement (d : Nat) (a1 : Int32) (x : mj_X) : kX1 (d + 1) 15 [.ref 0, .int a1] x = mj_rI (kX1 d 8 [.ref 0, .int a1] x) fun v2 x1 =>
  
  if v2 = 0 then some (some (.int (0 : Int32)), x1)
  else mj_g a1 4000 (mj_rI (kX1 d 3 [.int (x1.1 2 a1.toNatClampNeg)] x1) fun v4 x3 =>
   
   if v4 = 0 then some (some (.int (0 : Int32)), x3)
   else some (some (.int (1 : Int32)), x3)) := (mj_run_to (cd := cdX1) (rt := 5) (tab := tX1_isStatement) (cal := kX1 d) zX1_isStatement 19 (0, [some (.ref 0), some (.int a1)], [], x)).trans rfl
noncomputable abbrev rX1_isCase (d : Nat) : mj_S → mj_R := mj_run cdX1 5 tX1_isCase (kX1 d)
def zX1_isCase (p : Nat) : Bool := bif Nat.beq p 2 then true else false
set_option maxRecDepth 100000 in
set_option maxHeartbeats 4000000 in
theorem eX1_isCase (d : Nat) (a1 : Int32) (a2 : Int32) (x : mj_X) : kX1 (d + 1) 16 [.ref 0, .int a1, .int a2] x = rX1_isCase d (2, [some (.ref 0), some (.int a1), some (.int a2), some (.int a1), none], [], x) := (mj_run_to (cd := cdX1) (rt := 5) (tab := tX1_isCase) (cal := kX1 d) zX1_isCase 54 (0, [some (.ref 0), some (.int a1), some (.int a2), none, none], [], x)).trans rfl
set_option maxRecDepth 100000 in
set_option maxHeartbeats 4000000 in
theorem bX1_isCase_2 (d : Nat) (a1 : Int32) (a2 : Int32) (a3 : Int32) (o4 : Option Value) (x : mj_X) : rX1_isCase d (2, [some (.ref 0), some (.int a1), some (.int a2), some (.int a3), o4], [], x) = 
  if a3 = (-1 : Int32) then some (some (.int (0 : Int32)), x)
  else mj_g a3 4000 (mj_g (x.1 3 a3.toNatClampNeg) 4000 (mj_g a2 4000 (
   if (x.1 2 (x.1 3 a3.toNatClampNeg).toNatClampNeg) = (x.1 2 a2.toNatClampNeg) then mj_g (x.1 3 a3.toNatClampNeg) 4000 (
    if (x.1 2 (x.1 3 a3.toNatClampNeg).toNatClampNeg) = (84 : Int32) then some (some (.int (1 : Int32)), x)
    else mj_g (x.1 3 a3.toNatClampNeg) 4000 (mj_g a2 4000 (
     if (x.1 3 (x.1 3 a3.toNatClampNeg).toNatClampNeg) = (x.1 3 a2.toNatClampNeg) then some (some (.int (1 : Int32)), x)
     else mj_g a3 4000 (rX1_isCase d (2, [some (.ref 0), some (.int a1), some (.int a2), some (.int (x.1 4 a3.toNatClampNeg)), some (.int (x.1 3 a3.toNatClampNeg))], [], x)))))
   else mj_g a3 4000 (rX1_isCase d (2, [some (.ref 0), some (.int a1), some (.int a2), some (.int (x.1 4 a3.toNatClampNeg)), some (.int (x.1 3 a3.toNatClampNeg))], [], x))))) := (mj_run_to (cd := cdX1) (rt := 5) (tab := tX1_isCase) (cal := kX1 d) zX1_isCase 54 (2, [some (.ref 0), some (.int a1), some (.int a2), some (.int a3), o4], [], x)).trans rfl
noncomputable abbrev rX1_isFirstPart (d : Nat) : mj_S → mj_R := mj_run cdX1 5 tX1_isFirstPart (kX1 d)
def zX1_isFirstPart (p : Nat) : Bool := bif Nat.beq p 11 then true else false
set_option maxRecDepth 100000 in
set_option maxHeartbeats 4000000 in
theorem eX1_isFirstPart (d : Nat) (a0 : Int32) (x : mj_X) : kX1 (d + 1) 17 [.int a0] x = 
  if a0 < (1 : Int32) then rX1_isFirstPart d (11, [some (.int a0)], [], x)
  else 
   if a0 ≤ (7 : Int32) then some (some (.int (0 : Int32)), x)
   else rX1_isFirstPart d (11, [some (.int a0)], [], x) := (mj_run_to (cd := cdX1) (rt := 5) (tab := tX1_isFirstPart) (cal := kX1 d) zX1_isFirstPart 55 (0, [some (.int a0)], [], x)).trans rfl
set_option maxRecDepth 100000 in
set_option maxHeartbeats 4000000 in
theorem bX1_isFirstPart_11 (d : Nat) (a0 : Int32) (x : mj_X) : rX1_isFirstPart d (11, [some (.int a0)], [], x) = 
  if a0 = (22 : Int32) then some (some (.int (0 : Int32)), x)
  else 
   if a0 = (46 : Int32) then some (some (.int (0 : Int32)), x)
   else 
    if a0 = (48 : Int32) then some (some (.int (0 : Int32)), x)
    else 
     if a0 = (51 : Int32) then some (some (.int (0 : Int32)), x)
     else 
      if a0 = (71 : Int32) then some (some (.int (0 : Int32)), x)
      else 
       if a0 = (72 : Int32) then some (some (.int (0 : Int32)), x)
       else 
        if a0 = (77 : Int32) then some (some (.int (0 : Int32)), x)
        else 
         if a0 = (83 : Int32) then some (some (.int (0 : Int32)), x)
         else 
          if a0 = (84 : Int32) then some (some (.int (0 : Int32)), x)
          else 
           if a0 = (85 : Int32) then some (some (.int (0 : Int32)), x)
           else some (some (.int (1 : Int32)), x) := (mj_run_to (cd := cdX1) (rt := 5) (tab := tX1_isFirstPart) (cal := kX1 d) zX1_isFirstPart 55 (11, [some (.int a0)], [], x)).trans rfl
noncomputable abbrev rX1_isSecondPart (d : Nat) : mj_S → mj_R := mj_run cdX1 5 tX1_isSecondPart (kX1 d)
def zX1_isSecondPart (p : Nat) : Bool := bif Nat.beq p 11 then true else false
set_option maxRecDepth 100000 in
set_option maxHeartbeats 4000000 in
theorem eX1_isSecondPart (d : Nat) (a0 : Int32) (x : mj_X) : kX1 (d + 1) 18 [.int a0] x = 
  if a0 < (1 : Int32) then rX1_isSecondPart d (11, [some (.int a0)], [], x)
  else 
   if a0 ≤ (6 : Int32) then some (some (.int (0 : Int32)), x)
   else rX1_isSecondPart d (11, [some (.int a0)], [], x) := (mj_run_to (cd := cdX1) (rt := 5) (tab := tX1_isSecondPart) (cal := kX1 d) zX1_isSecondPart 15 (0, [some (.int a0)], [], x)).trans rfl
set_option maxRecDepth 100000 in
set_option maxHeartbeats 4000000 in
theorem bX1_isSecondPart_11 (d : Nat) (a0 : Int32) (x : mj_X) : rX1_isSecondPart d (11, [some (.int a0)], [], x) = 
  if a0 = (34 : Int32) then some (some (.int (0 : Int32)), x)
  else 
   if a0 = (51 : Int32) then some (some (.int (0 : Int32)), x)
   else some (some (.int (1 : Int32)), x) := (mj_run_to (cd := cdX1) (rt := 5) (tab := tX1_isSecondPart) (cal := kX1 d) zX1_isSecondPart 15 (11, [some (.int a0)], [], x)).trans rfl
noncomputable abbrev rX1_max (d : Nat) : mj_S → mj_R := mj_run cdX1 1 tX1_max (kX1 d)
def zX1_max (p : Nat) : Bool := false
set_option maxRecDepth 100000 in
set_option maxHeartbeats 4000000 in
theorem eX1_max (d : Nat) (a0 : Int32) (a1 : Int32) (x : mj_X) : kX1 (d + 1) 19 [.int a0, .int a1] x = 
  if a0 ≤ a1 then some (some (.int a1), x)
  else some (some (.int a0), x) := (mj_run_to (cd := cdX1) (rt := 1) (tab := tX1_max) (cal := kX1 d) zX1_max 10 (0, [some (.int a0), some (.int a1)], [], x)).trans rfl
noncomputable abbrev rX1_typeOf (d : Nat) : mj_S → mj_R := mj_run cdX1 1 tX1_typeOf (kX1 d)
def zX1_typeOf (p : Nat) : Bool := bif Nat.blt p 245 then (bif Nat.blt p 224 then (bif Nat.blt p 222 then (bif Nat.beq p 220 then true else false) else (bif Nat.beq p 222 then true else false)) else (bif Nat.blt p 234 then (bif Nat.beq p 224 then true else false) else (bif Nat.beq p 234 then true else false))) else (bif Nat.blt p 254 then (bif Nat.blt p 247 then (bif Nat.beq p 245 then true else false) else (bif Nat.beq p 247 then true else false)) else (bif Nat.blt p 261 then (bif Nat.beq p 254 then true else false) else (bif Nat.blt p 277 then (bif Nat.beq p 261 then true else false) else (bif Nat.beq p 277 then true else false))))
set_option maxRecDepth 100000 in
set_option maxHeartbeats 4000000 in
theorem eX1_typeOf (d : Nat) (a1 : Int32) (a2 : Int32) (a3 : Int32) (x : mj_X) : kX1 (d + 1) 20 [.ref 0, .int a1, .int a2, .int a3] x = mj_sw a1 1 (260) [219, 219, 219, 219, 221, 260, 260, 223, 260, 260, 260, 260, 260, 260, 260, 260, 260, 260, 260, 260, 260, 233, 260, 260, 260, 260, 260, 260, 244, 244, 244, 246, 260, 260, 260, 260, 260, 260, 260, 260, 260, 260, 260, 260, 260, 221, 244, 253, 260, 260, 221] fun off => mj_j 1 off fun t => rX1_typeOf d (t, [some (.ref 0), some (.int a1), some (.int a2), some (.int a3)], [], x) := (mj_run_to (cd := cdX1) (rt := 1) (tab := tX1_typeOf) (cal := kX1 d) zX1_typeOf 13 (0, [some (.ref 0), some (.int a1), some (.int a2), some (.int a3)], [], x)).trans rfl
set_option maxRecDepth 100000 in
set_option maxHeartbeats 4000000 in
theorem bX1_typeOf_220 (d : Nat) (a1 : Int32) (a2 : Int32) (a3 : Int32) (x : mj_X) : rX1_typeOf d (220, [some (.ref 0), some (.int a1), some (.int a2), some (.int a3)], [], x) = some (some (.int a1), x) := (mj_run_to (cd := cdX1) (rt := 1) (tab := tX1_typeOf) (cal := kX1 d) zX1_typeOf 13 (220, [some (.ref 0), some (.int a1), some (.int a2), some (.int a3)], [], x)).trans rfl
set_option maxRecDepth 100000 in
set_option maxHeartbeats 4000000 in
theorem bX1_typeOf_222 (d : Nat) (a1 : Int32) (a2 : Int32) (a3 : Int32) (x : mj_X) : rX1_typeOf d (222, [some (.ref 0), some (.int a1), some (.int a2), some (.int a3)], [], x) = some (some (.int a2), x) := (mj_run_to (cd := cdX1) (rt := 1) (tab := tX1_typeOf) (cal := kX1 d) zX1_typeOf 13 (222, [some (.ref 0), some (.int a1), some (.int a2), some (.int a3)], [], x)).trans rfl
set_option maxRecDepth 100000 in
set_option maxHeartbeats 4000000 in
theorem bX1_typeOf_224 (d : Nat) (a1 : Int32) (a2 : Int32) (a3 : Int32) (x : mj_X) : rX1_typeOf d (224, [some (.ref 0), some (.int a1), some (.int a2), some (.int a3)], [], x) = mj_g a2 4000 (mj_rI (kX1 d 21 [.int (x.1 5 a2.toNatClampNeg)] x) fun v2 x1 =>
  some (some (.int v2), x1)) := (mj_run_to (cd := cdX1) (rt := 1) (tab := tX1_typeOf) (cal := kX1 d) zX1_typeOf 13 (224, [some (.ref 0), some (.int a1), some (.int a2), some (.int a3)], [], x)).trans rfl
set_option maxRecDepth 100000 in
set_option maxHeartbeats 4000000 in
theorem bX1_typeOf_234 (d : Nat) (a1 : Int32) (a2 : Int32) (a3 : Int32) (x : mj_X) : rX1_typeOf d (234, [some (.ref 0), some (.int a1), some (.int a2), some (.int a3)], [], x) = 
  if a2 ≤ (4 : Int32) then some (some (.int a2), x)
  else some (some (.int (1 : Int32)), x) := (mj_run_to (cd := cdX1) (rt := 1) (tab := tX1_typeOf) (cal := kX1 d) zX1_typeOf 13 (234, [some (.ref 0), some (.int a1), some (.int a2), some (.int a3)], [], x)).trans rfl
set_option maxRecDepth 100000 in
set_option maxHeartbeats 4000000 in
theorem bX1_typeOf_245 (d : Nat) (a1 : Int32) (a2 : Int32) (a3 : Int32) (x : mj_X) : rX1_typeOf d (245, [some (.ref 0), some (.int a1), some (.int a2), some (.int a3)], [], x) = some (some (.int (1 : Int32)), x) := (mj_run_to (cd := cdX1) (rt := 1) (tab := tX1_typeOf) (cal := kX1 d) zX1_typeOf 13 (245, [some (.ref 0), some (.int a1), some (.int a2), some (.int a3)], [], x)).trans rfl
set_option maxRecDepth 100000 in
set_option maxHeartbeats 4000000 in
theorem bX1_typeOf_247 (d : Nat) (a1 : Int32) (a2 : Int32) (a3 : Int32) (x : mj_X) : rX1_typeOf d (247, [some (.ref 0), some (.int a1), some (.int a2), some (.int a3)], [], x) = mj_g a3 4000 (some (some (.int (x.1 5 a3.toNatClampNeg)), x)) := (mj_run_to (cd := cdX1) (rt := 1) (tab := tX1_typeOf) (cal := kX1 d) zX1_typeOf 13 (247, [some (.ref 0), some (.int a1), some (.int a2), some (.int a3)], [], x)).trans rfl
set_option maxRecDepth 100000 in
set_option maxHeartbeats 4000000 in
theorem bX1_typeOf_254 (d : Nat) (a1 : Int32) (a2 : Int32) (a3 : Int32) (x : mj_X) : rX1_typeOf d (254, [some (.ref 0), some (.int a1), some (.int a2), some (.int a3)], [], x) = mj_g a2 40 (some (some (.int (x.1 9 a2.toNatClampNeg)), x)) := (mj_run_to (cd := cdX1) (rt := 1) (tab := tX1_typeOf) (cal := kX1 d) zX1_typeOf 13 (254, [some (.ref 0), some (.int a1), some (.int a2), some (.int a3)], [], x)).trans rfl
set_option maxRecDepth 100000 in
set_option maxHeartbeats 4000000 in
theorem bX1_typeOf_261 (d : Nat) (a1 : Int32) (a2 : Int32) (a3 : Int32) (x : mj_X) : rX1_typeOf d (261, [some (.ref 0), some (.int a1), some (.int a2), some (.int a3)], [], x) = 
  if a1 < (23 : Int32) then rX1_typeOf d (277, [some (.ref 0), some (.int a1), some (.int a2), some (.int a3)], [], x)
  else 
   if (28 : Int32) < a1 then rX1_typeOf d (277, [some (.ref 0), some (.int a1), some (.int a2), some (.int a3)], [], x)
   else some (some (.int (1 : Int32)), x) := (mj_run_to (cd := cdX1) (rt := 1) (tab := tX1_typeOf) (cal := kX1 d) zX1_typeOf 13 (261, [some (.ref 0), some (.int a1), some (.int a2), some (.int a3)], [], x)).trans rfl
set_option maxRecDepth 100000 in
set_option maxHeartbeats 4000000 in
theorem bX1_typeOf_277 (d : Nat) (a1 : Int32) (a2 : Int32) (a3 : Int32) (x : mj_X) : rX1_typeOf d (277, [some (.ref 0), some (.int a1), some (.int a2), some (.int a3)], [], x) = 
  if (45 : Int32) < a1 then some (some (.int (0 : Int32)), x)
  else mj_g a2 4000 (some (some (.int (x.1 5 a2.toNatClampNeg)), x)) := (mj_run_to (cd := cdX1) (rt := 1) (tab := tX1_typeOf) (cal := kX1 d) zX1_typeOf 13 (277, [some (.ref 0), some (.int a1), some (.int a2), some (.int a3)], [], x)).trans rfl
noncomputable abbrev rX1_elementOf (d : Nat) : mj_S → mj_R := mj_run cdX1 1 tX1_elementOf (kX1 d)
def zX1_elementOf (p : Nat) : Bool := false
set_option maxRecDepth 100000 in
set_option maxHeartbeats 4000000 in
theorem eX1_elementOf (d : Nat) (a0 : Int32) (x : mj_X) : kX1 (d + 1) 21 [.int a0] x = 
  if a0 = (5 : Int32) then some (some (.int (1 : Int32)), x)
  else 
   if a0 = (6 : Int32) then some (some (.int (1 : Int32)), x)
   else 
    if a0 = (7 : Int32) then some (some (.int (2 : Int32)), x)
    else some (some (.int (4 : Int32)), x) := (mj_run_to (cd := cdX1) (rt := 1) (tab := tX1_elementOf) (cal := kX1 d) zX1_elementOf 22 (0, [some (.int a0)], [], x)).trans rfl
noncomputable abbrev rX1_of (d : Nat) : mj_S → mj_R := mj_run cdX1 1 tX1_of (kX1 d)
def zX1_of (p : Nat) : Bool := bif Nat.blt p 65 then (bif Nat.blt p 51 then (bif Nat.beq p 44 then true else false) else (bif Nat.blt p 58 then (bif Nat.beq p 51 then true else false) else (bif Nat.beq p 58 then true else false))) else (bif Nat.blt p 72 then (bif Nat.beq p 65 then true else false) else (bif Nat.blt p 79 then (bif Nat.beq p 72 then true else false) else (bif Nat.beq p 79 then true else false)))
set_option maxRecDepth 100000 in
set_option maxHeartbeats 4000000 in
theorem eX1_of (d : Nat) (a1 : Int32) (a2 : Int32) (x : mj_X) : kX1 (d + 1) 22 [.ref 0, .int a1, .int a2] x = mj_rI (kX1 d 9 [.ref 0, .int a1] x) fun v2 x1 =>
  
  if v2 = 0 then some (some (.int (-1 : Int32)), x1)
  else mj_sw a2 0 (68) [33, 40, 47, 54, 61] fun off => mj_j 11 off fun t => rX1_of d (t, [some (.ref 0), some (.int a1), some (.int a2)], [], x1) := (mj_run_to (cd := cdX1) (rt := 1) (tab := tX1_of) (cal := kX1 d) zX1_of 16 (0, [some (.ref 0), some (.int a1), some (.int a2)], [], x)).trans rfl
set_option maxRecDepth 100000 in
set_option maxHeartbeats 4000000 in
theorem bX1_of_44 (d : Nat) (a1 : Int32) (a2 : Int32) (x : mj_X) : rX1_of d (44, [some (.ref 0), some (.int a1), some (.int a2)], [], x) = mj_g a1 4000 (some (some (.int (x.1 2 a1.toNatClampNeg)), x)) := (mj_run_to (cd := cdX1) (rt := 1) (tab := tX1_of) (cal := kX1 d) zX1_of 16 (44, [some (.ref 0), some (.int a1), some (.int a2)], [], x)).trans rfl
set_option maxRecDepth 100000 in
set_option maxHeartbeats 4000000 in
theorem bX1_of_51 (d : Nat) (a1 : Int32) (a2 : Int32) (x : mj_X) : rX1_of d (51, [some (.ref 0), some (.int a1), some (.int a2)], [], x) = mj_g a1 4000 (some (some (.int (x.1 3 a1.toNatClampNeg)), x)) := (mj_run_to (cd := cdX1) (rt := 1) (tab := tX1_of) (cal := kX1 d) zX1_of 16 (51, [some (.ref 0), some (.int a1), some (.int a2)], [], x)).trans rfl
set_option maxRecDepth 100000 in
set_option maxHeartbeats 4000000 in
theorem bX1_of_58 (d : Nat) (a1 : Int32) (a2 : Int32) (x : mj_X) : rX1_of d (58, [some (.ref 0), some (.int a1), some (.int a2)], [], x) = mj_g a1 4000 (some (some (.int (x.1 4 a1.toNatClampNeg)), x)) := (mj_run_to (cd := cdX1) (rt := 1) (tab := tX1_of) (cal := kX1 d) zX1_of 16 (58, [some (.ref 0), some (.int a1), some (.int a2)], [], x)).trans rfl
set_option maxRecDepth 100000 in
set_option maxHeartbeats 4000000 in
theorem bX1_of_65 (d : Nat) (a1 : Int32) (a2 : Int32) (x : mj_X) : rX1_of d (65, [some (.ref 0), some (.int a1), some (.int a2)], [], x) = mj_g a1 4000 (some (some (.int (x.1 5 a1.toNatClampNeg)), x)) := (mj_run_to (cd := cdX1) (rt := 1) (tab := tX1_of) (cal := kX1 d) zX1_of 16 (65, [some (.ref 0), some (.int a1), some (.int a2)], [], x)).trans rfl
set_option maxRecDepth 100000 in
set_option maxHeartbeats 4000000 in
theorem bX1_of_72 (d : Nat) (a1 : Int32) (a2 : Int32) (x : mj_X) : rX1_of d (72, [some (.ref 0), some (.int a1), some (.int a2)], [], x) = mj_g a1 4000 (some (some (.int (x.1 6 a1.toNatClampNeg)), x)) := (mj_run_to (cd := cdX1) (rt := 1) (tab := tX1_of) (cal := kX1 d) zX1_of 16 (72, [some (.ref 0), some (.int a1), some (.int a2)], [], x)).trans rfl
set_option maxRecDepth 100000 in
set_option maxHeartbeats 4000000 in
theorem bX1_of_79 (d : Nat) (a1 : Int32) (a2 : Int32) (x : mj_X) : rX1_of d (79, [some (.ref 0), some (.int a1), some (.int a2)], [], x) = some (some (.int (-1 : Int32)), x) := (mj_run_to (cd := cdX1) (rt := 1) (tab := tX1_of) (cal := kX1 d) zX1_of 16 (79, [some (.ref 0), some (.int a1), some (.int a2)], [], x)).trans rfl
