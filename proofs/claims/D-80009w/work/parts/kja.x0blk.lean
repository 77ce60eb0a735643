noncomputable abbrev rX0_load2 (d : Nat) : mj_S → mj_R := mj_run cdX0 0 tX0_load2 (kX0 d)
def zX0_load2 (p : Nat) : Bool := false
set_option maxRecDepth 100000 in
set_option maxHeartbeats 4000000 in
theorem eX0_load2 (d : Nat) (a1 : Int32) (x : mj_X) : kX0 (d + 1) 94 [.ref 0, .int a1] x = 
  if (x.1 0 30) = 0 then some (none, x)
  else mj_rV (kX0 d 47 [.ref 0, .int (5 : Int32), .int a1] x) fun x1 =>
   mj_rV (kX0 d 37 [.ref 0, .int (191 : Int32)] x1) fun x2 =>
   some (none, (mj_wI x2 0 30 (0 : Int32))) := (mj_run_to (cd := cdX0) (rt := 0) (tab := tX0_load2) (cal := kX0 d) zX0_load2 17 (0, [some (.ref 0), some (.int a1)], [], x)).trans rfl
noncomputable abbrev rX0_tooFar (d : Nat) : mj_S → mj_R := mj_run cdX0 5 tX0_tooFar (kX0 d)
def zX0_tooFar (p : Nat) : Bool := bif Nat.beq p 2 then true else false
set_option maxRecDepth 100000 in
set_option maxHeartbeats 4000000 in
theorem eX0_tooFar (d : Nat)  (x : mj_X) : kX0 (d + 1) 95 [.ref 0] x = rX0_tooFar d (2, [some (.ref 0), some (.int (0 : Int32)), none], [], x) := (mj_run_to (cd := cdX0) (rt := 5) (tab := tX0_tooFar) (cal := kX0 d) zX0_tooFar 40 (0, [some (.ref 0), none, none], [], x)).trans rfl
set_option maxRecDepth 100000 in
set_option maxHeartbeats 4000000 in
theorem bX0_tooFar_2 (d : Nat) (a1 : Int32) (o2 : Option Value) (x : mj_X) : rX0_tooFar d (2, [some (.ref 0), some (.int a1), o2], [], x) = 
  if (x.1 0 42) ≤ a1 then some (some (.int (0 : Int32)), x)
  else mj_g a1 45000 (mj_g (x.1 42 a1.toNatClampNeg) 50000 (mj_g a1 45000 (mj_g a1 45000 (
   if (x.1 40 a1.toNatClampNeg) < 0 then rX0_tooFar d (2, [some (.ref 0), some (.int (a1 + (1 : Int32))), some (.int ((x.1 36 (x.1 42 a1.toNatClampNeg).toNatClampNeg) - (x.1 41 a1.toNatClampNeg)))], [], x)
   else mj_rI (kX0 d 2 [.long ((x.1 36 (x.1 42 a1.toNatClampNeg).toNatClampNeg) - (x.1 41 a1.toNatClampNeg)).toInt64, .long (-32768 : Int64), .long (32767 : Int64)] x) fun v2 x1 =>
    
    if v2 = 0 then some (some (.int (1 : Int32)), x1)
    else rX0_tooFar d (2, [some (.ref 0), some (.int (a1 + (1 : Int32))), some (.int ((x.1 36 (x.1 42 a1.toNatClampNeg).toNatClampNeg) - (x.1 41 a1.toNatClampNeg)))], [], x1))))) := (mj_run_to (cd := cdX0) (rt := 5) (tab := tX0_tooFar) (cal := kX0 d) zX0_tooFar 40 (2, [some (.ref 0), some (.int a1), o2], [], x)).trans rfl
noncomputable abbrev rX0_settle (d : Nat) : mj_S → mj_R := mj_run cdX0 0 tX0_settle (kX0 d)
def zX0_settle (p : Nat) : Bool := false
set_option maxRecDepth 100000 in
set_option maxHeartbeats 4000000 in
theorem eX0_settle (d : Nat) (a1 : Int32) (x : mj_X) : kX0 (d + 1) 96 [.ref 0, .int a1] x = mj_rV (kX0 d 97 [.ref 0] x) fun x1 =>
  mj_g a1 41 (mj_rV (mj_pr cdX0 1009 [.ref 28, .int (0 : Int32), .ref 13, .int (x1.1 12 a1.toNatClampNeg), .int (x1.1 0 28)] x1) fun x2 =>
  mj_g (a1 + (1 : Int32)) 41 (mj_g a1 40 (mj_gb (x2.1 0 31) (mj_g a1 40 (mj_g (a1 + (1 : Int32)) 41 (mj_g (a1 + (1 : Int32)) 41 (mj_g (a1 + (1 : Int32)) 41 (mj_rI (kX0 d 98 [.ref 0, .int a1] (mj_wI (mj_wI (mj_wI (mj_wI (mj_wI (mj_wI x2 12 (a1 + (1 : Int32)).toNatClampNeg ((x1.1 12 a1.toNatClampNeg) + (x2.1 0 28))) 14 a1.toNatClampNeg (x2.1 0 33)) 16 a1.toNatClampNeg (x2.1 0 31)) 17 (a1 + (1 : Int32)).toNatClampNeg (x2.1 0 43)) 21 (a1 + (1 : Int32)).toNatClampNeg (x2.1 0 45)) 23 (a1 + (1 : Int32)).toNatClampNeg (x2.1 0 46))) fun v4 x3 =>
  mj_g a1 40 (some (none, (mj_wI x3 15 a1.toNatClampNeg v4))))))))))) := (mj_run_to (cd := cdX0) (rt := 0) (tab := tX0_settle) (cal := kX0 d) zX0_settle 72 (0, [some (.ref 0), some (.int a1), none], [], x)).trans rfl
noncomputable abbrev rX0_patch (d : Nat) : mj_S → mj_R := mj_run cdX0 0 tX0_patch (kX0 d)
def zX0_patch (p : Nat) : Bool := bif Nat.blt p 65 then (bif Nat.blt p 43 then (bif Nat.beq p 2 then true else false) else (bif Nat.beq p 43 then true else false)) else (bif Nat.blt p 78 then (bif Nat.beq p 65 then true else false) else (bif Nat.beq p 78 then true else false))
set_option maxRecDepth 100000 in
set_option maxHeartbeats 4000000 in
theorem eX0_patch (d : Nat)  (x : mj_X) : kX0 (d + 1) 97 [.ref 0] x = rX0_patch d (2, [some (.ref 0), some (.int (0 : Int32)), none, none, none, none], [], x) := (mj_run_to (cd := cdX0) (rt := 0) (tab := tX0_patch) (cal := kX0 d) zX0_patch 30 (0, [some (.ref 0), none, none, none, none, none], [], x)).trans rfl
set_option maxRecDepth 100000 in
set_option maxHeartbeats 4000000 in
theorem bX0_patch_2 (d : Nat) (a1 : Int32) (o2 : Option Value) (o3 : Option Value) (o4 : Option Value) (o5 : Option Value) (x : mj_X) : rX0_patch d (2, [some (.ref 0), some (.int a1), o2, o3, o4, o5], [], x) = 
  if (x.1 0 42) ≤ a1 then some (none, x)
  else mj_g a1 45000 (mj_g (x.1 42 a1.toNatClampNeg) 50000 (mj_g a1 45000 (mj_g a1 45000 (
   if 0 ≤ (x.1 40 a1.toNatClampNeg) then rX0_patch d (43, [some (.ref 0), some (.int a1), some (.int ((x.1 36 (x.1 42 a1.toNatClampNeg).toNatClampNeg) - (x.1 41 a1.toNatClampNeg))), o3, o4, o5], [.int (0 : Int32)], x)
   else rX0_patch d (43, [some (.ref 0), some (.int a1), some (.int ((x.1 36 (x.1 42 a1.toNatClampNeg).toNatClampNeg) - (x.1 41 a1.toNatClampNeg))), o3, o4, o5], [.int (1 : Int32)], x))))) := (mj_run_to (cd := cdX0) (rt := 0) (tab := tX0_patch) (cal := kX0 d) zX0_patch 30 (2, [some (.ref 0), some (.int a1), o2, o3, o4, o5], [], x)).trans rfl
set_option maxRecDepth 100000 in
set_option maxHeartbeats 4000000 in
theorem bX0_patch_43 (d : Nat) (a1 : Int32) (a2 : Int32) (o3 : Option Value) (o4 : Option Value) (o5 : Option Value) (s0 : Int32) (x : mj_X) : rX0_patch d (43, [some (.ref 0), some (.int a1), some (.int a2), o3, o4, o5], [.int s0], x) = 
  if s0 = 0 then mj_g a1 45000 (rX0_patch d (65, [some (.ref 0), some (.int a1), some (.int a2), some (.int s0), o4, o5], [.int (x.1 40 a1.toNatClampNeg)], x))
  else mj_g a1 45000 (rX0_patch d (65, [some (.ref 0), some (.int a1), some (.int a2), some (.int s0), o4, o5], [.int ((-1 : Int32) - (x.1 40 a1.toNatClampNeg))], x)) := (mj_run_to (cd := cdX0) (rt := 0) (tab := tX0_patch) (cal := kX0 d) zX0_patch 30 (43, [some (.ref 0), some (.int a1), some (.int a2), o3, o4, o5], [.int s0], x)).trans rfl
set_option maxRecDepth 100000 in
set_option maxHeartbeats 4000000 in
theorem bX0_patch_65 (d : Nat) (a1 : Int32) (a2 : Int32) (a3 : Int32) (o4 : Option Value) (o5 : Option Value) (s0 : Int32) (x : mj_X) : rX0_patch d (65, [some (.ref 0), some (.int a1), some (.int a2), some (.int a3), o4, o5], [.int s0], x) = 
  if a3 = 0 then rX0_patch d (78, [some (.ref 0), some (.int a1), some (.int a2), some (.int a3), some (.int s0), some (.int (1 : Int32))], [], x)
  else rX0_patch d (78, [some (.ref 0), some (.int a1), some (.int a2), some (.int a3), some (.int s0), some (.int (3 : Int32))], [], x) := (mj_run_to (cd := cdX0) (rt := 0) (tab := tX0_patch) (cal := kX0 d) zX0_patch 30 (65, [some (.ref 0), some (.int a1), some (.int a2), some (.int a3), o4, o5], [.int s0], x)).trans rfl
set_option maxRecDepth 100000 in
set_option maxHeartbeats 4000000 in
theorem bX0_patch_78 (d : Nat) (a1 : Int32) (a2 : Int32) (a3 : Int32) (a4 : Int32) (a5 : Int32) (x : mj_X) : rX0_patch d (78, [some (.ref 0), some (.int a1), some (.int a2), some (.int a3), some (.int a4), some (.int a5)], [], x) = 
  if a5 < 0 then rX0_patch d (2, [some (.ref 0), some (.int (a1 + (1 : Int32))), some (.int a2), some (.int a3), some (.int a4), some (.int a5)], [], x)
  else mj_g a4 65551 (rX0_patch d (78, [some (.ref 0), some (.int a1), some (.int a2), some (.int a3), some (.int (a4 + (1 : Int32))), some (.int (a5 + (-1 : Int32)))], [], (mj_wI x 28 a4.toNatClampNeg (a2 >>> (((8 : Int32) * a5) &&& 31)).toInt8.toInt32.toInt8.toInt32))) := (mj_run_to (cd := cdX0) (rt := 0) (tab := tX0_patch) (cal := kX0 d) zX0_patch 30 (78, [some (.ref 0), some (.int a1), some (.int a2), some (.int a3), some (.int a4), some (.int a5)], [], x)).trans rfl
noncomputable abbrev rX0_deepest (d : Nat) : mj_S → mj_R := mj_run cdX0 1 tX0_deepest (kX0 d)
def zX0_deepest (p : Nat) : Bool := bif Nat.blt p 92 then (bif Nat.beq p 54 then true else false) else (bif Nat.beq p 92 then true else false)
set_option maxRecDepth 100000 in
set_option maxHeartbeats 4000000 in
theorem eX0_deepest (d : Nat) (a1 : Int32) (x : mj_X) : kX0 (d + 1) 98 [.ref 0, .int a1] x = mj_g a1 41 (mj_g (a1 + (1 : Int32)) 41 (mj_rV (mj_pr cdX0 1007 [.ref 68, .int (0 : Int32), .int (((x.1 12 (a1 + (1 : Int32)).toNatClampNeg) - (x.1 12 a1.toNatClampNeg)) + (1 : Int32)), .int (-1 : Int32)] x) fun x1 =>
  mj_rV (kX0 d 99 [.ref 0, .int (0 : Int32), .int (0 : Int32)] (mj_wI (mj_wI x1 0 69 (0 : Int32)) 0 70 (0 : Int32))) fun x2 =>
  mj_g a1 41 (rX0_deepest d (54, [some (.ref 0), some (.int a1), some (.int (x.1 12 a1.toNatClampNeg)), some (.int ((x.1 12 (a1 + (1 : Int32)).toNatClampNeg) - (x.1 12 a1.toNatClampNeg))), some (.int (x2.1 21 a1.toNatClampNeg))], [], x2)))) := (mj_run_to (cd := cdX0) (rt := 1) (tab := tX0_deepest) (cal := kX0 d) zX0_deepest 40 (0, [some (.ref 0), some (.int a1), none, none, none], [], x)).trans rfl
set_option maxRecDepth 100000 in
set_option maxHeartbeats 4000000 in
theorem bX0_deepest_54 (d : Nat) (a1 : Int32) (a2 : Int32) (a3 : Int32) (a4 : Int32) (x : mj_X) : rX0_deepest d (54, [some (.ref 0), some (.int a1), some (.int a2), some (.int a3), some (.int a4)], [], x) = mj_g (a1 + (1 : Int32)) 41 (
  if (x.1 21 (a1 + (1 : Int32)).toNatClampNeg) ≤ a4 then rX0_deepest d (92, [some (.ref 0), some (.int a1), some (.int a2), some (.int a3), some (.int (0 : Int32))], [], x)
  else mj_g (((4 : Int32) * a4) + (2 : Int32)) 80000 (mj_rV (kX0 d 99 [.ref 0, .int (x.1 22 (((4 : Int32) * a4) + (2 : Int32)).toNatClampNeg), .int (1 : Int32)] x) fun x1 =>
   rX0_deepest d (54, [some (.ref 0), some (.int a1), some (.int a2), some (.int a3), some (.int (a4 + (1 : Int32)))], [], x1))) := (mj_run_to (cd := cdX0) (rt := 1) (tab := tX0_deepest) (cal := kX0 d) zX0_deepest 40 (54, [some (.ref 0), some (.int a1), some (.int a2), some (.int a3), some (.int a4)], [], x)).trans rfl
set_option maxRecDepth 100000 in
set_option maxHeartbeats 4000000 in
theorem bX0_deepest_92 (d : Nat) (a1 : Int32) (a2 : Int32) (a3 : Int32) (a4 : Int32) (x : mj_X) : rX0_deepest d (92, [some (.ref 0), some (.int a1), some (.int a2), some (.int a3), some (.int a4)], [], x) = 
  if (x.1 0 69) ≤ a4 then some (some (.int (x.1 0 70)), x)
  else mj_g a4 65551 (mj_rV (kX0 d 100 [.ref 0, .int a1, .int a2, .int (x.1 69 a4.toNatClampNeg)] x) fun x1 =>
   rX0_deepest d (92, [some (.ref 0), some (.int a1), some (.int a2), some (.int a3), some (.int (a4 + (1 : Int32)))], [], x1)) := (mj_run_to (cd := cdX0) (rt := 1) (tab := tX0_deepest) (cal := kX0 d) zX0_deepest 40 (92, [some (.ref 0), some (.int a1), some (.int a2), some (.int a3), some (.int a4)], [], x)).trans rfl
noncomputable abbrev rX0_reach (d : Nat) : mj_S → mj_R := mj_run cdX0 0 tX0_reach (kX0 d)
def zX0_reach (p : Nat) : Bool := false
set_option maxRecDepth 100000 in
set_option maxHeartbeats 4000000 in
theorem eX0_reach (d : Nat) (a1 : Int32) (a2 : Int32) (x : mj_X) : kX0 (d + 1) 99 [.ref 0, .int a1, .int a2] x = mj_g a1 65551 (
  if (x.1 68 a1.toNatClampNeg) = (-1 : Int32) then mj_g a1 65551 (mj_g (x.1 0 69) 65551 (some (none, (mj_wI (mj_wI (mj_wI (mj_wI x 0 70 (mj_max (x.1 0 70) a2)) 68 a1.toNatClampNeg a2) 0 69 ((x.1 0 69) + (1 : Int32))) 69 (x.1 0 69).toNatClampNeg a1))))
  else some (none, (mj_wI x 0 70 (mj_max (x.1 0 70) a2)))) := (mj_run_to (cd := cdX0) (rt := 0) (tab := tX0_reach) (cal := kX0 d) zX0_reach 32 (0, [some (.ref 0), some (.int a1), some (.int a2)], [], x)).trans rfl
noncomputable abbrev rX0_follow (d : Nat) : mj_S → mj_R := mj_run cdX0 0 tX0_follow (kX0 d)
def zX0_follow (p : Nat) : Bool := bif Nat.blt p 159 then (bif Nat.blt p 104 then (bif Nat.beq p 42 then true else false) else (bif Nat.beq p 104 then true else false)) else (bif Nat.blt p 256 then (bif Nat.beq p 159 then true else false) else (bif Nat.beq p 256 then true else false))
set_option maxRecDepth 100000 in
set_option maxHeartbeats 4000000 in
theorem eX0_follow (d : Nat) (a1 : Int32) (a2 : Int32) (a3 : Int32) (x : mj_X) : kX0 (d + 1) 100 [.ref 0, .int a1, .int a2, .int a3] x = mj_rI (kX0 d 101 [.ref 0, .int (a2 + a3)] x) fun v2 x1 =>
  mj_g a3 65551 (mj_rI (kX0 d 102 [.ref 0, .int a1, .int (a2 + a3)] x1) fun v4 x3 =>
  
  if v2 = (170 : Int32) then rX0_follow d (42, [some (.ref 0), some (.int a1), some (.int a2), some (.int a3), some (.int v2), some (.int ((x1.1 68 a3.toNatClampNeg) + v4)), none, none, none], [], x3)
  else 
   if v2 = (171 : Int32) then rX0_follow d (42, [some (.ref 0), some (.int a1), some (.int a2), some (.int a3), some (.int v2), some (.int ((x1.1 68 a3.toNatClampNeg) + v4)), none, none, none], [], x3)
   else 
    if v2 = (200 : Int32) then mj_rI (kX0 d 109 [.ref 0, .int ((a2 + a3) + (1 : Int32))] x3) fun v6 x5 =>
     mj_rV (kX0 d 99 [.ref 0, .int (a3 + v6), .int ((x1.1 68 a3.toNatClampNeg) + v4)] x5) fun x7 =>
     some (none, x7)
    else mj_rI (kX0 d 2 [.long v2.toInt64, .long (153 : Int64), .long (167 : Int64)] x3) fun v9 x8 =>
     
     if v9 = 0 then rX0_follow d (256, [some (.ref 0), some (.int a1), some (.int a2), some (.int a3), some (.int v2), some (.int ((x1.1 68 a3.toNatClampNeg) + v4)), none, none, none], [], x8)
     else mj_rI (kX0 d 106 [.ref 0, .int ((a2 + a3) + (1 : Int32))] x8) fun v11 x10 =>
      mj_rV (kX0 d 99 [.ref 0, .int (a3 + v11), .int ((x1.1 68 a3.toNatClampNeg) + v4)] x10) fun x12 =>
      rX0_follow d (256, [some (.ref 0), some (.int a1), some (.int a2), some (.int a3), some (.int v2), some (.int ((x1.1 68 a3.toNatClampNeg) + v4)), none, none, none], [], x12)) := (mj_run_to (cd := cdX0) (rt := 0) (tab := tX0_follow) (cal := kX0 d) zX0_follow 64 (0, [some (.ref 0), some (.int a1), some (.int a2), some (.int a3), none, none, none, none, none], [], x)).trans rfl
set_option maxRecDepth 100000 in
set_option maxHeartbeats 4000000 in
theorem bX0_follow_42 (d : Nat) (a1 : Int32) (a2 : Int32) (a3 : Int32) (a4 : Int32) (a5 : Int32) (x : mj_X) : rX0_follow d (42, [some (.ref 0), some (.int a1), some (.int a2), some (.int a3), some (.int a4), some (.int a5), none, none, none], [], x) = mj_rI (kX0 d 109 [.ref 0, .int (a2 + ((a3 + (4 : Int32)) - (a3 - a3 / (4 : Int32) * (4 : Int32))))] x) fun v2 x1 =>
  mj_rV (kX0 d 99 [.ref 0, .int (a3 + v2), .int a5] x1) fun x3 =>
  
  if a4 = (170 : Int32) then mj_rI (kX0 d 109 [.ref 0, .int ((a2 + ((a3 + (4 : Int32)) - (a3 - a3 / (4 : Int32) * (4 : Int32)))) + (8 : Int32))] x3) fun v5 x4 =>
   mj_rI (kX0 d 109 [.ref 0, .int ((a2 + ((a3 + (4 : Int32)) - (a3 - a3 / (4 : Int32) * (4 : Int32)))) + (4 : Int32))] x4) fun v7 x6 =>
   rX0_follow d (104, [some (.ref 0), some (.int a1), some (.int a2), some (.int a3), some (.int a4), some (.int a5), some (.int ((a3 + (4 : Int32)) - (a3 - a3 / (4 : Int32) * (4 : Int32)))), some (.int ((v5 - v7) + (1 : Int32))), some (.int (0 : Int32))], [], x6)
  else mj_rI (kX0 d 109 [.ref 0, .int ((a2 + ((a3 + (4 : Int32)) - (a3 - a3 / (4 : Int32) * (4 : Int32)))) + (4 : Int32))] x3) fun v9 x8 =>
   rX0_follow d (159, [some (.ref 0), some (.int a1), some (.int a2), some (.int a3), some (.int a4), some (.int a5), some (.int ((a3 + (4 : Int32)) - (a3 - a3 / (4 : Int32) * (4 : Int32)))), some (.int v9), some (.int (0 : Int32))], [], x8) := (mj_run_to (cd := cdX0) (rt := 0) (tab := tX0_follow) (cal := kX0 d) zX0_follow 64 (42, [some (.ref 0), some (.int a1), some (.int a2), some (.int a3), some (.int a4), some (.int a5), none, none, none], [], x)).trans rfl
set_option maxRecDepth 100000 in
set_option maxHeartbeats 4000000 in
theorem bX0_follow_104 (d : Nat) (a1 : Int32) (a2 : Int32) (a3 : Int32) (a4 : Int32) (a5 : Int32) (a6 : Int32) (a7 : Int32) (a8 : Int32) (x : mj_X) : rX0_follow d (104, [some (.ref 0), some (.int a1), some (.int a2), some (.int a3), some (.int a4), some (.int a5), some (.int a6), some (.int a7), some (.int a8)], [], x) = 
  if a7 ≤ a8 then some (none, x)
  else mj_rI (kX0 d 109 [.ref 0, .int (((a2 + a6) + (12 : Int32)) + ((4 : Int32) * a8))] x) fun v2 x1 =>
   mj_rV (kX0 d 99 [.ref 0, .int (a3 + v2), .int a5] x1) fun x3 =>
   rX0_follow d (104, [some (.ref 0), some (.int a1), some (.int a2), some (.int a3), some (.int a4), some (.int a5), some (.int a6), some (.int a7), some (.int (a8 + (1 : Int32)))], [], x3) := (mj_run_to (cd := cdX0) (rt := 0) (tab := tX0_follow) (cal := kX0 d) zX0_follow 64 (104, [some (.ref 0), some (.int a1), some (.int a2), some (.int a3), some (.int a4), some (.int a5), some (.int a6), some (.int a7), some (.int a8)], [], x)).trans rfl
set_option maxRecDepth 100000 in
set_option maxHeartbeats 4000000 in
theorem bX0_follow_159 (d : Nat) (a1 : Int32) (a2 : Int32) (a3 : Int32) (a4 : Int32) (a5 : Int32) (a6 : Int32) (a7 : Int32) (a8 : Int32) (x : mj_X) : rX0_follow d (159, [some (.ref 0), some (.int a1), some (.int a2), some (.int a3), some (.int a4), some (.int a5), some (.int a6), some (.int a7), some (.int a8)], [], x) = 
  if a7 ≤ a8 then some (none, x)
  else mj_rI (kX0 d 109 [.ref 0, .int (((a2 + a6) + (12 : Int32)) + ((8 : Int32) * a8))] x) fun v2 x1 =>
   mj_rV (kX0 d 99 [.ref 0, .int (a3 + v2), .int a5] x1) fun x3 =>
   rX0_follow d (159, [some (.ref 0), some (.int a1), some (.int a2), some (.int a3), some (.int a4), some (.int a5), some (.int a6), some (.int a7), some (.int (a8 + (1 : Int32)))], [], x3) := (mj_run_to (cd := cdX0) (rt := 0) (tab := tX0_follow) (cal := kX0 d) zX0_follow 64 (159, [some (.ref 0), some (.int a1), some (.int a2), some (.int a3), some (.int a4), some (.int a5), some (.int a6), some (.int a7), some (.int a8)], [], x)).trans rfl
set_option maxRecDepth 100000 in
set_option maxHeartbeats 4000000 in
theorem bX0_follow_256 (d : Nat) (a1 : Int32) (a2 : Int32) (a3 : Int32) (a4 : Int32) (a5 : Int32) (x : mj_X) : rX0_follow d (256, [some (.ref 0), some (.int a1), some (.int a2), some (.int a3), some (.int a4), some (.int a5), none, none, none], [], x) = 
  if a4 = (167 : Int32) then some (none, x)
  else mj_rI (kX0 d 2 [.long a4.toInt64, .long (172 : Int64), .long (177 : Int64)] x) fun v2 x1 =>
   
   if v2 = 0 then 
    if a4 = (191 : Int32) then some (none, x1)
    else mj_rI (kX0 d 110 [.ref 0, .int (a2 + a3)] x1) fun v4 x3 =>
     mj_rV (kX0 d 99 [.ref 0, .int (a3 + v4), .int a5] x3) fun x5 =>
     some (none, x5)
   else some (none, x1) := (mj_run_to (cd := cdX0) (rt := 0) (tab := tX0_follow) (cal := kX0 d) zX0_follow 64 (256, [some (.ref 0), some (.int a1), some (.int a2), some (.int a3), some (.int a4), some (.int a5), none, none, none], [], x)).trans rfl
noncomputable abbrev rX0_u1 (d : Nat) : mj_S → mj_R := mj_run cdX0 1 tX0_u1 (kX0 d)
def zX0_u1 (p : Nat) : Bool := false
set_option maxRecDepth 100000 in
set_option maxHeartbeats 4000000 in
theorem eX0_u1 (d : Nat) (a1 : Int32) (x : mj_X) : kX0 (d + 1) 101 [.ref 0, .int a1] x = mj_g a1 90008 (some (some (.int ((x.1 13 a1.toNatClampNeg) &&& (255 : Int32))), x)) := (mj_run_to (cd := cdX0) (rt := 1) (tab := tX0_u1) (cal := kX0 d) zX0_u1 9 (0, [some (.ref 0), some (.int a1)], [], x)).trans rfl
noncomputable abbrev rX0_changeOf (d : Nat) : mj_S → mj_R := mj_run cdX0 1 tX0_changeOf (kX0 d)
def zX0_changeOf (p : Nat) : Bool := bif Nat.blt p 81 then (bif Nat.beq p 21 then true else false) else (bif Nat.blt p 357 then (bif Nat.beq p 81 then true else false) else (bif Nat.beq p 357 then true else false))
set_option maxRecDepth 100000 in
set_option maxHeartbeats 4000000 in
theorem eX0_changeOf (d : Nat) (a1 : Int32) (a2 : Int32) (x : mj_X) : kX0 (d + 1) 102 [.ref 0, .int a1, .int a2] x = mj_rI (kX0 d 101 [.ref 0, .int a2] x) fun v2 x1 =>
  
  if v2 = (196 : Int32) then mj_rI (kX0 d 101 [.ref 0, .int (a2 + (1 : Int32))] x1) fun v4 x3 =>
   rX0_changeOf d (21, [some (.ref 0), some (.int a1), some (.int a2), some (.int v4), none], [], x3)
  else rX0_changeOf d (21, [some (.ref 0), some (.int a1), some (.int a2), some (.int v2), none], [], x1) := (mj_run_to (cd := cdX0) (rt := 1) (tab := tX0_changeOf) (cal := kX0 d) zX0_changeOf 198 (0, [some (.ref 0), some (.int a1), some (.int a2), none, none], [], x)).trans rfl
set_option maxRecDepth 100000 in
set_option maxHeartbeats 4000000 in
theorem bX0_changeOf_21 (d : Nat) (a1 : Int32) (a2 : Int32) (a3 : Int32) (x : mj_X) : rX0_changeOf d (21, [some (.ref 0), some (.int a1), some (.int a2), some (.int a3), none], [], x) = 
  if (45 : Int32) < a3 then 
   if (53 : Int32) < a3 then 
    if (78 : Int32) < a3 then 
     if (86 : Int32) < a3 then 
      if (95 : Int32) < a3 then 
       if (116 : Int32) ≤ a3 then 
        if (120 : Int32) ≤ a3 then 
         if (126 : Int32) ≤ a3 then 
          if (132 : Int32) ≤ a3 then 
           if (147 : Int32) < a3 then 
            if (152 : Int32) < a3 then 
             if (166 : Int32) < a3 then 
              if a3 = (184 : Int32) then mj_rI (kX0 d 105 [.ref 0, .int (a2 + (1 : Int32))] x) fun v2 x1 =>
               mj_rI (kX0 d 107 [.ref 0, .int a1, .int v2] x1) fun v4 x3 =>
               some (some (.int v4), x3)
              else 
               if a3 = (170 : Int32) then rX0_changeOf d (357, [some (.ref 0), some (.int a1), some (.int a2), some (.int a3), none], [], x)
               else 
                if a3 = (171 : Int32) then rX0_changeOf d (357, [some (.ref 0), some (.int a1), some (.int a2), some (.int a3), none], [], x)
                else 
                 if a3 = (194 : Int32) then rX0_changeOf d (357, [some (.ref 0), some (.int a1), some (.int a2), some (.int a3), none], [], x)
                 else 
                  if a3 = (195 : Int32) then rX0_changeOf d (357, [some (.ref 0), some (.int a1), some (.int a2), some (.int a3), none], [], x)
                  else some (some (.int (0 : Int32)), x)
             else 
              if (159 : Int32) ≤ a3 then some (some (.int (-2 : Int32)), x)
              else some (some (.int (-1 : Int32)), x)
            else 
             if a3 = (149 : Int32) then some (some (.int (-1 : Int32)), x)
             else 
              if a3 = (150 : Int32) then some (some (.int (-1 : Int32)), x)
              else some (some (.int (-3 : Int32)), x)
           else 
            if a3 = (132 : Int32) then some (some (.int (0 : Int32)), x)
            else 
             if a3 < (145 : Int32) then mj_rI (kX0 d 104 [.int a3] x) fun v6 x5 =>
              some (some (.int v6), x5)
             else some (some (.int (0 : Int32)), x)
          else 
           if ((a3 - (126 : Int32)) - (a3 - (126 : Int32)) / (2 : Int32) * (2 : Int32)) = (1 : Int32) then some (some (.int (-2 : Int32)), x)
           else some (some (.int (-1 : Int32)), x)
         else some (some (.int (-1 : Int32)), x)
        else some (some (.int (0 : Int32)), x)
       else 
        if ((a3 - (96 : Int32)) - (a3 - (96 : Int32)) / (2 : Int32) * (2 : Int32)) = (1 : Int32) then some (some (.int (-2 : Int32)), x)
        else some (some (.int (-1 : Int32)), x)
      else 
       if a3 = (87 : Int32) then some (some (.int (-1 : Int32)), x)
       else 
        if a3 = (88 : Int32) then some (some (.int (-2 : Int32)), x)
        else 
         if (91 : Int32) < a3 then some (some (.int (2 : Int32)), x)
         else some (some (.int (1 : Int32)), x)
     else 
      if a3 = (80 : Int32) then some (some (.int (-4 : Int32)), x)
      else 
       if a3 = (82 : Int32) then some (some (.int (-4 : Int32)), x)
       else some (some (.int (-3 : Int32)), x)
    else 
     if (59 : Int32) ≤ a3 then rX0_changeOf d (81, [some (.ref 0), some (.int a1), some (.int a2), some (.int a3), none], [.int ((a3 - (59 : Int32)) / (4 : Int32))], x)
     else rX0_changeOf d (81, [some (.ref 0), some (.int a1), some (.int a2), some (.int a3), none], [.int (a3 - (54 : Int32))], x)
   else 
    if a3 = (47 : Int32) then some (some (.int (0 : Int32)), x)
    else 
     if a3 = (49 : Int32) then some (some (.int (0 : Int32)), x)
     else some (some (.int (-1 : Int32)), x)
  else mj_rI (kX0 d 103 [.int a3] x) fun v8 x7 =>
   some (some (.int v8), x7) := (mj_run_to (cd := cdX0) (rt := 1) (tab := tX0_changeOf) (cal := kX0 d) zX0_changeOf 198 (21, [some (.ref 0), some (.int a1), some (.int a2), some (.int a3), none], [], x)).trans rfl
set_option maxRecDepth 100000 in
set_option maxHeartbeats 4000000 in
theorem bX0_changeOf_81 (d : Nat) (a1 : Int32) (a2 : Int32) (a3 : Int32) (s0 : Int32) (x : mj_X) : rX0_changeOf d (81, [some (.ref 0), some (.int a1), some (.int a2), some (.int a3), none], [.int s0], x) = 
  if s0 = (1 : Int32) then some (some (.int (-2 : Int32)), x)
  else 
   if s0 = (3 : Int32) then some (some (.int (-2 : Int32)), x)
   else some (some (.int (-1 : Int32)), x) := (mj_run_to (cd := cdX0) (rt := 1) (tab := tX0_changeOf) (cal := kX0 d) zX0_changeOf 198 (81, [some (.ref 0), some (.int a1), some (.int a2), some (.int a3), none], [.int s0], x)).trans rfl
set_option maxRecDepth 100000 in
set_option maxHeartbeats 4000000 in
theorem bX0_changeOf_357 (d : Nat) (a1 : Int32) (a2 : Int32) (a3 : Int32) (x : mj_X) : rX0_changeOf d (357, [some (.ref 0), some (.int a1), some (.int a2), some (.int a3), none], [], x) = some (some (.int (-1 : Int32)), x) := (mj_run_to (cd := cdX0) (rt := 1) (tab := tX0_changeOf) (cal := kX0 d) zX0_changeOf 198 (357, [some (.ref 0), some (.int a1), some (.int a2), some (.int a3), none], [], x)).trans rfl
noncomputable abbrev rX0_growth (d : Nat) : mj_S → mj_R := mj_run cdX0 1 tX0_growth (kX0 d)
def zX0_growth (p : Nat) : Bool := bif Nat.beq p 83 then true else false
set_option maxRecDepth 100000 in
set_option maxHeartbeats 4000000 in
theorem eX0_growth (d : Nat) (a0 : Int32) (x : mj_X) : kX0 (d + 1) 103 [.int a0] x = 
  if a0 < (26 : Int32) then 
   if a0 < (21 : Int32) then 
    if a0 = (9 : Int32) then rX0_growth d (83, [some (.int a0), none], [], x)
    else 
     if a0 = (10 : Int32) then rX0_growth d (83, [some (.int a0), none], [], x)
     else 
      if a0 = (14 : Int32) then rX0_growth d (83, [some (.int a0), none], [], x)
      else 
       if a0 = (15 : Int32) then rX0_growth d (83, [some (.int a0), none], [], x)
       else 
        if a0 = (20 : Int32) then rX0_growth d (83, [some (.int a0), none], [], x)
        else 
         if a0 = 0 then some (some (.int (0 : Int32)), x)
         else some (some (.int (1 : Int32)), x)
   else 
    if a0 = (22 : Int32) then some (some (.int (2 : Int32)), x)
    else 
     if a0 = (24 : Int32) then some (some (.int (2 : Int32)), x)
     else some (some (.int (1 : Int32)), x)
  else 
   if ((a0 - (26 : Int32)) / (4 : Int32)) = (1 : Int32) then some (some (.int (2 : Int32)), x)
   else 
    if ((a0 - (26 : Int32)) / (4 : Int32)) = (3 : Int32) then some (some (.int (2 : Int32)), x)
    else some (some (.int (1 : Int32)), x) := (mj_run_to (cd := cdX0) (rt := 1) (tab := tX0_growth) (cal := kX0 d) zX0_growth 69 (0, [some (.int a0), none], [], x)).trans rfl
set_option maxRecDepth 100000 in
set_option maxHeartbeats 4000000 in
theorem bX0_growth_83 (d : Nat) (a0 : Int32) (x : mj_X) : rX0_growth d (83, [some (.int a0), none], [], x) = some (some (.int (2 : Int32)), x) := (mj_run_to (cd := cdX0) (rt := 1) (tab := tX0_growth) (cal := kX0 d) zX0_growth 69 (83, [some (.int a0), none], [], x)).trans rfl
noncomputable abbrev rX0_castChange (d : Nat) : mj_S → mj_R := mj_run cdX0 1 tX0_castChange (kX0 d)
def zX0_castChange (p : Nat) : Bool := bif Nat.blt p 44 then (bif Nat.beq p 28 then true else false) else (bif Nat.beq p 44 then true else false)
set_option maxRecDepth 100000 in
set_option maxHeartbeats 4000000 in
theorem eX0_castChange (d : Nat) (a0 : Int32) (x : mj_X) : kX0 (d + 1) 104 [.int a0] x = 
  if ((a0 - (133 : Int32)) / (3 : Int32)) ≤ ((a0 - (133 : Int32)) - (a0 - (133 : Int32)) / (3 : Int32) * (3 : Int32)) then rX0_castChange d (28, [some (.int a0), some (.int ((a0 - (133 : Int32)) / (3 : Int32))), some (.int ((a0 - (133 : Int32)) - (a0 - (133 : Int32)) / (3 : Int32) * (3 : Int32))), none], [.int (((a0 - (133 : Int32)) - (a0 - (133 : Int32)) / (3 : Int32) * (3 : Int32)) + (1 : Int32))], x)
  else rX0_castChange d (28, [some (.int a0), some (.int ((a0 - (133 : Int32)) / (3 : Int32))), some (.int ((a0 - (133 : Int32)) - (a0 - (133 : Int32)) / (3 : Int32) * (3 : Int32))), none], [.int ((a0 - (133 : Int32)) - (a0 - (133 : Int32)) / (3 : Int32) * (3 : Int32))], x) := (mj_run_to (cd := cdX0) (rt := 1) (tab := tX0_castChange) (cal := kX0 d) zX0_castChange 24 (0, [some (.int a0), none, none, none], [], x)).trans rfl
set_option maxRecDepth 100000 in
set_option maxHeartbeats 4000000 in
theorem bX0_castChange_28 (d : Nat) (a0 : Int32) (a1 : Int32) (a2 : Int32) (s0 : Int32) (x : mj_X) : rX0_castChange d (28, [some (.int a0), some (.int a1), some (.int a2), none], [.int s0], x) = 
  if s0 = (1 : Int32) then rX0_castChange d (44, [some (.int a0), some (.int a1), some (.int a2), some (.int s0)], [.int (2 : Int32)], x)
  else 
   if s0 = (3 : Int32) then rX0_castChange d (44, [some (.int a0), some (.int a1), some (.int a2), some (.int s0)], [.int (2 : Int32)], x)
   else rX0_castChange d (44, [some (.int a0), some (.int a1), some (.int a2), some (.int s0)], [.int (1 : Int32)], x) := (mj_run_to (cd := cdX0) (rt := 1) (tab := tX0_castChange) (cal := kX0 d) zX0_castChange 24 (28, [some (.int a0), some (.int a1), some (.int a2), none], [.int s0], x)).trans rfl
set_option maxRecDepth 100000 in
set_option maxHeartbeats 4000000 in
theorem bX0_castChange_44 (d : Nat) (a0 : Int32) (a1 : Int32) (a2 : Int32) (a3 : Int32) (s0 : Int32) (x : mj_X) : rX0_castChange d (44, [some (.int a0), some (.int a1), some (.int a2), some (.int a3)], [.int s0], x) = 
  if a1 = (1 : Int32) then some (some (.int (s0 - (2 : Int32))), x)
  else 
   if a1 = (3 : Int32) then some (some (.int (s0 - (2 : Int32))), x)
   else some (some (.int (s0 - (1 : Int32))), x) := (mj_run_to (cd := cdX0) (rt := 1) (tab := tX0_castChange) (cal := kX0 d) zX0_castChange 24 (44, [some (.int a0), some (.int a1), some (.int a2), some (.int a3)], [.int s0], x)).trans rfl
noncomputable abbrev rX0_u2 (d : Nat) : mj_S → mj_R := mj_run cdX0 1 tX0_u2 (kX0 d)
def zX0_u2 (p : Nat) : Bool := false
set_option maxRecDepth 100000 in
set_option maxHeartbeats 4000000 in
theorem eX0_u2 (d : Nat) (a1 : Int32) (x : mj_X) : kX0 (d + 1) 105 [.ref 0, .int a1] x = mj_rI (kX0 d 106 [.ref 0, .int a1] x) fun v2 x1 =>
  some (some (.int (v2 &&& (65535 : Int32))), x1) := (mj_run_to (cd := cdX0) (rt := 1) (tab := tX0_u2) (cal := kX0 d) zX0_u2 8 (0, [some (.ref 0), some (.int a1)], [], x)).trans rfl
noncomputable abbrev rX0_s2 (d : Nat) : mj_S → mj_R := mj_run cdX0 1 tX0_s2 (kX0 d)
def zX0_s2 (p : Nat) : Bool := false
set_option maxRecDepth 100000 in
set_option maxHeartbeats 4000000 in
theorem eX0_s2 (d : Nat) (a1 : Int32) (x : mj_X) : kX0 (d + 1) 106 [.ref 0, .int a1] x = mj_g a1 90008 (mj_g (a1 + (1 : Int32)) 90008 (some (some (.int (((x.1 13 a1.toNatClampNeg) <<< ((8 : Int32) &&& 31)) ||| ((x.1 13 (a1 + (1 : Int32)).toNatClampNeg) &&& (255 : Int32)))), x))) := (mj_run_to (cd := cdX0) (rt := 1) (tab := tX0_s2) (cal := kX0 d) zX0_s2 18 (0, [some (.ref 0), some (.int a1)], [], x)).trans rfl
noncomputable abbrev rX0_callChange (d : Nat) : mj_S → mj_R := mj_run cdX0 1 tX0_callChange (kX0 d)
def zX0_callChange (p : Nat) : Bool := bif Nat.beq p 49 then true else false
set_option maxRecDepth 100000 in
set_option maxHeartbeats 4000000 in
theorem eX0_callChange (d : Nat) (a1 : Int32) (a2 : Int32) (x : mj_X) : kX0 (d + 1) 107 [.ref 0, .int a1, .int a2] x = mj_rI (kX0 d 108 [.ref 0, .int a1, .int a2] x) fun v2 x1 =>
  mj_g v2 8000 (
  if (x1.1 19 v2.toNatClampNeg) = (5 : Int32) then mj_g v2 8000 (mj_g (x1.2 20 v2.toNatClampNeg).toInt32 40 (mj_rI (kX0 d 26 [.int (x1.1 9 (x1.2 20 v2.toNatClampNeg).toInt32.toNatClampNeg)] x1) fun v4 x3 =>
   mj_g (x1.2 20 v2.toNatClampNeg).toInt32 40 (rX0_callChange d (49, [some (.ref 0), some (.int a1), some (.int a2), some (.int v2), some (.int (x1.2 20 v2.toNatClampNeg).toInt32), some (.int v4), some (.int (x3.1 10 (x1.2 20 v2.toNatClampNeg).toInt32.toNatClampNeg))], [], x3))))
  else some (some (.int (0 : Int32)), x1)) := (mj_run_to (cd := cdX0) (rt := 1) (tab := tX0_callChange) (cal := kX0 d) zX0_callChange 33 (0, [some (.ref 0), some (.int a1), some (.int a2), none, none, none, none], [], x)).trans rfl
set_option maxRecDepth 100000 in
set_option maxHeartbeats 4000000 in
theorem bX0_callChange_49 (d : Nat) (a1 : Int32) (a2 : Int32) (a3 : Int32) (a4 : Int32) (a5 : Int32) (a6 : Int32) (x : mj_X) : rX0_callChange d (49, [some (.ref 0), some (.int a1), some (.int a2), some (.int a3), some (.int a4), some (.int a5), some (.int a6)], [], x) = 
  if a6 = (-1 : Int32) then some (some (.int a5), x)
  else mj_g a6 4000 (mj_g (x.1 2 a6.toNatClampNeg) 4000 (mj_rI (kX0 d 26 [.int (x.1 4 (x.1 2 a6.toNatClampNeg).toNatClampNeg)] x) fun v2 x1 =>
   mj_g a6 4000 (rX0_callChange d (49, [some (.ref 0), some (.int a1), some (.int a2), some (.int a3), some (.int a4), some (.int (a5 - v2)), some (.int (x1.1 3 a6.toNatClampNeg))], [], x1)))) := (mj_run_to (cd := cdX0) (rt := 1) (tab := tX0_callChange) (cal := kX0 d) zX0_callChange 33 (49, [some (.ref 0), some (.int a1), some (.int a2), some (.int a3), some (.int a4), some (.int a5), some (.int a6)], [], x)).trans rfl
noncomputable abbrev rX0_poolAt (d : Nat) : mj_S → mj_R := mj_run cdX0 1 tX0_poolAt (kX0 d)
def zX0_poolAt (p : Nat) : Bool := bif Nat.beq p 7 then true else false
set_option maxRecDepth 100000 in
set_option maxHeartbeats 4000000 in
theorem eX0_poolAt (d : Nat) (a1 : Int32) (a2 : Int32) (x : mj_X) : kX0 (d + 1) 108 [.ref 0, .int a1, .int a2] x = mj_g a1 41 (rX0_poolAt d (7, [some (.ref 0), some (.int a1), some (.int a2), some (.int (x.1 17 a1.toNatClampNeg))], [], x)) := (mj_run_to (cd := cdX0) (rt := 1) (tab := tX0_poolAt) (cal := kX0 d) zX0_poolAt 13 (0, [some (.ref 0), some (.int a1), some (.int a2), none], [], x)).trans rfl
set_option maxRecDepth 100000 in
set_option maxHeartbeats 4000000 in
theorem bX0_poolAt_7 (d : Nat) (a1 : Int32) (a2 : Int32) (a3 : Int32) (x : mj_X) : rX0_poolAt d (7, [some (.ref 0), some (.int a1), some (.int a2), some (.int a3)], [], x) = mj_g a3 8000 (
  if (x.1 18 a3.toNatClampNeg) = a2 then some (some (.int a3), x)
  else rX0_poolAt d (7, [some (.ref 0), some (.int a1), some (.int a2), some (.int (a3 + (1 : Int32)))], [], x)) := (mj_run_to (cd := cdX0) (rt := 1) (tab := tX0_poolAt) (cal := kX0 d) zX0_poolAt 13 (7, [some (.ref 0), some (.int a1), some (.int a2), some (.int a3)], [], x)).trans rfl
noncomputable abbrev rX0_s4 (d : Nat) : mj_S → mj_R := mj_run cdX0 1 tX0_s4 (kX0 d)
def zX0_s4 (p : Nat) : Bool := false
set_option maxRecDepth 100000 in
set_option maxHeartbeats 4000000 in
theorem eX0_s4 (d : Nat) (a1 : Int32) (x : mj_X) : kX0 (d + 1) 109 [.ref 0, .int a1] x = mj_rI (kX0 d 106 [.ref 0, .int a1] x) fun v2 x1 =>
  mj_rI (kX0 d 105 [.ref 0, .int (a1 + (2 : Int32))] x1) fun v4 x3 =>
  some (some (.int ((v2 <<< ((16 : Int32) &&& 31)) ||| v4)), x3) := (mj_run_to (cd := cdX0) (rt := 1) (tab := tX0_s4) (cal := kX0 d) zX0_s4 14 (0, [some (.ref 0), some (.int a1)], [], x)).trans rfl
noncomputable abbrev rX0_lengthOf (d : Nat) : mj_S → mj_R := mj_run cdX0 1 tX0_lengthOf (kX0 d)
def zX0_lengthOf (p : Nat) : Bool := bif Nat.beq p 137 then true else false
set_option maxRecDepth 100000 in
set_option maxHeartbeats 4000000 in
theorem eX0_lengthOf (d : Nat) (a1 : Int32) (x : mj_X) : kX0 (d + 1) 110 [.ref 0, .int a1] x = mj_rI (kX0 d 101 [.ref 0, .int a1] x) fun v2 x1 =>
  
  if v2 = (196 : Int32) then mj_rI (kX0 d 101 [.ref 0, .int (a1 + (1 : Int32))] x1) fun v4 x3 =>
   
   if v4 = (132 : Int32) then some (some (.int (6 : Int32)), x3)
   else some (some (.int (4 : Int32)), x3)
  else 
   if v2 = (200 : Int32) then some (some (.int (5 : Int32)), x1)
   else 
    if v2 = (16 : Int32) then some (some (.int (2 : Int32)), x1)
    else 
     if v2 = (18 : Int32) then some (some (.int (2 : Int32)), x1)
     else mj_rI (kX0 d 2 [.long v2.toInt64, .long (21 : Int64), .long (25 : Int64)] x1) fun v6 x5 =>
      
      if v6 = 0 then mj_rI (kX0 d 2 [.long v2.toInt64, .long (54 : Int64), .long (58 : Int64)] x5) fun v8 x7 =>
       
       if v8 = 0 then 
        if v2 = (188 : Int32) then some (some (.int (2 : Int32)), x7)
        else 
         if v2 = (17 : Int32) then rX0_lengthOf d (137, [some (.ref 0), some (.int a1), some (.int v2)], [], x7)
         else 
          if v2 = (19 : Int32) then rX0_lengthOf d (137, [some (.ref 0), some (.int a1), some (.int v2)], [], x7)
          else 
           if v2 = (20 : Int32) then rX0_lengthOf d (137, [some (.ref 0), some (.int a1), some (.int v2)], [], x7)
           else 
            if v2 = (132 : Int32) then rX0_lengthOf d (137, [some (.ref 0), some (.int a1), some (.int v2)], [], x7)
            else mj_rI (kX0 d 2 [.long v2.toInt64, .long (153 : Int64), .long (167 : Int64)] x7) fun v10 x9 =>
             
             if v10 = 0 then 
              if v2 = (184 : Int32) then rX0_lengthOf d (137, [some (.ref 0), some (.int a1), some (.int v2)], [], x9)
              else some (some (.int (1 : Int32)), x9)
             else rX0_lengthOf d (137, [some (.ref 0), some (.int a1), some (.int v2)], [], x9)
       else some (some (.int (2 : Int32)), x7)
      else some (some (.int (2 : Int32)), x5) := (mj_run_to (cd := cdX0) (rt := 1) (tab := tX0_lengthOf) (cal := kX0 d) zX0_lengthOf 86 (0, [some (.ref 0), some (.int a1), none], [], x)).trans rfl
set_option maxRecDepth 100000 in
set_option maxHeartbeats 4000000 in
theorem bX0_lengthOf_137 (d : Nat) (a1 : Int32) (a2 : Int32) (x : mj_X) : rX0_lengthOf d (137, [some (.ref 0), some (.int a1), some (.int a2)], [], x) = some (some (.int (3 : Int32)), x) := (mj_run_to (cd := cdX0) (rt := 1) (tab := tX0_lengthOf) (cal := kX0 d) zX0_lengthOf 86 (137, [some (.ref 0), some (.int a1), some (.int a2)], [], x)).trans rfl
noncomputable abbrev rX0_told (d : Nat) : mj_S → mj_R := mj_run cdX0 1 tX0_told (kX0 d)
def zX0_told (p : Nat) : Bool := bif Nat.blt p 107 then (bif Nat.blt p 75 then (bif Nat.blt p 68 then (bif Nat.beq p 52 then true else false) else (bif Nat.beq p 68 then true else false)) else (bif Nat.blt p 91 then (bif Nat.beq p 75 then true else false) else (bif Nat.beq p 91 then true else false))) else (bif Nat.blt p 138 then (bif Nat.blt p 123 then (bif Nat.beq p 107 then true else false) else (bif Nat.beq p 123 then true else false)) else (bif Nat.blt p 145 then (bif Nat.beq p 138 then true else false) else (bif Nat.beq p 145 then true else false)))
set_option maxRecDepth 100000 in
set_option maxHeartbeats 4000000 in
theorem eX0_told (d : Nat) (a1 : Int32) (a2 : Int32) (x : mj_X) : kX0 (d + 1) 112 [.ref 0, .int a1, .int a2] x = mj_rI (kX0 d 113 [.ref 0, .int a1] x) fun v2 x1 =>
  
  if v2 = 0 then some (some (.int (-1 : Int32)), x1)
  else mj_sw a2 0 (134) [41, 57, 64, 80, 96, 112, 127] fun off => mj_j 11 off fun t => rX0_told d (t, [some (.ref 0), some (.int a1), some (.int a2)], [], x1) := (mj_run_to (cd := cdX0) (rt := 1) (tab := tX0_told) (cal := kX0 d) zX0_told 18 (0, [some (.ref 0), some (.int a1), some (.int a2)], [], x)).trans rfl
set_option maxRecDepth 100000 in
set_option maxHeartbeats 4000000 in
theorem bX0_told_52 (d : Nat) (a1 : Int32) (a2 : Int32) (x : mj_X) : rX0_told d (52, [some (.ref 0), some (.int a1), some (.int a2)], [], x) = mj_g (a1 + (1 : Int32)) 41 (mj_g a1 41 (some (some (.int ((x.1 12 (a1 + (1 : Int32)).toNatClampNeg) - (x.1 12 a1.toNatClampNeg))), x))) := (mj_run_to (cd := cdX0) (rt := 1) (tab := tX0_told) (cal := kX0 d) zX0_told 18 (52, [some (.ref 0), some (.int a1), some (.int a2)], [], x)).trans rfl
set_option maxRecDepth 100000 in
set_option maxHeartbeats 4000000 in
theorem bX0_told_68 (d : Nat) (a1 : Int32) (a2 : Int32) (x : mj_X) : rX0_told d (68, [some (.ref 0), some (.int a1), some (.int a2)], [], x) = mj_g a1 40 (some (some (.int (x.1 14 a1.toNatClampNeg)), x)) := (mj_run_to (cd := cdX0) (rt := 1) (tab := tX0_told) (cal := kX0 d) zX0_told 18 (68, [some (.ref 0), some (.int a1), some (.int a2)], [], x)).trans rfl
set_option maxRecDepth 100000 in
set_option maxHeartbeats 4000000 in
theorem bX0_told_75 (d : Nat) (a1 : Int32) (a2 : Int32) (x : mj_X) : rX0_told d (75, [some (.ref 0), some (.int a1), some (.int a2)], [], x) = mj_g (a1 + (1 : Int32)) 41 (mj_g a1 41 (some (some (.int ((x.1 17 (a1 + (1 : Int32)).toNatClampNeg) - (x.1 17 a1.toNatClampNeg))), x))) := (mj_run_to (cd := cdX0) (rt := 1) (tab := tX0_told) (cal := kX0 d) zX0_told 18 (75, [some (.ref 0), some (.int a1), some (.int a2)], [], x)).trans rfl
set_option maxRecDepth 100000 in
set_option maxHeartbeats 4000000 in
theorem bX0_told_91 (d : Nat) (a1 : Int32) (a2 : Int32) (x : mj_X) : rX0_told d (91, [some (.ref 0), some (.int a1), some (.int a2)], [], x) = mj_g (a1 + (1 : Int32)) 41 (mj_g a1 41 (some (some (.int ((x.1 21 (a1 + (1 : Int32)).toNatClampNeg) - (x.1 21 a1.toNatClampNeg))), x))) := (mj_run_to (cd := cdX0) (rt := 1) (tab := tX0_told) (cal := kX0 d) zX0_told 18 (91, [some (.ref 0), some (.int a1), some (.int a2)], [], x)).trans rfl
set_option maxRecDepth 100000 in
set_option maxHeartbeats 4000000 in
theorem bX0_told_107 (d : Nat) (a1 : Int32) (a2 : Int32) (x : mj_X) : rX0_told d (107, [some (.ref 0), some (.int a1), some (.int a2)], [], x) = mj_g (a1 + (1 : Int32)) 41 (mj_g a1 41 (some (some (.int ((x.1 23 (a1 + (1 : Int32)).toNatClampNeg) - (x.1 23 a1.toNatClampNeg))), x))) := (mj_run_to (cd := cdX0) (rt := 1) (tab := tX0_told) (cal := kX0 d) zX0_told 18 (107, [some (.ref 0), some (.int a1), some (.int a2)], [], x)).trans rfl
set_option maxRecDepth 100000 in
set_option maxHeartbeats 4000000 in
theorem bX0_told_123 (d : Nat) (a1 : Int32) (a2 : Int32) (x : mj_X) : rX0_told d (123, [some (.ref 0), some (.int a1), some (.int a2)], [], x) = mj_g a1 40 (
  if (x.1 16 a1.toNatClampNeg) = 0 then some (some (.int (0 : Int32)), x)
  else some (some (.int (1 : Int32)), x)) := (mj_run_to (cd := cdX0) (rt := 1) (tab := tX0_told) (cal := kX0 d) zX0_told 18 (123, [some (.ref 0), some (.int a1), some (.int a2)], [], x)).trans rfl
set_option maxRecDepth 100000 in
set_option maxHeartbeats 4000000 in
theorem bX0_told_138 (d : Nat) (a1 : Int32) (a2 : Int32) (x : mj_X) : rX0_told d (138, [some (.ref 0), some (.int a1), some (.int a2)], [], x) = mj_g a1 40 (some (some (.int (x.1 15 a1.toNatClampNeg)), x)) := (mj_run_to (cd := cdX0) (rt := 1) (tab := tX0_told) (cal := kX0 d) zX0_told 18 (138, [some (.ref 0), some (.int a1), some (.int a2)], [], x)).trans rfl
set_option maxRecDepth 100000 in
set_option maxHeartbeats 4000000 in
theorem bX0_told_145 (d : Nat) (a1 : Int32) (a2 : Int32) (x : mj_X) : rX0_told d (145, [some (.ref 0), some (.int a1), some (.int a2)], [], x) = some (some (.int (-1 : Int32)), x) := (mj_run_to (cd := cdX0) (rt := 1) (tab := tX0_told) (cal := kX0 d) zX0_told 18 (145, [some (.ref 0), some (.int a1), some (.int a2)], [], x)).trans rfl
noncomputable abbrev rX0_octet (d : Nat) : mj_S → mj_R := mj_run cdX0 1 tX0_octet (kX0 d)
def zX0_octet (p : Nat) : Bool := false
set_option maxRecDepth 100000 in
set_option maxHeartbeats 4000000 in
theorem eX0_octet (d : Nat) (a1 : Int32) (a2 : Int32) (x : mj_X) : kX0 (d + 1) 114 [.ref 0, .int a1, .int a2] x = mj_rI (kX0 d 113 [.ref 0, .int a1] x) fun v2 x1 =>
  
  if v2 = 0 then some (some (.int (-1 : Int32)), x1)
  else mj_g (a1 + (1 : Int32)) 41 (mj_g a1 41 (mj_rI (kX0 d 2 [.long a2.toInt64, .long (0 : Int64), .long (((x1.1 12 (a1 + (1 : Int32)).toNatClampNeg) - (x1.1 12 a1.toNatClampNeg)) - (1 : Int32)).toInt64] x1) fun v4 x3 =>
   
   if v4 = 0 then some (some (.int (-1 : Int32)), x3)
   else mj_g a1 41 (mj_g ((x3.1 12 a1.toNatClampNeg) + a2) 90008 (some (some (.int ((x3.1 13 ((x3.1 12 a1.toNatClampNeg) + a2).toNatClampNeg) &&& (255 : Int32))), x3))))) := (mj_run_to (cd := cdX0) (rt := 1) (tab := tX0_octet) (cal := kX0 d) zX0_octet 42 (0, [some (.ref 0), some (.int a1), some (.int a2)], [], x)).trans rfl
noncomputable abbrev rX0_pool_2 (d : Nat) : mj_S → mj_R := mj_run cdX0 1 tX0_pool_2 (kX0 d)
def zX0_pool_2 (p : Nat) : Bool := bif Nat.blt p 96 then (bif Nat.blt p 88 then (bif Nat.beq p 80 then true else false) else (bif Nat.beq p 88 then true else false)) else (bif Nat.blt p 105 then (bif Nat.beq p 96 then true else false) else (bif Nat.blt p 134 then (bif Nat.beq p 105 then true else false) else (bif Nat.beq p 134 then true else false)))
set_option maxRecDepth 100000 in
set_option maxHeartbeats 4000000 in
theorem eX0_pool_2 (d : Nat) (a1 : Int32) (a2 : Int32) (a3 : Int32) (x : mj_X) : kX0 (d + 1) 115 [.ref 0, .int a1, .int a2, .int a3] x = mj_rI (kX0 d 113 [.ref 0, .int a1] x) fun v2 x1 =>
  
  if v2 = 0 then some (some (.int (-1 : Int32)), x1)
  else mj_g (a1 + (1 : Int32)) 41 (mj_g a1 41 (mj_rI (kX0 d 2 [.long a2.toInt64, .long (0 : Int64), .long (((x1.1 17 (a1 + (1 : Int32)).toNatClampNeg) - (x1.1 17 a1.toNatClampNeg)) - (1 : Int32)).toInt64] x1) fun v4 x3 =>
   
   if v4 = 0 then some (some (.int (-1 : Int32)), x3)
   else mj_g a1 41 (mj_sw a3 0 (86) [32, 40, 48, 57] fun off => mj_j 48 off fun t => rX0_pool_2 d (t, [some (.ref 0), some (.int a1), some (.int a2), some (.int a3), some (.int ((x3.1 17 a1.toNatClampNeg) + a2))], [], x3)))) := (mj_run_to (cd := cdX0) (rt := 1) (tab := tX0_pool_2) (cal := kX0 d) zX0_pool_2 43 (0, [some (.ref 0), some (.int a1), some (.int a2), some (.int a3), none], [], x)).trans rfl
set_option maxRecDepth 100000 in
set_option maxHeartbeats 4000000 in
theorem bX0_pool_2_80 (d : Nat) (a1 : Int32) (a2 : Int32) (a3 : Int32) (a4 : Int32) (x : mj_X) : rX0_pool_2 d (80, [some (.ref 0), some (.int a1), some (.int a2), some (.int a3), some (.int a4)], [], x) = mj_g a4 8000 (some (some (.int (x.1 18 a4.toNatClampNeg)), x)) := (mj_run_to (cd := cdX0) (rt := 1) (tab := tX0_pool_2) (cal := kX0 d) zX0_pool_2 43 (80, [some (.ref 0), some (.int a1), some (.int a2), some (.int a3), some (.int a4)], [], x)).trans rfl
set_option maxRecDepth 100000 in
set_option maxHeartbeats 4000000 in
theorem bX0_pool_2_88 (d : Nat) (a1 : Int32) (a2 : Int32) (a3 : Int32) (a4 : Int32) (x : mj_X) : rX0_pool_2 d (88, [some (.ref 0), some (.int a1), some (.int a2), some (.int a3), some (.int a4)], [], x) = mj_g a4 8000 (some (some (.int (x.1 19 a4.toNatClampNeg)), x)) := (mj_run_to (cd := cdX0) (rt := 1) (tab := tX0_pool_2) (cal := kX0 d) zX0_pool_2 43 (88, [some (.ref 0), some (.int a1), some (.int a2), some (.int a3), some (.int a4)], [], x)).trans rfl
set_option maxRecDepth 100000 in
set_option maxHeartbeats 4000000 in
theorem bX0_pool_2_96 (d : Nat) (a1 : Int32) (a2 : Int32) (a3 : Int32) (a4 : Int32) (x : mj_X) : rX0_pool_2 d (96, [some (.ref 0), some (.int a1), some (.int a2), some (.int a3), some (.int a4)], [], x) = mj_g a4 8000 (some (some (.int (x.2 20 a4.toNatClampNeg).toInt32), x)) := (mj_run_to (cd := cdX0) (rt := 1) (tab := tX0_pool_2) (cal := kX0 d) zX0_pool_2 43 (96, [some (.ref 0), some (.int a1), some (.int a2), some (.int a3), some (.int a4)], [], x)).trans rfl
set_option maxRecDepth 100000 in
set_option maxHeartbeats 4000000 in
theorem bX0_pool_2_105 (d : Nat) (a1 : Int32) (a2 : Int32) (a3 : Int32) (a4 : Int32) (x : mj_X) : rX0_pool_2 d (105, [some (.ref 0), some (.int a1), some (.int a2), some (.int a3), some (.int a4)], [], x) = mj_g a4 8000 (mj_rI (kX0 d 27 [.int (x.1 19 a4.toNatClampNeg)] x) fun v2 x1 =>
  
  if v2 = 0 then some (some (.int (0 : Int32)), x1)
  else mj_g a4 8000 (some (some (.int ((x1.2 20 a4.toNatClampNeg) >>> ((32 : Int32).toInt64 &&& 63)).toInt32), x1))) := (mj_run_to (cd := cdX0) (rt := 1) (tab := tX0_pool_2) (cal := kX0 d) zX0_pool_2 43 (105, [some (.ref 0), some (.int a1), some (.int a2), some (.int a3), some (.int a4)], [], x)).trans rfl
set_option maxRecDepth 100000 in
set_option maxHeartbeats 4000000 in
theorem bX0_pool_2_134 (d : Nat) (a1 : Int32) (a2 : Int32) (a3 : Int32) (a4 : Int32) (x : mj_X) : rX0_pool_2 d (134, [some (.ref 0), some (.int a1), some (.int a2), some (.int a3), some (.int a4)], [], x) = some (some (.int (-1 : Int32)), x) := (mj_run_to (cd := cdX0) (rt := 1) (tab := tX0_pool_2) (cal := kX0 d) zX0_pool_2 43 (134, [some (.ref 0), some (.int a1), some (.int a2), some (.int a3), some (.int a4)], [], x)).trans rfl
