theorem wX0_act_0_60 (d : Nat) (a1 : Int32) (x : mj_X) (h : (x.1 1 a1.toNatClampNeg) = (60 : Int32)) : kX0 (d + 1) 34 [.ref 0, .int a1] x = 
  if (x.1 0 30) = 0 then some (none, x)
  else 
   if (x.1 0 29) = 0 then 
    if (60000 : Int32) < ((x.1 0 60) + (1 : Int32)) then some (none, (mj_wI (mj_wI x 0 60 ((x.1 0 60) + (1 : Int32))) 0 29 (1 : Int32)))
    else 
     if (x.1 0 61) = (200 : Int32) then some (none, (mj_wI (mj_wI x 0 60 ((x.1 0 60) + (1 : Int32))) 0 29 (1 : Int32)))
     else mj_g a1 4000 (mj_g a1 4000 (mj_g a1 4000 (rX0_act d (200, [some (.ref 0), some (.int a1), some (.int (x.1 2 a1.toNatClampNeg)), some (.int (x.1 3 a1.toNatClampNeg)), none, none, none], [], (mj_wI (mj_wI x 0 60 ((x.1 0 60) + (1 : Int32))) 0 61 ((x.1 0 61) + (1 : Int32)))))))
   else some (none, x) := by rw [eX0_act, h]; rfl
theorem wX0_act_0_61 (d : Nat) (a1 : Int32) (x : mj_X) (h : (x.1 1 a1.toNatClampNeg) = (61 : Int32)) : kX0 (d + 1) 34 [.ref 0, .int a1] x = 
  if (x.1 0 30) = 0 then some (none, x)
  else 
   if (x.1 0 29) = 0 then 
    if (60000 : Int32) < ((x.1 0 60) + (1 : Int32)) then some (none, (mj_wI (mj_wI x 0 60 ((x.1 0 60) + (1 : Int32))) 0 29 (1 : Int32)))
    else 
     if (x.1 0 61) = (200 : Int32) then some (none, (mj_wI (mj_wI x 0 60 ((x.1 0 60) + (1 : Int32))) 0 29 (1 : Int32)))
     else mj_g a1 4000 (mj_g a1 4000 (mj_g a1 4000 (rX0_act d (209, [some (.ref 0), some (.int a1), some (.int (x.1 2 a1.toNatClampNeg)), some (.int (x.1 3 a1.toNatClampNeg)), none, none, none], [], (mj_wI (mj_wI x 0 60 ((x.1 0 60) + (1 : Int32))) 0 61 ((x.1 0 61) + (1 : Int32)))))))
   else some (none, x) := by rw [eX0_act, h]; rfl
theorem wX0_act_0_62 (d : Nat) (a1 : Int32) (x : mj_X) (h : (x.1 1 a1.toNatClampNeg) = (62 : Int32)) : kX0 (d + 1) 34 [.ref 0, .int a1] x = 
  if (x.1 0 30) = 0 then some (none, x)
  else 
   if (x.1 0 29) = 0 then 
    if (60000 : Int32) < ((x.1 0 60) + (1 : Int32)) then some (none, (mj_wI (mj_wI x 0 60 ((x.1 0 60) + (1 : Int32))) 0 29 (1 : Int32)))
    else 
     if (x.1 0 61) = (200 : Int32) then some (none, (mj_wI (mj_wI x 0 60 ((x.1 0 60) + (1 : Int32))) 0 29 (1 : Int32)))
     else mj_g a1 4000 (mj_g a1 4000 (mj_g a1 4000 (rX0_act d (250, [some (.ref 0), some (.int a1), some (.int (x.1 2 a1.toNatClampNeg)), some (.int (x.1 3 a1.toNatClampNeg)), none, none, none], [], (mj_wI (mj_wI x 0 60 ((x.1 0 60) + (1 : Int32))) 0 61 ((x.1 0 61) + (1 : Int32)))))))
   else some (none, x) := by rw [eX0_act, h]; rfl
theorem wX0_act_0_63 (d : Nat) (a1 : Int32) (x : mj_X) (h : (x.1 1 a1.toNatClampNeg) = (63 : Int32)) : kX0 (d + 1) 34 [.ref 0, .int a1] x = 
  if (x.1 0 30) = 0 then some (none, x)
  else 
   if (x.1 0 29) = 0 then 
    if (60000 : Int32) < ((x.1 0 60) + (1 : Int32)) then some (none, (mj_wI (mj_wI x 0 60 ((x.1 0 60) + (1 : Int32))) 0 29 (1 : Int32)))
    else 
     if (x.1 0 61) = (200 : Int32) then some (none, (mj_wI (mj_wI x 0 60 ((x.1 0 60) + (1 : Int32))) 0 29 (1 : Int32)))
     else mj_g a1 4000 (mj_g a1 4000 (mj_g a1 4000 (rX0_act d (263, [some (.ref 0), some (.int a1), some (.int (x.1 2 a1.toNatClampNeg)), some (.int (x.1 3 a1.toNatClampNeg)), none, none, none], [], (mj_wI (mj_wI x 0 60 ((x.1 0 60) + (1 : Int32))) 0 61 ((x.1 0 61) + (1 : Int32)))))))
   else some (none, x) := by rw [eX0_act, h]; rfl
theorem wX0_act_0_64 (d : Nat) (a1 : Int32) (x : mj_X) (h : (x.1 1 a1.toNatClampNeg) = (64 : Int32)) : kX0 (d + 1) 34 [.ref 0, .int a1] x = 
  if (x.1 0 30) = 0 then some (none, x)
  else 
   if (x.1 0 29) = 0 then 
    if (60000 : Int32) < ((x.1 0 60) + (1 : Int32)) then some (none, (mj_wI (mj_wI x 0 60 ((x.1 0 60) + (1 : Int32))) 0 29 (1 : Int32)))
    else 
     if (x.1 0 61) = (200 : Int32) then some (none, (mj_wI (mj_wI x 0 60 ((x.1 0 60) + (1 : Int32))) 0 29 (1 : Int32)))
     else mj_g a1 4000 (mj_g a1 4000 (mj_g a1 4000 (rX0_act d (315, [some (.ref 0), some (.int a1), some (.int (x.1 2 a1.toNatClampNeg)), some (.int (x.1 3 a1.toNatClampNeg)), none, none, none], [], (mj_wI (mj_wI x 0 60 ((x.1 0 60) + (1 : Int32))) 0 61 ((x.1 0 61) + (1 : Int32)))))))
   else some (none, x) := by rw [eX0_act, h]; rfl
theorem wX0_act_0_65 (d : Nat) (a1 : Int32) (x : mj_X) (h : (x.1 1 a1.toNatClampNeg) = (65 : Int32)) : kX0 (d + 1) 34 [.ref 0, .int a1] x = 
  if (x.1 0 30) = 0 then some (none, x)
  else 
   if (x.1 0 29) = 0 then 
    if (60000 : Int32) < ((x.1 0 60) + (1 : Int32)) then some (none, (mj_wI (mj_wI x 0 60 ((x.1 0 60) + (1 : Int32))) 0 29 (1 : Int32)))
    else 
     if (x.1 0 61) = (200 : Int32) then some (none, (mj_wI (mj_wI x 0 60 ((x.1 0 60) + (1 : Int32))) 0 29 (1 : Int32)))
     else mj_g a1 4000 (mj_g a1 4000 (mj_g a1 4000 (rX0_act d (343, [some (.ref 0), some (.int a1), some (.int (x.1 2 a1.toNatClampNeg)), some (.int (x.1 3 a1.toNatClampNeg)), none, none, none], [], (mj_wI (mj_wI x 0 60 ((x.1 0 60) + (1 : Int32))) 0 61 ((x.1 0 61) + (1 : Int32)))))))
   else some (none, x) := by rw [eX0_act, h]; rfl
theorem wX0_act_0_66 (d : Nat) (a1 : Int32) (x : mj_X) (h : (x.1 1 a1.toNatClampNeg) = (66 : Int32)) : kX0 (d + 1) 34 [.ref 0, .int a1] x = 
  if (x.1 0 30) = 0 then some (none, x)
  else 
   if (x.1 0 29) = 0 then 
    if (60000 : Int32) < ((x.1 0 60) + (1 : Int32)) then some (none, (mj_wI (mj_wI x 0 60 ((x.1 0 60) + (1 : Int32))) 0 29 (1 : Int32)))
    else 
     if (x.1 0 61) = (200 : Int32) then some (none, (mj_wI (mj_wI x 0 60 ((x.1 0 60) + (1 : Int32))) 0 29 (1 : Int32)))
     else mj_g a1 4000 (mj_g a1 4000 (mj_g a1 4000 (rX0_act d (499, [some (.ref 0), some (.int a1), some (.int (x.1 2 a1.toNatClampNeg)), some (.int (x.1 3 a1.toNatClampNeg)), none, none, none], [], (mj_wI (mj_wI x 0 60 ((x.1 0 60) + (1 : Int32))) 0 61 ((x.1 0 61) + (1 : Int32)))))))
   else some (none, x) := by rw [eX0_act, h]; rfl
theorem wX0_act_0_67 (d : Nat) (a1 : Int32) (x : mj_X) (h : (x.1 1 a1.toNatClampNeg) = (67 : Int32)) : kX0 (d + 1) 34 [.ref 0, .int a1] x = 
  if (x.1 0 30) = 0 then some (none, x)
  else 
   if (x.1 0 29) = 0 then 
    if (60000 : Int32) < ((x.1 0 60) + (1 : Int32)) then some (none, (mj_wI (mj_wI x 0 60 ((x.1 0 60) + (1 : Int32))) 0 29 (1 : Int32)))
    else 
     if (x.1 0 61) = (200 : Int32) then some (none, (mj_wI (mj_wI x 0 60 ((x.1 0 60) + (1 : Int32))) 0 29 (1 : Int32)))
     else mj_g a1 4000 (mj_g a1 4000 (mj_g a1 4000 (rX0_act d (363, [some (.ref 0), some (.int a1), some (.int (x.1 2 a1.toNatClampNeg)), some (.int (x.1 3 a1.toNatClampNeg)), none, none, none], [], (mj_wI (mj_wI x 0 60 ((x.1 0 60) + (1 : Int32))) 0 61 ((x.1 0 61) + (1 : Int32)))))))
   else some (none, x) := by rw [eX0_act, h]; rfl
theorem wX0_act_0_68 (d : Nat) (a1 : Int32) (x : mj_X) (h : (x.1 1 a1.toNatClampNeg) = (68 : Int32)) : kX0 (d + 1) 34 [.ref 0, .int a1] x = 
  if (x.1 0 30) = 0 then some (none, x)
  else 
   if (x.1 0 29) = 0 then 
    if (60000 : Int32) < ((x.1 0 60) + (1 : Int32)) then some (none, (mj_wI (mj_wI x 0 60 ((x.1 0 60) + (1 : Int32))) 0 29 (1 : Int32)))
    else 
     if (x.1 0 61) = (200 : Int32) then some (none, (mj_wI (mj_wI x 0 60 ((x.1 0 60) + (1 : Int32))) 0 29 (1 : Int32)))
     else mj_g a1 4000 (mj_g a1 4000 (mj_g a1 4000 (rX0_act d (363, [some (.ref 0), some (.int a1), some (.int (x.1 2 a1.toNatClampNeg)), some (.int (x.1 3 a1.toNatClampNeg)), none, none, none], [], (mj_wI (mj_wI x 0 60 ((x.1 0 60) + (1 : Int32))) 0 61 ((x.1 0 61) + (1 : Int32)))))))
   else some (none, x) := by rw [eX0_act, h]; rfl
theorem wX0_act_0_69 (d : Nat) (a1 : Int32) (x : mj_X) (h : (x.1 1 a1.toNatClampNeg) = (69 : Int32)) : kX0 (d + 1) 34 [.ref 0, .int a1] x = 
  if (x.1 0 30) = 0 then some (none, x)
  else 
   if (x.1 0 29) = 0 then 
    if (60000 : Int32) < ((x.1 0 60) + (1 : Int32)) then some (none, (mj_wI (mj_wI x 0 60 ((x.1 0 60) + (1 : Int32))) 0 29 (1 : Int32)))
    else 
     if (x.1 0 61) = (200 : Int32) then some (none, (mj_wI (mj_wI x 0 60 ((x.1 0 60) + (1 : Int32))) 0 29 (1 : Int32)))
     else mj_g a1 4000 (mj_g a1 4000 (mj_g a1 4000 (rX0_act d (363, [some (.ref 0), some (.int a1), some (.int (x.1 2 a1.toNatClampNeg)), some (.int (x.1 3 a1.toNatClampNeg)), none, none, none], [], (mj_wI (mj_wI x 0 60 ((x.1 0 60) + (1 : Int32))) 0 61 ((x.1 0 61) + (1 : Int32)))))))
   else some (none, x) := by rw [eX0_act, h]; rfl
theorem wX0_act_0_70 (d : Nat) (a1 : Int32) (x : mj_X) (h : (x.1 1 a1.toNatClampNeg) = (70 : Int32)) : kX0 (d + 1) 34 [.ref 0, .int a1] x = 
  if (x.1 0 30) = 0 then some (none, x)
  else 
   if (x.1 0 29) = 0 then 
    if (60000 : Int32) < ((x.1 0 60) + (1 : Int32)) then some (none, (mj_wI (mj_wI x 0 60 ((x.1 0 60) + (1 : Int32))) 0 29 (1 : Int32)))
    else 
     if (x.1 0 61) = (200 : Int32) then some (none, (mj_wI (mj_wI x 0 60 ((x.1 0 60) + (1 : Int32))) 0 29 (1 : Int32)))
     else mj_g a1 4000 (mj_g a1 4000 (mj_g a1 4000 (rX0_act d (499, [some (.ref 0), some (.int a1), some (.int (x.1 2 a1.toNatClampNeg)), some (.int (x.1 3 a1.toNatClampNeg)), none, none, none], [], (mj_wI (mj_wI x 0 60 ((x.1 0 60) + (1 : Int32))) 0 61 ((x.1 0 61) + (1 : Int32)))))))
   else some (none, x) := by rw [eX0_act, h]; rfl
theorem wX0_act_0_71 (d : Nat) (a1 : Int32) (x : mj_X) (h : (x.1 1 a1.toNatClampNeg) = (71 : Int32)) : kX0 (d + 1) 34 [.ref 0, .int a1] x = 
  if (x.1 0 30) = 0 then some (none, x)
  else 
   if (x.1 0 29) = 0 then 
    if (60000 : Int32) < ((x.1 0 60) + (1 : Int32)) then some (none, (mj_wI (mj_wI x 0 60 ((x.1 0 60) + (1 : Int32))) 0 29 (1 : Int32)))
    else 
     if (x.1 0 61) = (200 : Int32) then some (none, (mj_wI (mj_wI x 0 60 ((x.1 0 60) + (1 : Int32))) 0 29 (1 : Int32)))
     else mj_g a1 4000 (mj_g a1 4000 (mj_g a1 4000 (rX0_act d (373, [some (.ref 0), some (.int a1), some (.int (x.1 2 a1.toNatClampNeg)), some (.int (x.1 3 a1.toNatClampNeg)), none, none, none], [], (mj_wI (mj_wI x 0 60 ((x.1 0 60) + (1 : Int32))) 0 61 ((x.1 0 61) + (1 : Int32)))))))
   else some (none, x) := by rw [eX0_act, h]; rfl
theorem wX0_act_0_72 (d : Nat) (a1 : Int32) (x : mj_X) (h : (x.1 1 a1.toNatClampNeg) = (72 : Int32)) : kX0 (d + 1) 34 [.ref 0, .int a1] x = 
  if (x.1 0 30) = 0 then some (none, x)
  else 
   if (x.1 0 29) = 0 then 
    if (60000 : Int32) < ((x.1 0 60) + (1 : Int32)) then some (none, (mj_wI (mj_wI x 0 60 ((x.1 0 60) + (1 : Int32))) 0 29 (1 : Int32)))
    else 
     if (x.1 0 61) = (200 : Int32) then some (none, (mj_wI (mj_wI x 0 60 ((x.1 0 60) + (1 : Int32))) 0 29 (1 : Int32)))
     else mj_g a1 4000 (mj_g a1 4000 (mj_g a1 4000 (rX0_act d (373, [some (.ref 0), some (.int a1), some (.int (x.1 2 a1.toNatClampNeg)), some (.int (x.1 3 a1.toNatClampNeg)), none, none, none], [], (mj_wI (mj_wI x 0 60 ((x.1 0 60) + (1 : Int32))) 0 61 ((x.1 0 61) + (1 : Int32)))))))
   else some (none, x) := by rw [eX0_act, h]; rfl
theorem wX0_act_0_73 (d : Nat) (a1 : Int32) (x : mj_X) (h : (x.1 1 a1.toNatClampNeg) = (73 : Int32)) : kX0 (d + 1) 34 [.ref 0, .int a1] x = 
  if (x.1 0 30) = 0 then some (none, x)
  else 
   if (x.1 0 29) = 0 then 
    if (60000 : Int32) < ((x.1 0 60) + (1 : Int32)) then some (none, (mj_wI (mj_wI x 0 60 ((x.1 0 60) + (1 : Int32))) 0 29 (1 : Int32)))
    else 
     if (x.1 0 61) = (200 : Int32) then some (none, (mj_wI (mj_wI x 0 60 ((x.1 0 60) + (1 : Int32))) 0 29 (1 : Int32)))
     else mj_g a1 4000 (mj_g a1 4000 (mj_g a1 4000 (rX0_act d (418, [some (.ref 0), some (.int a1), some (.int (x.1 2 a1.toNatClampNeg)), some (.int (x.1 3 a1.toNatClampNeg)), none, none, none], [], (mj_wI (mj_wI x 0 60 ((x.1 0 60) + (1 : Int32))) 0 61 ((x.1 0 61) + (1 : Int32)))))))
   else some (none, x) := by rw [eX0_act, h]; rfl
theorem wX0_act_0_74 (d : Nat) (a1 : Int32) (x : mj_X) (h : (x.1 1 a1.toNatClampNeg) = (74 : Int32)) : kX0 (d + 1) 34 [.ref 0, .int a1] x = 
  if (x.1 0 30) = 0 then some (none, x)
  else 
   if (x.1 0 29) = 0 then 
    if (60000 : Int32) < ((x.1 0 60) + (1 : Int32)) then some (none, (mj_wI (mj_wI x 0 60 ((x.1 0 60) + (1 : Int32))) 0 29 (1 : Int32)))
    else 
     if (x.1 0 61) = (200 : Int32) then some (none, (mj_wI (mj_wI x 0 60 ((x.1 0 60) + (1 : Int32))) 0 29 (1 : Int32)))
     else mj_g a1 4000 (mj_g a1 4000 (mj_g a1 4000 (rX0_act d (453, [some (.ref 0), some (.int a1), some (.int (x.1 2 a1.toNatClampNeg)), some (.int (x.1 3 a1.toNatClampNeg)), none, none, none], [], (mj_wI (mj_wI x 0 60 ((x.1 0 60) + (1 : Int32))) 0 61 ((x.1 0 61) + (1 : Int32)))))))
   else some (none, x) := by rw [eX0_act, h]; rfl
theorem wX0_act_0_75 (d : Nat) (a1 : Int32) (x : mj_X) (h : (x.1 1 a1.toNatClampNeg) = (75 : Int32)) : kX0 (d + 1) 34 [.ref 0, .int a1] x = 
  if (x.1 0 30) = 0 then some (none, x)
  else 
   if (x.1 0 29) = 0 then 
    if (60000 : Int32) < ((x.1 0 60) + (1 : Int32)) then some (none, (mj_wI (mj_wI x 0 60 ((x.1 0 60) + (1 : Int32))) 0 29 (1 : Int32)))
    else 
     if (x.1 0 61) = (200 : Int32) then some (none, (mj_wI (mj_wI x 0 60 ((x.1 0 60) + (1 : Int32))) 0 29 (1 : Int32)))
     else mj_g a1 4000 (mj_g a1 4000 (mj_g a1 4000 (rX0_act d (490, [some (.ref 0), some (.int a1), some (.int (x.1 2 a1.toNatClampNeg)), some (.int (x.1 3 a1.toNatClampNeg)), none, none, none], [], (mj_wI (mj_wI x 0 60 ((x.1 0 60) + (1 : Int32))) 0 61 ((x.1 0 61) + (1 : Int32)))))))
   else some (none, x) := by rw [eX0_act, h]; rfl
theorem wX0_act_0_76 (d : Nat) (a1 : Int32) (x : mj_X) (h : (x.1 1 a1.toNatClampNeg) = (76 : Int32)) : kX0 (d + 1) 34 [.ref 0, .int a1] x = 
  if (x.1 0 30) = 0 then some (none, x)
  else 
   if (x.1 0 29) = 0 then 
    if (60000 : Int32) < ((x.1 0 60) + (1 : Int32)) then some (none, (mj_wI (mj_wI x 0 60 ((x.1 0 60) + (1 : Int32))) 0 29 (1 : Int32)))
    else 
     if (x.1 0 61) = (200 : Int32) then some (none, (mj_wI (mj_wI x 0 60 ((x.1 0 60) + (1 : Int32))) 0 29 (1 : Int32)))
     else mj_g a1 4000 (mj_g a1 4000 (mj_g a1 4000 (rX0_act d (499, [some (.ref 0), some (.int a1), some (.int (x.1 2 a1.toNatClampNeg)), some (.int (x.1 3 a1.toNatClampNeg)), none, none, none], [], (mj_wI (mj_wI x 0 60 ((x.1 0 60) + (1 : Int32))) 0 61 ((x.1 0 61) + (1 : Int32)))))))
   else some (none, x) := by rw [eX0_act, h]; rfl
theorem wX0_act_0_77 (d : Nat) (a1 : Int32) (x : mj_X) (h : (x.1 1 a1.toNatClampNeg) = (77 : Int32)) : kX0 (d + 1) 34 [.ref 0, .int a1] x = 
  if (x.1 0 30) = 0 then some (none, x)
  else 
   if (x.1 0 29) = 0 then 
    if (60000 : Int32) < ((x.1 0 60) + (1 : Int32)) then some (none, (mj_wI (mj_wI x 0 60 ((x.1 0 60) + (1 : Int32))) 0 29 (1 : Int32)))
    else 
     if (x.1 0 61) = (200 : Int32) then some (none, (mj_wI (mj_wI x 0 60 ((x.1 0 60) + (1 : Int32))) 0 29 (1 : Int32)))
     else mj_g a1 4000 (mj_g a1 4000 (mj_g a1 4000 (rX0_act d (499, [some (.ref 0), some (.int a1), some (.int (x.1 2 a1.toNatClampNeg)), some (.int (x.1 3 a1.toNatClampNeg)), none, none, none], [], (mj_wI (mj_wI x 0 60 ((x.1 0 60) + (1 : Int32))) 0 61 ((x.1 0 61) + (1 : Int32)))))))
   else some (none, x) := by rw [eX0_act, h]; rfl
theorem wX0_act_0_78 (d : Nat) (a1 : Int32) (x : mj_X) (h : (x.1 1 a1.toNatClampNeg) = (78 : Int32)) : kX0 (d + 1) 34 [.ref 0, .int a1] x = 
  if (x.1 0 30) = 0 then some (none, x)
  else 
   if (x.1 0 29) = 0 then 
    if (60000 : Int32) < ((x.1 0 60) + (1 : Int32)) then some (none, (mj_wI (mj_wI x 0 60 ((x.1 0 60) + (1 : Int32))) 0 29 (1 : Int32)))
    else 
     if (x.1 0 61) = (200 : Int32) then some (none, (mj_wI (mj_wI x 0 60 ((x.1 0 60) + (1 : Int32))) 0 29 (1 : Int32)))
     else mj_g a1 4000 (mj_g a1 4000 (mj_g a1 4000 (rX0_act d (499, [some (.ref 0), some (.int a1), some (.int (x.1 2 a1.toNatClampNeg)), some (.int (x.1 3 a1.toNatClampNeg)), none, none, none], [], (mj_wI (mj_wI x 0 60 ((x.1 0 60) + (1 : Int32))) 0 61 ((x.1 0 61) + (1 : Int32)))))))
   else some (none, x) := by rw [eX0_act, h]; rfl
theorem wX0_act_0_79 (d : Nat) (a1 : Int32) (x : mj_X) (h : (x.1 1 a1.toNatClampNeg) = (79 : Int32)) : kX0 (d + 1) 34 [.ref 0, .int a1] x = 
  if (x.1 0 30) = 0 then some (none, x)
  else 
   if (x.1 0 29) = 0 then 
    if (60000 : Int32) < ((x.1 0 60) + (1 : Int32)) then some (none, (mj_wI (mj_wI x 0 60 ((x.1 0 60) + (1 : Int32))) 0 29 (1 : Int32)))
    else 
     if (x.1 0 61) = (200 : Int32) then some (none, (mj_wI (mj_wI x 0 60 ((x.1 0 60) + (1 : Int32))) 0 29 (1 : Int32)))
     else mj_g a1 4000 (mj_g a1 4000 (mj_g a1 4000 (rX0_act d (499, [some (.ref 0), some (.int a1), some (.int (x.1 2 a1.toNatClampNeg)), some (.int (x.1 3 a1.toNatClampNeg)), none, none, none], [], (mj_wI (mj_wI x 0 60 ((x.1 0 60) + (1 : Int32))) 0 61 ((x.1 0 61) + (1 : Int32)))))))
   else some (none, x) := by rw [eX0_act, h]; rfl
theorem wX0_act_0_80 (d : Nat) (a1 : Int32) (x : mj_X) (h : (x.1 1 a1.toNatClampNeg) = (80 : Int32)) : kX0 (d + 1) 34 [.ref 0, .int a1] x = 
  if (x.1 0 30) = 0 then some (none, x)
  else 
   if (x.1 0 29) = 0 then 
    if (60000 : Int32) < ((x.1 0 60) + (1 : Int32)) then some (none, (mj_wI (mj_wI x 0 60 ((x.1 0 60) + (1 : Int32))) 0 29 (1 : Int32)))
    else 
     if (x.1 0 61) = (200 : Int32) then some (none, (mj_wI (mj_wI x 0 60 ((x.1 0 60) + (1 : Int32))) 0 29 (1 : Int32)))
     else mj_g a1 4000 (mj_g a1 4000 (mj_g a1 4000 (rX0_act d (499, [some (.ref 0), some (.int a1), some (.int (x.1 2 a1.toNatClampNeg)), some (.int (x.1 3 a1.toNatClampNeg)), none, none, none], [], (mj_wI (mj_wI x 0 60 ((x.1 0 60) + (1 : Int32))) 0 61 ((x.1 0 61) + (1 : Int32)))))))
   else some (none, x) := by rw [eX0_act, h]; rfl
theorem wX0_act_0_81 (d : Nat) (a1 : Int32) (x : mj_X) (h : (x.1 1 a1.toNatClampNeg) = (81 : Int32)) : kX0 (d + 1) 34 [.ref 0, .int a1] x = 
  if (x.1 0 30) = 0 then some (none, x)
  else 
   if (x.1 0 29) = 0 then 
    if (60000 : Int32) < ((x.1 0 60) + (1 : Int32)) then some (none, (mj_wI (mj_wI x 0 60 ((x.1 0 60) + (1 : Int32))) 0 29 (1 : Int32)))
    else 
     if (x.1 0 61) = (200 : Int32) then some (none, (mj_wI (mj_wI x 0 60 ((x.1 0 60) + (1 : Int32))) 0 29 (1 : Int32)))
     else mj_g a1 4000 (mj_g a1 4000 (mj_g a1 4000 (rX0_act d (481, [some (.ref 0), some (.int a1), some (.int (x.1 2 a1.toNatClampNeg)), some (.int (x.1 3 a1.toNatClampNeg)), none, none, none], [], (mj_wI (mj_wI x 0 60 ((x.1 0 60) + (1 : Int32))) 0 61 ((x.1 0 61) + (1 : Int32)))))))
   else some (none, x) := by rw [eX0_act, h]; rfl
theorem wX0_act_0_82 (d : Nat) (a1 : Int32) (x : mj_X) (h : (x.1 1 a1.toNatClampNeg) = (82 : Int32)) : kX0 (d + 1) 34 [.ref 0, .int a1] x = 
  if (x.1 0 30) = 0 then some (none, x)
  else 
   if (x.1 0 29) = 0 then 
    if (60000 : Int32) < ((x.1 0 60) + (1 : Int32)) then some (none, (mj_wI (mj_wI x 0 60 ((x.1 0 60) + (1 : Int32))) 0 29 (1 : Int32)))
    else 
     if (x.1 0 61) = (200 : Int32) then some (none, (mj_wI (mj_wI x 0 60 ((x.1 0 60) + (1 : Int32))) 0 29 (1 : Int32)))
     else mj_g a1 4000 (mj_g a1 4000 (mj_g a1 4000 (rX0_act d (499, [some (.ref 0), some (.int a1), some (.int (x.1 2 a1.toNatClampNeg)), some (.int (x.1 3 a1.toNatClampNeg)), none, none, none], [], (mj_wI (mj_wI x 0 60 ((x.1 0 60) + (1 : Int32))) 0 61 ((x.1 0 61) + (1 : Int32)))))))
   else some (none, x) := by rw [eX0_act, h]; rfl
theorem wX0_act_0_83 (d : Nat) (a1 : Int32) (x : mj_X) (h : (x.1 1 a1.toNatClampNeg) = (83 : Int32)) : kX0 (d + 1) 34 [.ref 0, .int a1] x = 
  if (x.1 0 30) = 0 then some (none, x)
  else 
   if (x.1 0 29) = 0 then 
    if (60000 : Int32) < ((x.1 0 60) + (1 : Int32)) then some (none, (mj_wI (mj_wI x 0 60 ((x.1 0 60) + (1 : Int32))) 0 29 (1 : Int32)))
    else 
     if (x.1 0 61) = (200 : Int32) then some (none, (mj_wI (mj_wI x 0 60 ((x.1 0 60) + (1 : Int32))) 0 29 (1 : Int32)))
     else mj_g a1 4000 (mj_g a1 4000 (mj_g a1 4000 (rX0_act d (499, [some (.ref 0), some (.int a1), some (.int (x.1 2 a1.toNatClampNeg)), some (.int (x.1 3 a1.toNatClampNeg)), none, none, none], [], (mj_wI (mj_wI x 0 60 ((x.1 0 60) + (1 : Int32))) 0 61 ((x.1 0 61) + (1 : Int32)))))))
   else some (none, x) := by rw [eX0_act, h]; rfl
theorem wX0_act_0_84 (d : Nat) (a1 : Int32) (x : mj_X) (h : (x.1 1 a1.toNatClampNeg) = (84 : Int32)) : kX0 (d + 1) 34 [.ref 0, .int a1] x = 
  if (x.1 0 30) = 0 then some (none, x)
  else 
   if (x.1 0 29) = 0 then 
    if (60000 : Int32) < ((x.1 0 60) + (1 : Int32)) then some (none, (mj_wI (mj_wI x 0 60 ((x.1 0 60) + (1 : Int32))) 0 29 (1 : Int32)))
    else 
     if (x.1 0 61) = (200 : Int32) then some (none, (mj_wI (mj_wI x 0 60 ((x.1 0 60) + (1 : Int32))) 0 29 (1 : Int32)))
     else mj_g a1 4000 (mj_g a1 4000 (mj_g a1 4000 (rX0_act d (499, [some (.ref 0), some (.int a1), some (.int (x.1 2 a1.toNatClampNeg)), some (.int (x.1 3 a1.toNatClampNeg)), none, none, none], [], (mj_wI (mj_wI x 0 60 ((x.1 0 60) + (1 : Int32))) 0 61 ((x.1 0 61) + (1 : Int32)))))))
   else some (none, x) := by rw [eX0_act, h]; rfl
theorem wX0_act_0_85 (d : Nat) (a1 : Int32) (x : mj_X) (h : (x.1 1 a1.toNatClampNeg) = (85 : Int32)) : kX0 (d + 1) 34 [.ref 0, .int a1] x = 
  if (x.1 0 30) = 0 then some (none, x)
  else 
   if (x.1 0 29) = 0 then 
    if (60000 : Int32) < ((x.1 0 60) + (1 : Int32)) then some (none, (mj_wI (mj_wI x 0 60 ((x.1 0 60) + (1 : Int32))) 0 29 (1 : Int32)))
    else 
     if (x.1 0 61) = (200 : Int32) then some (none, (mj_wI (mj_wI x 0 60 ((x.1 0 60) + (1 : Int32))) 0 29 (1 : Int32)))
     else mj_g a1 4000 (mj_g a1 4000 (mj_g a1 4000 (rX0_act d (271, [some (.ref 0), some (.int a1), some (.int (x.1 2 a1.toNatClampNeg)), some (.int (x.1 3 a1.toNatClampNeg)), none, none, none], [], (mj_wI (mj_wI x 0 60 ((x.1 0 60) + (1 : Int32))) 0 61 ((x.1 0 61) + (1 : Int32)))))))
   else some (none, x) := by rw [eX0_act, h]; rfl
theorem wX0_act_0_out (d : Nat) (a1 : Int32) (x : mj_X) (h : ((x.1 1 a1.toNatClampNeg)).toInt < 60 ∨ 85 < ((x.1 1 a1.toNatClampNeg)).toInt) : kX0 (d + 1) 34 [.ref 0, .int a1] x = 
  if (x.1 0 30) = 0 then some (none, x)
  else 
   if (x.1 0 29) = 0 then 
    if (60000 : Int32) < ((x.1 0 60) + (1 : Int32)) then some (none, (mj_wI (mj_wI x 0 60 ((x.1 0 60) + (1 : Int32))) 0 29 (1 : Int32)))
    else 
     if (x.1 0 61) = (200 : Int32) then some (none, (mj_wI (mj_wI x 0 60 ((x.1 0 60) + (1 : Int32))) 0 29 (1 : Int32)))
     else mj_g a1 4000 (mj_g a1 4000 (mj_g a1 4000 (rX0_act d (499, [some (.ref 0), some (.int a1), some (.int (x.1 2 a1.toNatClampNeg)), some (.int (x.1 3 a1.toNatClampNeg)), none, none, none], [], (mj_wI (mj_wI x 0 60 ((x.1 0 60) + (1 : Int32))) 0 61 ((x.1 0 61) + (1 : Int32)))))))
   else some (none, x) := by rw [eX0_act]; simp only [mj_sw_out (x.1 1 a1.toNatClampNeg) 60 (418) [119, 128, 169, 182, 234, 262, 418, 282, 282, 282, 418, 292, 292, 337, 372, 409, 418, 418, 418, 418, 418, 400, 418, 418, 418, 190] _ h (by decide) (by decide)]; try rfl
