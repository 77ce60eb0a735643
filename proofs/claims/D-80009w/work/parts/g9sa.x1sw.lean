theorem wX1_value_168_1 (d : Nat) (a1 : Int32) (a2 : Int32) (a3 : Int32) (a4 : Int32) (x : mj_X) (h : a4 = (1 : Int32)) : rX1_value d (168, [some (.ref 0), some (.int a1), some (.int a2), some (.int a3), some (.int a4), none, none], [], x) = rX1_value d (388, [some (.ref 0), some (.int a1), some (.int a2), some (.int a3), some (.int a4), none, none], [], x) := by rw [bX1_value_168, h]; rfl
theorem wX1_value_168_2 (d : Nat) (a1 : Int32) (a2 : Int32) (a3 : Int32) (a4 : Int32) (x : mj_X) (h : a4 = (2 : Int32)) : rX1_value d (168, [some (.ref 0), some (.int a1), some (.int a2), some (.int a3), some (.int a4), none, none], [], x) = rX1_value d (396, [some (.ref 0), some (.int a1), some (.int a2), some (.int a3), some (.int a4), none, none], [], x) := by rw [bX1_value_168, h]; rfl
theorem wX1_value_168_3 (d : Nat) (a1 : Int32) (a2 : Int32) (a3 : Int32) (a4 : Int32) (x : mj_X) (h : a4 = (3 : Int32)) : rX1_value d (168, [some (.ref 0), some (.int a1), some (.int a2), some (.int a3), some (.int a4), none, none], [], x) = rX1_value d (405, [some (.ref 0), some (.int a1), some (.int a2), some (.int a3), some (.int a4), none, none], [], x) := by rw [bX1_value_168, h]; rfl
theorem wX1_value_168_4 (d : Nat) (a1 : Int32) (a2 : Int32) (a3 : Int32) (a4 : Int32) (x : mj_X) (h : a4 = (4 : Int32)) : rX1_value d (168, [some (.ref 0), some (.int a1), some (.int a2), some (.int a3), some (.int a4), none, none], [], x) = rX1_value d (413, [some (.ref 0), some (.int a1), some (.int a2), some (.int a3), some (.int a4), none, none], [], x) := by rw [bX1_value_168, h]; rfl
theorem wX1_value_168_5 (d : Nat) (a1 : Int32) (a2 : Int32) (a3 : Int32) (a4 : Int32) (x : mj_X) (h : a4 = (5 : Int32)) : rX1_value d (168, [some (.ref 0), some (.int a1), some (.int a2), some (.int a3), some (.int a4), none, none], [], x) = rX1_value d (671, [some (.ref 0), some (.int a1), some (.int a2), some (.int a3), some (.int a4), none, none], [], x) := by rw [bX1_value_168, h]; rfl
theorem wX1_value_168_6 (d : Nat) (a1 : Int32) (a2 : Int32) (a3 : Int32) (a4 : Int32) (x : mj_X) (h : a4 = (6 : Int32)) : rX1_value d (168, [some (.ref 0), some (.int a1), some (.int a2), some (.int a3), some (.int a4), none, none], [], x) = rX1_value d (432, [some (.ref 0), some (.int a1), some (.int a2), some (.int a3), some (.int a4), none, none], [], x) := by rw [bX1_value_168, h]; rfl
theorem wX1_value_168_7 (d : Nat) (a1 : Int32) (a2 : Int32) (a3 : Int32) (a4 : Int32) (x : mj_X) (h : a4 = (7 : Int32)) : rX1_value d (168, [some (.ref 0), some (.int a1), some (.int a2), some (.int a3), some (.int a4), none, none], [], x) = rX1_value d (451, [some (.ref 0), some (.int a1), some (.int a2), some (.int a3), some (.int a4), none, none], [], x) := by rw [bX1_value_168, h]; rfl
theorem wX1_value_168_8 (d : Nat) (a1 : Int32) (a2 : Int32) (a3 : Int32) (a4 : Int32) (x : mj_X) (h : a4 = (8 : Int32)) : rX1_value d (168, [some (.ref 0), some (.int a1), some (.int a2), some (.int a3), some (.int a4), none, none], [], x) = rX1_value d (485, [some (.ref 0), some (.int a1), some (.int a2), some (.int a3), some (.int a4), none, none], [], x) := by rw [bX1_value_168, h]; rfl
theorem wX1_value_168_9 (d : Nat) (a1 : Int32) (a2 : Int32) (a3 : Int32) (a4 : Int32) (x : mj_X) (h : a4 = (9 : Int32)) : rX1_value d (168, [some (.ref 0), some (.int a1), some (.int a2), some (.int a3), some (.int a4), none, none], [], x) = rX1_value d (509, [some (.ref 0), some (.int a1), some (.int a2), some (.int a3), some (.int a4), none, none], [], x) := by rw [bX1_value_168, h]; rfl
theorem wX1_value_168_10 (d : Nat) (a1 : Int32) (a2 : Int32) (a3 : Int32) (a4 : Int32) (x : mj_X) (h : a4 = (10 : Int32)) : rX1_value d (168, [some (.ref 0), some (.int a1), some (.int a2), some (.int a3), some (.int a4), none, none], [], x) = rX1_value d (671, [some (.ref 0), some (.int a1), some (.int a2), some (.int a3), some (.int a4), none, none], [], x) := by rw [bX1_value_168, h]; rfl
theorem wX1_value_168_11 (d : Nat) (a1 : Int32) (a2 : Int32) (a3 : Int32) (a4 : Int32) (x : mj_X) (h : a4 = (11 : Int32)) : rX1_value d (168, [some (.ref 0), some (.int a1), some (.int a2), some (.int a3), some (.int a4), none, none], [], x) = rX1_value d (671, [some (.ref 0), some (.int a1), some (.int a2), some (.int a3), some (.int a4), none, none], [], x) := by rw [bX1_value_168, h]; rfl
theorem wX1_value_168_12 (d : Nat) (a1 : Int32) (a2 : Int32) (a3 : Int32) (a4 : Int32) (x : mj_X) (h : a4 = (12 : Int32)) : rX1_value d (168, [some (.ref 0), some (.int a1), some (.int a2), some (.int a3), some (.int a4), none, none], [], x) = rX1_value d (671, [some (.ref 0), some (.int a1), some (.int a2), some (.int a3), some (.int a4), none, none], [], x) := by rw [bX1_value_168, h]; rfl
theorem wX1_value_168_13 (d : Nat) (a1 : Int32) (a2 : Int32) (a3 : Int32) (a4 : Int32) (x : mj_X) (h : a4 = (13 : Int32)) : rX1_value d (168, [some (.ref 0), some (.int a1), some (.int a2), some (.int a3), some (.int a4), none, none], [], x) = rX1_value d (671, [some (.ref 0), some (.int a1), some (.int a2), some (.int a3), some (.int a4), none, none], [], x) := by rw [bX1_value_168, h]; rfl
theorem wX1_value_168_14 (d : Nat) (a1 : Int32) (a2 : Int32) (a3 : Int32) (a4 : Int32) (x : mj_X) (h : a4 = (14 : Int32)) : rX1_value d (168, [some (.ref 0), some (.int a1), some (.int a2), some (.int a3), some (.int a4), none, none], [], x) = rX1_value d (671, [some (.ref 0), some (.int a1), some (.int a2), some (.int a3), some (.int a4), none, none], [], x) := by rw [bX1_value_168, h]; rfl
theorem wX1_value_168_15 (d : Nat) (a1 : Int32) (a2 : Int32) (a3 : Int32) (a4 : Int32) (x : mj_X) (h : a4 = (15 : Int32)) : rX1_value d (168, [some (.ref 0), some (.int a1), some (.int a2), some (.int a3), some (.int a4), none, none], [], x) = rX1_value d (671, [some (.ref 0), some (.int a1), some (.int a2), some (.int a3), some (.int a4), none, none], [], x) := by rw [bX1_value_168, h]; rfl
theorem wX1_value_168_16 (d : Nat) (a1 : Int32) (a2 : Int32) (a3 : Int32) (a4 : Int32) (x : mj_X) (h : a4 = (16 : Int32)) : rX1_value d (168, [some (.ref 0), some (.int a1), some (.int a2), some (.int a3), some (.int a4), none, none], [], x) = rX1_value d (671, [some (.ref 0), some (.int a1), some (.int a2), some (.int a3), some (.int a4), none, none], [], x) := by rw [bX1_value_168, h]; rfl
theorem wX1_value_168_17 (d : Nat) (a1 : Int32) (a2 : Int32) (a3 : Int32) (a4 : Int32) (x : mj_X) (h : a4 = (17 : Int32)) : rX1_value d (168, [some (.ref 0), some (.int a1), some (.int a2), some (.int a3), some (.int a4), none, none], [], x) = rX1_value d (671, [some (.ref 0), some (.int a1), some (.int a2), some (.int a3), some (.int a4), none, none], [], x) := by rw [bX1_value_168, h]; rfl
theorem wX1_value_168_18 (d : Nat) (a1 : Int32) (a2 : Int32) (a3 : Int32) (a4 : Int32) (x : mj_X) (h : a4 = (18 : Int32)) : rX1_value d (168, [some (.ref 0), some (.int a1), some (.int a2), some (.int a3), some (.int a4), none, none], [], x) = rX1_value d (671, [some (.ref 0), some (.int a1), some (.int a2), some (.int a3), some (.int a4), none, none], [], x) := by rw [bX1_value_168, h]; rfl
theorem wX1_value_168_19 (d : Nat) (a1 : Int32) (a2 : Int32) (a3 : Int32) (a4 : Int32) (x : mj_X) (h : a4 = (19 : Int32)) : rX1_value d (168, [some (.ref 0), some (.int a1), some (.int a2), some (.int a3), some (.int a4), none, none], [], x) = rX1_value d (671, [some (.ref 0), some (.int a1), some (.int a2), some (.int a3), some (.int a4), none, none], [], x) := by rw [bX1_value_168, h]; rfl
theorem wX1_value_168_20 (d : Nat) (a1 : Int32) (a2 : Int32) (a3 : Int32) (a4 : Int32) (x : mj_X) (h : a4 = (20 : Int32)) : rX1_value d (168, [some (.ref 0), some (.int a1), some (.int a2), some (.int a3), some (.int a4), none, none], [], x) = rX1_value d (671, [some (.ref 0), some (.int a1), some (.int a2), some (.int a3), some (.int a4), none, none], [], x) := by rw [bX1_value_168, h]; rfl
theorem wX1_value_168_21 (d : Nat) (a1 : Int32) (a2 : Int32) (a3 : Int32) (a4 : Int32) (x : mj_X) (h : a4 = (21 : Int32)) : rX1_value d (168, [some (.ref 0), some (.int a1), some (.int a2), some (.int a3), some (.int a4), none, none], [], x) = rX1_value d (519, [some (.ref 0), some (.int a1), some (.int a2), some (.int a3), some (.int a4), none, none], [], x) := by rw [bX1_value_168, h]; rfl
theorem wX1_value_168_22 (d : Nat) (a1 : Int32) (a2 : Int32) (a3 : Int32) (a4 : Int32) (x : mj_X) (h : a4 = (22 : Int32)) : rX1_value d (168, [some (.ref 0), some (.int a1), some (.int a2), some (.int a3), some (.int a4), none, none], [], x) = rX1_value d (560, [some (.ref 0), some (.int a1), some (.int a2), some (.int a3), some (.int a4), none, none], [], x) := by rw [bX1_value_168, h]; rfl
theorem wX1_value_168_23 (d : Nat) (a1 : Int32) (a2 : Int32) (a3 : Int32) (a4 : Int32) (x : mj_X) (h : a4 = (23 : Int32)) : rX1_value d (168, [some (.ref 0), some (.int a1), some (.int a2), some (.int a3), some (.int a4), none, none], [], x) = rX1_value d (671, [some (.ref 0), some (.int a1), some (.int a2), some (.int a3), some (.int a4), none, none], [], x) := by rw [bX1_value_168, h]; rfl
theorem wX1_value_168_24 (d : Nat) (a1 : Int32) (a2 : Int32) (a3 : Int32) (a4 : Int32) (x : mj_X) (h : a4 = (24 : Int32)) : rX1_value d (168, [some (.ref 0), some (.int a1), some (.int a2), some (.int a3), some (.int a4), none, none], [], x) = rX1_value d (671, [some (.ref 0), some (.int a1), some (.int a2), some (.int a3), some (.int a4), none, none], [], x) := by rw [bX1_value_168, h]; rfl
theorem wX1_value_168_25 (d : Nat) (a1 : Int32) (a2 : Int32) (a3 : Int32) (a4 : Int32) (x : mj_X) (h : a4 = (25 : Int32)) : rX1_value d (168, [some (.ref 0), some (.int a1), some (.int a2), some (.int a3), some (.int a4), none, none], [], x) = rX1_value d (671, [some (.ref 0), some (.int a1), some (.int a2), some (.int a3), some (.int a4), none, none], [], x) := by rw [bX1_value_168, h]; rfl
theorem wX1_value_168_26 (d : Nat) (a1 : Int32) (a2 : Int32) (a3 : Int32) (a4 : Int32) (x : mj_X) (h : a4 = (26 : Int32)) : rX1_value d (168, [some (.ref 0), some (.int a1), some (.int a2), some (.int a3), some (.int a4), none, none], [], x) = rX1_value d (671, [some (.ref 0), some (.int a1), some (.int a2), some (.int a3), some (.int a4), none, none], [], x) := by rw [bX1_value_168, h]; rfl
theorem wX1_value_168_27 (d : Nat) (a1 : Int32) (a2 : Int32) (a3 : Int32) (a4 : Int32) (x : mj_X) (h : a4 = (27 : Int32)) : rX1_value d (168, [some (.ref 0), some (.int a1), some (.int a2), some (.int a3), some (.int a4), none, none], [], x) = rX1_value d (671, [some (.ref 0), some (.int a1), some (.int a2), some (.int a3), some (.int a4), none, none], [], x) := by rw [bX1_value_168, h]; rfl
theorem wX1_value_168_28 (d : Nat) (a1 : Int32) (a2 : Int32) (a3 : Int32) (a4 : Int32) (x : mj_X) (h : a4 = (28 : Int32)) : rX1_value d (168, [some (.ref 0), some (.int a1), some (.int a2), some (.int a3), some (.int a4), none, none], [], x) = rX1_value d (671, [some (.ref 0), some (.int a1), some (.int a2), some (.int a3), some (.int a4), none, none], [], x) := by rw [bX1_value_168, h]; rfl
theorem wX1_value_168_29 (d : Nat) (a1 : Int32) (a2 : Int32) (a3 : Int32) (a4 : Int32) (x : mj_X) (h : a4 = (29 : Int32)) : rX1_value d (168, [some (.ref 0), some (.int a1), some (.int a2), some (.int a3), some (.int a4), none, none], [], x) = rX1_value d (671, [some (.ref 0), some (.int a1), some (.int a2), some (.int a3), some (.int a4), none, none], [], x) := by rw [bX1_value_168, h]; rfl
theorem wX1_value_168_30 (d : Nat) (a1 : Int32) (a2 : Int32) (a3 : Int32) (a4 : Int32) (x : mj_X) (h : a4 = (30 : Int32)) : rX1_value d (168, [some (.ref 0), some (.int a1), some (.int a2), some (.int a3), some (.int a4), none, none], [], x) = rX1_value d (671, [some (.ref 0), some (.int a1), some (.int a2), some (.int a3), some (.int a4), none, none], [], x) := by rw [bX1_value_168, h]; rfl
theorem wX1_value_168_31 (d : Nat) (a1 : Int32) (a2 : Int32) (a3 : Int32) (a4 : Int32) (x : mj_X) (h : a4 = (31 : Int32)) : rX1_value d (168, [some (.ref 0), some (.int a1), some (.int a2), some (.int a3), some (.int a4), none, none], [], x) = rX1_value d (671, [some (.ref 0), some (.int a1), some (.int a2), some (.int a3), some (.int a4), none, none], [], x) := by rw [bX1_value_168, h]; rfl
theorem wX1_value_168_32 (d : Nat) (a1 : Int32) (a2 : Int32) (a3 : Int32) (a4 : Int32) (x : mj_X) (h : a4 = (32 : Int32)) : rX1_value d (168, [some (.ref 0), some (.int a1), some (.int a2), some (.int a3), some (.int a4), none, none], [], x) = rX1_value d (579, [some (.ref 0), some (.int a1), some (.int a2), some (.int a3), some (.int a4), none, none], [], x) := by rw [bX1_value_168, h]; rfl
theorem wX1_value_168_33 (d : Nat) (a1 : Int32) (a2 : Int32) (a3 : Int32) (a4 : Int32) (x : mj_X) (h : a4 = (33 : Int32)) : rX1_value d (168, [some (.ref 0), some (.int a1), some (.int a2), some (.int a3), some (.int a4), none, none], [], x) = rX1_value d (671, [some (.ref 0), some (.int a1), some (.int a2), some (.int a3), some (.int a4), none, none], [], x) := by rw [bX1_value_168, h]; rfl
theorem wX1_value_168_34 (d : Nat) (a1 : Int32) (a2 : Int32) (a3 : Int32) (a4 : Int32) (x : mj_X) (h : a4 = (34 : Int32)) : rX1_value d (168, [some (.ref 0), some (.int a1), some (.int a2), some (.int a3), some (.int a4), none, none], [], x) = rX1_value d (588, [some (.ref 0), some (.int a1), some (.int a2), some (.int a3), some (.int a4), none, none], [], x) := by rw [bX1_value_168, h]; rfl
theorem wX1_value_168_35 (d : Nat) (a1 : Int32) (a2 : Int32) (a3 : Int32) (a4 : Int32) (x : mj_X) (h : a4 = (35 : Int32)) : rX1_value d (168, [some (.ref 0), some (.int a1), some (.int a2), some (.int a3), some (.int a4), none, none], [], x) = rX1_value d (671, [some (.ref 0), some (.int a1), some (.int a2), some (.int a3), some (.int a4), none, none], [], x) := by rw [bX1_value_168, h]; rfl
theorem wX1_value_168_36 (d : Nat) (a1 : Int32) (a2 : Int32) (a3 : Int32) (a4 : Int32) (x : mj_X) (h : a4 = (36 : Int32)) : rX1_value d (168, [some (.ref 0), some (.int a1), some (.int a2), some (.int a3), some (.int a4), none, none], [], x) = rX1_value d (671, [some (.ref 0), some (.int a1), some (.int a2), some (.int a3), some (.int a4), none, none], [], x) := by rw [bX1_value_168, h]; rfl
theorem wX1_value_168_37 (d : Nat) (a1 : Int32) (a2 : Int32) (a3 : Int32) (a4 : Int32) (x : mj_X) (h : a4 = (37 : Int32)) : rX1_value d (168, [some (.ref 0), some (.int a1), some (.int a2), some (.int a3), some (.int a4), none, none], [], x) = rX1_value d (671, [some (.ref 0), some (.int a1), some (.int a2), some (.int a3), some (.int a4), none, none], [], x) := by rw [bX1_value_168, h]; rfl
theorem wX1_value_168_38 (d : Nat) (a1 : Int32) (a2 : Int32) (a3 : Int32) (a4 : Int32) (x : mj_X) (h : a4 = (38 : Int32)) : rX1_value d (168, [some (.ref 0), some (.int a1), some (.int a2), some (.int a3), some (.int a4), none, none], [], x) = rX1_value d (671, [some (.ref 0), some (.int a1), some (.int a2), some (.int a3), some (.int a4), none, none], [], x) := by rw [bX1_value_168, h]; rfl
theorem wX1_value_168_39 (d : Nat) (a1 : Int32) (a2 : Int32) (a3 : Int32) (a4 : Int32) (x : mj_X) (h : a4 = (39 : Int32)) : rX1_value d (168, [some (.ref 0), some (.int a1), some (.int a2), some (.int a3), some (.int a4), none, none], [], x) = rX1_value d (671, [some (.ref 0), some (.int a1), some (.int a2), some (.int a3), some (.int a4), none, none], [], x) := by rw [bX1_value_168, h]; rfl
theorem wX1_value_168_40 (d : Nat) (a1 : Int32) (a2 : Int32) (a3 : Int32) (a4 : Int32) (x : mj_X) (h : a4 = (40 : Int32)) : rX1_value d (168, [some (.ref 0), some (.int a1), some (.int a2), some (.int a3), some (.int a4), none, none], [], x) = rX1_value d (671, [some (.ref 0), some (.int a1), some (.int a2), some (.int a3), some (.int a4), none, none], [], x) := by rw [bX1_value_168, h]; rfl
theorem wX1_value_168_41 (d : Nat) (a1 : Int32) (a2 : Int32) (a3 : Int32) (a4 : Int32) (x : mj_X) (h : a4 = (41 : Int32)) : rX1_value d (168, [some (.ref 0), some (.int a1), some (.int a2), some (.int a3), some (.int a4), none, none], [], x) = rX1_value d (671, [some (.ref 0), some (.int a1), some (.int a2), some (.int a3), some (.int a4), none, none], [], x) := by rw [bX1_value_168, h]; rfl
theorem wX1_value_168_42 (d : Nat) (a1 : Int32) (a2 : Int32) (a3 : Int32) (a4 : Int32) (x : mj_X) (h : a4 = (42 : Int32)) : rX1_value d (168, [some (.ref 0), some (.int a1), some (.int a2), some (.int a3), some (.int a4), none, none], [], x) = rX1_value d (671, [some (.ref 0), some (.int a1), some (.int a2), some (.int a3), some (.int a4), none, none], [], x) := by rw [bX1_value_168, h]; rfl
theorem wX1_value_168_43 (d : Nat) (a1 : Int32) (a2 : Int32) (a3 : Int32) (a4 : Int32) (x : mj_X) (h : a4 = (43 : Int32)) : rX1_value d (168, [some (.ref 0), some (.int a1), some (.int a2), some (.int a3), some (.int a4), none, none], [], x) = rX1_value d (671, [some (.ref 0), some (.int a1), some (.int a2), some (.int a3), some (.int a4), none, none], [], x) := by rw [bX1_value_168, h]; rfl
theorem wX1_value_168_44 (d : Nat) (a1 : Int32) (a2 : Int32) (a3 : Int32) (a4 : Int32) (x : mj_X) (h : a4 = (44 : Int32)) : rX1_value d (168, [some (.ref 0), some (.int a1), some (.int a2), some (.int a3), some (.int a4), none, none], [], x) = rX1_value d (671, [some (.ref 0), some (.int a1), some (.int a2), some (.int a3), some (.int a4), none, none], [], x) := by rw [bX1_value_168, h]; rfl
theorem wX1_value_168_45 (d : Nat) (a1 : Int32) (a2 : Int32) (a3 : Int32) (a4 : Int32) (x : mj_X) (h : a4 = (45 : Int32)) : rX1_value d (168, [some (.ref 0), some (.int a1), some (.int a2), some (.int a3), some (.int a4), none, none], [], x) = rX1_value d (671, [some (.ref 0), some (.int a1), some (.int a2), some (.int a3), some (.int a4), none, none], [], x) := by rw [bX1_value_168, h]; rfl
theorem wX1_value_168_46 (d : Nat) (a1 : Int32) (a2 : Int32) (a3 : Int32) (a4 : Int32) (x : mj_X) (h : a4 = (46 : Int32)) : rX1_value d (168, [some (.ref 0), some (.int a1), some (.int a2), some (.int a3), some (.int a4), none, none], [], x) = rX1_value d (598, [some (.ref 0), some (.int a1), some (.int a2), some (.int a3), some (.int a4), none, none], [], x) := by rw [bX1_value_168, h]; rfl
theorem wX1_value_168_47 (d : Nat) (a1 : Int32) (a2 : Int32) (a3 : Int32) (a4 : Int32) (x : mj_X) (h : a4 = (47 : Int32)) : rX1_value d (168, [some (.ref 0), some (.int a1), some (.int a2), some (.int a3), some (.int a4), none, none], [], x) = rX1_value d (654, [some (.ref 0), some (.int a1), some (.int a2), some (.int a3), some (.int a4), none, none], [], x) := by rw [bX1_value_168, h]; rfl
theorem wX1_value_168_48 (d : Nat) (a1 : Int32) (a2 : Int32) (a3 : Int32) (a4 : Int32) (x : mj_X) (h : a4 = (48 : Int32)) : rX1_value d (168, [some (.ref 0), some (.int a1), some (.int a2), some (.int a3), some (.int a4), none, none], [], x) = rX1_value d (671, [some (.ref 0), some (.int a1), some (.int a2), some (.int a3), some (.int a4), none, none], [], x) := by rw [bX1_value_168, h]; rfl
theorem wX1_value_168_49 (d : Nat) (a1 : Int32) (a2 : Int32) (a3 : Int32) (a4 : Int32) (x : mj_X) (h : a4 = (49 : Int32)) : rX1_value d (168, [some (.ref 0), some (.int a1), some (.int a2), some (.int a3), some (.int a4), none, none], [], x) = rX1_value d (671, [some (.ref 0), some (.int a1), some (.int a2), some (.int a3), some (.int a4), none, none], [], x) := by rw [bX1_value_168, h]; rfl
theorem wX1_value_168_50 (d : Nat) (a1 : Int32) (a2 : Int32) (a3 : Int32) (a4 : Int32) (x : mj_X) (h : a4 = (50 : Int32)) : rX1_value d (168, [some (.ref 0), some (.int a1), some (.int a2), some (.int a3), some (.int a4), none, none], [], x) = rX1_value d (671, [some (.ref 0), some (.int a1), some (.int a2), some (.int a3), some (.int a4), none, none], [], x) := by rw [bX1_value_168, h]; rfl
theorem wX1_value_168_51 (d : Nat) (a1 : Int32) (a2 : Int32) (a3 : Int32) (a4 : Int32) (x : mj_X) (h : a4 = (51 : Int32)) : rX1_value d (168, [some (.ref 0), some (.int a1), some (.int a2), some (.int a3), some (.int a4), none, none], [], x) = rX1_value d (422, [some (.ref 0), some (.int a1), some (.int a2), some (.int a3), some (.int a4), none, none], [], x) := by rw [bX1_value_168, h]; rfl
theorem wX1_value_168_out (d : Nat) (a1 : Int32) (a2 : Int32) (a3 : Int32) (a4 : Int32) (x : mj_X) (h : (a4).toInt < 1 ∨ 51 < (a4).toInt) : rX1_value d (168, [some (.ref 0), some (.int a1), some (.int a2), some (.int a3), some (.int a4), none, none], [], x) = rX1_value d (671, [some (.ref 0), some (.int a1), some (.int a2), some (.int a3), some (.int a4), none, none], [], x) := by rw [bX1_value_168]; simp only [mj_sw_out a4 1 (501) [218, 226, 235, 243, 501, 262, 281, 315, 339, 501, 501, 501, 501, 501, 501, 501, 501, 501, 501, 501, 349, 390, 501, 501, 501, 501, 501, 501, 501, 501, 501, 409, 501, 418, 501, 501, 501, 501, 501, 501, 501, 501, 501, 501, 501, 428, 484, 501, 501, 501, 252] _ h (by decide) (by decide)]; try rfl
theorem wX1_statement_0_60 (d : Nat) (a1 : Int32) (x : mj_X) (h : (x.1 2 a1.toNatClampNeg) = (60 : Int32)) : kX1 (d + 1) 38 [.ref 0, .int a1] x = 
  if (x.1 0 35) = 0 then some (none, x)
  else 
   if (x.1 0 34) = 0 then 
    if (60000 : Int32) < ((x.1 0 40) + (1 : Int32)) then some (none, (mj_wI (mj_wI x 0 40 ((x.1 0 40) + (1 : Int32))) 0 34 (1 : Int32)))
    else 
     if (x.1 0 41) = (200 : Int32) then some (none, (mj_wI (mj_wI x 0 40 ((x.1 0 40) + (1 : Int32))) 0 34 (1 : Int32)))
     else mj_g a1 4000 (mj_g a1 4000 (mj_g a1 4000 (rX1_statement d (184, [some (.ref 0), some (.int a1), some (.int (x.1 3 a1.toNatClampNeg)), some (.int (x.1 4 a1.toNatClampNeg)), none], [], (mj_wI (mj_wI x 0 40 ((x.1 0 40) + (1 : Int32))) 0 41 ((x.1 0 41) + (1 : Int32)))))))
   else some (none, x) := by rw [eX1_statement, h]; rfl
theorem wX1_statement_0_61 (d : Nat) (a1 : Int32) (x : mj_X) (h : (x.1 2 a1.toNatClampNeg) = (61 : Int32)) : kX1 (d + 1) 38 [.ref 0, .int a1] x = 
  if (x.1 0 35) = 0 then some (none, x)
  else 
   if (x.1 0 34) = 0 then 
    if (60000 : Int32) < ((x.1 0 40) + (1 : Int32)) then some (none, (mj_wI (mj_wI x 0 40 ((x.1 0 40) + (1 : Int32))) 0 34 (1 : Int32)))
    else 
     if (x.1 0 41) = (200 : Int32) then some (none, (mj_wI (mj_wI x 0 40 ((x.1 0 40) + (1 : Int32))) 0 34 (1 : Int32)))
     else mj_g a1 4000 (mj_g a1 4000 (mj_g a1 4000 (rX1_statement d (192, [some (.ref 0), some (.int a1), some (.int (x.1 3 a1.toNatClampNeg)), some (.int (x.1 4 a1.toNatClampNeg)), none], [], (mj_wI (mj_wI x 0 40 ((x.1 0 40) + (1 : Int32))) 0 41 ((x.1 0 41) + (1 : Int32)))))))
   else some (none, x) := by rw [eX1_statement, h]; rfl
theorem wX1_statement_0_62 (d : Nat) (a1 : Int32) (x : mj_X) (h : (x.1 2 a1.toNatClampNeg) = (62 : Int32)) : kX1 (d + 1) 38 [.ref 0, .int a1] x = 
  if (x.1 0 35) = 0 then some (none, x)
  else 
   if (x.1 0 34) = 0 then 
    if (60000 : Int32) < ((x.1 0 40) + (1 : Int32)) then some (none, (mj_wI (mj_wI x 0 40 ((x.1 0 40) + (1 : Int32))) 0 34 (1 : Int32)))
    else 
     if (x.1 0 41) = (200 : Int32) then some (none, (mj_wI (mj_wI x 0 40 ((x.1 0 40) + (1 : Int32))) 0 34 (1 : Int32)))
     else mj_g a1 4000 (mj_g a1 4000 (mj_g a1 4000 (rX1_statement d (221, [some (.ref 0), some (.int a1), some (.int (x.1 3 a1.toNatClampNeg)), some (.int (x.1 4 a1.toNatClampNeg)), none], [], (mj_wI (mj_wI x 0 40 ((x.1 0 40) + (1 : Int32))) 0 41 ((x.1 0 41) + (1 : Int32)))))))
   else some (none, x) := by rw [eX1_statement, h]; rfl
theorem wX1_statement_0_63 (d : Nat) (a1 : Int32) (x : mj_X) (h : (x.1 2 a1.toNatClampNeg) = (63 : Int32)) : kX1 (d + 1) 38 [.ref 0, .int a1] x = 
  if (x.1 0 35) = 0 then some (none, x)
  else 
   if (x.1 0 34) = 0 then 
    if (60000 : Int32) < ((x.1 0 40) + (1 : Int32)) then some (none, (mj_wI (mj_wI x 0 40 ((x.1 0 40) + (1 : Int32))) 0 34 (1 : Int32)))
    else 
     if (x.1 0 41) = (200 : Int32) then some (none, (mj_wI (mj_wI x 0 40 ((x.1 0 40) + (1 : Int32))) 0 34 (1 : Int32)))
     else mj_g a1 4000 (mj_g a1 4000 (mj_g a1 4000 (rX1_statement d (234, [some (.ref 0), some (.int a1), some (.int (x.1 3 a1.toNatClampNeg)), some (.int (x.1 4 a1.toNatClampNeg)), none], [], (mj_wI (mj_wI x 0 40 ((x.1 0 40) + (1 : Int32))) 0 41 ((x.1 0 41) + (1 : Int32)))))))
   else some (none, x) := by rw [eX1_statement, h]; rfl
theorem wX1_statement_0_64 (d : Nat) (a1 : Int32) (x : mj_X) (h : (x.1 2 a1.toNatClampNeg) = (64 : Int32)) : kX1 (d + 1) 38 [.ref 0, .int a1] x = 
  if (x.1 0 35) = 0 then some (none, x)
  else 
   if (x.1 0 34) = 0 then 
    if (60000 : Int32) < ((x.1 0 40) + (1 : Int32)) then some (none, (mj_wI (mj_wI x 0 40 ((x.1 0 40) + (1 : Int32))) 0 34 (1 : Int32)))
    else 
     if (x.1 0 41) = (200 : Int32) then some (none, (mj_wI (mj_wI x 0 40 ((x.1 0 40) + (1 : Int32))) 0 34 (1 : Int32)))
     else mj_g a1 4000 (mj_g a1 4000 (mj_g a1 4000 (rX1_statement d (242, [some (.ref 0), some (.int a1), some (.int (x.1 3 a1.toNatClampNeg)), some (.int (x.1 4 a1.toNatClampNeg)), none], [], (mj_wI (mj_wI x 0 40 ((x.1 0 40) + (1 : Int32))) 0 41 ((x.1 0 41) + (1 : Int32)))))))
   else some (none, x) := by rw [eX1_statement, h]; rfl
theorem wX1_statement_0_65 (d : Nat) (a1 : Int32) (x : mj_X) (h : (x.1 2 a1.toNatClampNeg) = (65 : Int32)) : kX1 (d + 1) 38 [.ref 0, .int a1] x = 
  if (x.1 0 35) = 0 then some (none, x)
  else 
   if (x.1 0 34) = 0 then 
    if (60000 : Int32) < ((x.1 0 40) + (1 : Int32)) then some (none, (mj_wI (mj_wI x 0 40 ((x.1 0 40) + (1 : Int32))) 0 34 (1 : Int32)))
    else 
     if (x.1 0 41) = (200 : Int32) then some (none, (mj_wI (mj_wI x 0 40 ((x.1 0 40) + (1 : Int32))) 0 34 (1 : Int32)))
     else mj_g a1 4000 (mj_g a1 4000 (mj_g a1 4000 (rX1_statement d (270, [some (.ref 0), some (.int a1), some (.int (x.1 3 a1.toNatClampNeg)), some (.int (x.1 4 a1.toNatClampNeg)), none], [], (mj_wI (mj_wI x 0 40 ((x.1 0 40) + (1 : Int32))) 0 41 ((x.1 0 41) + (1 : Int32)))))))
   else some (none, x) := by rw [eX1_statement, h]; rfl
theorem wX1_statement_0_66 (d : Nat) (a1 : Int32) (x : mj_X) (h : (x.1 2 a1.toNatClampNeg) = (66 : Int32)) : kX1 (d + 1) 38 [.ref 0, .int a1] x = 
  if (x.1 0 35) = 0 then some (none, x)
  else 
   if (x.1 0 34) = 0 then 
    if (60000 : Int32) < ((x.1 0 40) + (1 : Int32)) then some (none, (mj_wI (mj_wI x 0 40 ((x.1 0 40) + (1 : Int32))) 0 34 (1 : Int32)))
    else 
     if (x.1 0 41) = (200 : Int32) then some (none, (mj_wI (mj_wI x 0 40 ((x.1 0 40) + (1 : Int32))) 0 34 (1 : Int32)))
     else mj_g a1 4000 (mj_g a1 4000 (mj_g a1 4000 (rX1_statement d (398, [some (.ref 0), some (.int a1), some (.int (x.1 3 a1.toNatClampNeg)), some (.int (x.1 4 a1.toNatClampNeg)), none], [], (mj_wI (mj_wI x 0 40 ((x.1 0 40) + (1 : Int32))) 0 41 ((x.1 0 41) + (1 : Int32)))))))
   else some (none, x) := by rw [eX1_statement, h]; rfl
theorem wX1_statement_0_67 (d : Nat) (a1 : Int32) (x : mj_X) (h : (x.1 2 a1.toNatClampNeg) = (67 : Int32)) : kX1 (d + 1) 38 [.ref 0, .int a1] x = 
  if (x.1 0 35) = 0 then some (none, x)
  else 
   if (x.1 0 34) = 0 then 
    if (60000 : Int32) < ((x.1 0 40) + (1 : Int32)) then some (none, (mj_wI (mj_wI x 0 40 ((x.1 0 40) + (1 : Int32))) 0 34 (1 : Int32)))
    else 
     if (x.1 0 41) = (200 : Int32) then some (none, (mj_wI (mj_wI x 0 40 ((x.1 0 40) + (1 : Int32))) 0 34 (1 : Int32)))
     else mj_g a1 4000 (mj_g a1 4000 (mj_g a1 4000 (rX1_statement d (279, [some (.ref 0), some (.int a1), some (.int (x.1 3 a1.toNatClampNeg)), some (.int (x.1 4 a1.toNatClampNeg)), none], [], (mj_wI (mj_wI x 0 40 ((x.1 0 40) + (1 : Int32))) 0 41 ((x.1 0 41) + (1 : Int32)))))))
   else some (none, x) := by rw [eX1_statement, h]; rfl
theorem wX1_statement_0_68 (d : Nat) (a1 : Int32) (x : mj_X) (h : (x.1 2 a1.toNatClampNeg) = (68 : Int32)) : kX1 (d + 1) 38 [.ref 0, .int a1] x = 
  if (x.1 0 35) = 0 then some (none, x)
  else 
   if (x.1 0 34) = 0 then 
    if (60000 : Int32) < ((x.1 0 40) + (1 : Int32)) then some (none, (mj_wI (mj_wI x 0 40 ((x.1 0 40) + (1 : Int32))) 0 34 (1 : Int32)))
    else 
     if (x.1 0 41) = (200 : Int32) then some (none, (mj_wI (mj_wI x 0 40 ((x.1 0 40) + (1 : Int32))) 0 34 (1 : Int32)))
     else mj_g a1 4000 (mj_g a1 4000 (mj_g a1 4000 (rX1_statement d (279, [some (.ref 0), some (.int a1), some (.int (x.1 3 a1.toNatClampNeg)), some (.int (x.1 4 a1.toNatClampNeg)), none], [], (mj_wI (mj_wI x 0 40 ((x.1 0 40) + (1 : Int32))) 0 41 ((x.1 0 41) + (1 : Int32)))))))
   else some (none, x) := by rw [eX1_statement, h]; rfl
theorem wX1_statement_0_69 (d : Nat) (a1 : Int32) (x : mj_X) (h : (x.1 2 a1.toNatClampNeg) = (69 : Int32)) : kX1 (d + 1) 38 [.ref 0, .int a1] x = 
  if (x.1 0 35) = 0 then some (none, x)
  else 
   if (x.1 0 34) = 0 then 
    if (60000 : Int32) < ((x.1 0 40) + (1 : Int32)) then some (none, (mj_wI (mj_wI x 0 40 ((x.1 0 40) + (1 : Int32))) 0 34 (1 : Int32)))
    else 
     if (x.1 0 41) = (200 : Int32) then some (none, (mj_wI (mj_wI x 0 40 ((x.1 0 40) + (1 : Int32))) 0 34 (1 : Int32)))
     else mj_g a1 4000 (mj_g a1 4000 (mj_g a1 4000 (rX1_statement d (279, [some (.ref 0), some (.int a1), some (.int (x.1 3 a1.toNatClampNeg)), some (.int (x.1 4 a1.toNatClampNeg)), none], [], (mj_wI (mj_wI x 0 40 ((x.1 0 40) + (1 : Int32))) 0 41 ((x.1 0 41) + (1 : Int32)))))))
   else some (none, x) := by rw [eX1_statement, h]; rfl
theorem wX1_statement_0_70 (d : Nat) (a1 : Int32) (x : mj_X) (h : (x.1 2 a1.toNatClampNeg) = (70 : Int32)) : kX1 (d + 1) 38 [.ref 0, .int a1] x = 
  if (x.1 0 35) = 0 then some (none, x)
  else 
   if (x.1 0 34) = 0 then 
    if (60000 : Int32) < ((x.1 0 40) + (1 : Int32)) then some (none, (mj_wI (mj_wI x 0 40 ((x.1 0 40) + (1 : Int32))) 0 34 (1 : Int32)))
    else 
     if (x.1 0 41) = (200 : Int32) then some (none, (mj_wI (mj_wI x 0 40 ((x.1 0 40) + (1 : Int32))) 0 34 (1 : Int32)))
     else mj_g a1 4000 (mj_g a1 4000 (mj_g a1 4000 (rX1_statement d (398, [some (.ref 0), some (.int a1), some (.int (x.1 3 a1.toNatClampNeg)), some (.int (x.1 4 a1.toNatClampNeg)), none], [], (mj_wI (mj_wI x 0 40 ((x.1 0 40) + (1 : Int32))) 0 41 ((x.1 0 41) + (1 : Int32)))))))
   else some (none, x) := by rw [eX1_statement, h]; rfl
theorem wX1_statement_0_71 (d : Nat) (a1 : Int32) (x : mj_X) (h : (x.1 2 a1.toNatClampNeg) = (71 : Int32)) : kX1 (d + 1) 38 [.ref 0, .int a1] x = 
  if (x.1 0 35) = 0 then some (none, x)
  else 
   if (x.1 0 34) = 0 then 
    if (60000 : Int32) < ((x.1 0 40) + (1 : Int32)) then some (none, (mj_wI (mj_wI x 0 40 ((x.1 0 40) + (1 : Int32))) 0 34 (1 : Int32)))
    else 
     if (x.1 0 41) = (200 : Int32) then some (none, (mj_wI (mj_wI x 0 40 ((x.1 0 40) + (1 : Int32))) 0 34 (1 : Int32)))
     else mj_g a1 4000 (mj_g a1 4000 (mj_g a1 4000 (rX1_statement d (294, [some (.ref 0), some (.int a1), some (.int (x.1 3 a1.toNatClampNeg)), some (.int (x.1 4 a1.toNatClampNeg)), none], [], (mj_wI (mj_wI x 0 40 ((x.1 0 40) + (1 : Int32))) 0 41 ((x.1 0 41) + (1 : Int32)))))))
   else some (none, x) := by rw [eX1_statement, h]; rfl
theorem wX1_statement_0_72 (d : Nat) (a1 : Int32) (x : mj_X) (h : (x.1 2 a1.toNatClampNeg) = (72 : Int32)) : kX1 (d + 1) 38 [.ref 0, .int a1] x = 
  if (x.1 0 35) = 0 then some (none, x)
  else 
   if (x.1 0 34) = 0 then 
    if (60000 : Int32) < ((x.1 0 40) + (1 : Int32)) then some (none, (mj_wI (mj_wI x 0 40 ((x.1 0 40) + (1 : Int32))) 0 34 (1 : Int32)))
    else 
     if (x.1 0 41) = (200 : Int32) then some (none, (mj_wI (mj_wI x 0 40 ((x.1 0 40) + (1 : Int32))) 0 34 (1 : Int32)))
     else mj_g a1 4000 (mj_g a1 4000 (mj_g a1 4000 (rX1_statement d (308, [some (.ref 0), some (.int a1), some (.int (x.1 3 a1.toNatClampNeg)), some (.int (x.1 4 a1.toNatClampNeg)), none], [], (mj_wI (mj_wI x 0 40 ((x.1 0 40) + (1 : Int32))) 0 41 ((x.1 0 41) + (1 : Int32)))))))
   else some (none, x) := by rw [eX1_statement, h]; rfl
theorem wX1_statement_0_73 (d : Nat) (a1 : Int32) (x : mj_X) (h : (x.1 2 a1.toNatClampNeg) = (73 : Int32)) : kX1 (d + 1) 38 [.ref 0, .int a1] x = 
  if (x.1 0 35) = 0 then some (none, x)
  else 
   if (x.1 0 34) = 0 then 
    if (60000 : Int32) < ((x.1 0 40) + (1 : Int32)) then some (none, (mj_wI (mj_wI x 0 40 ((x.1 0 40) + (1 : Int32))) 0 34 (1 : Int32)))
    else 
     if (x.1 0 41) = (200 : Int32) then some (none, (mj_wI (mj_wI x 0 40 ((x.1 0 40) + (1 : Int32))) 0 34 (1 : Int32)))
     else mj_g a1 4000 (mj_g a1 4000 (mj_g a1 4000 (rX1_statement d (322, [some (.ref 0), some (.int a1), some (.int (x.1 3 a1.toNatClampNeg)), some (.int (x.1 4 a1.toNatClampNeg)), none], [], (mj_wI (mj_wI x 0 40 ((x.1 0 40) + (1 : Int32))) 0 41 ((x.1 0 41) + (1 : Int32)))))))
   else some (none, x) := by rw [eX1_statement, h]; rfl
theorem wX1_statement_0_74 (d : Nat) (a1 : Int32) (x : mj_X) (h : (x.1 2 a1.toNatClampNeg) = (74 : Int32)) : kX1 (d + 1) 38 [.ref 0, .int a1] x = 
  if (x.1 0 35) = 0 then some (none, x)
  else 
   if (x.1 0 34) = 0 then 
    if (60000 : Int32) < ((x.1 0 40) + (1 : Int32)) then some (none, (mj_wI (mj_wI x 0 40 ((x.1 0 40) + (1 : Int32))) 0 34 (1 : Int32)))
    else 
     if (x.1 0 41) = (200 : Int32) then some (none, (mj_wI (mj_wI x 0 40 ((x.1 0 40) + (1 : Int32))) 0 34 (1 : Int32)))
     else mj_g a1 4000 (mj_g a1 4000 (mj_g a1 4000 (rX1_statement d (330, [some (.ref 0), some (.int a1), some (.int (x.1 3 a1.toNatClampNeg)), some (.int (x.1 4 a1.toNatClampNeg)), none], [], (mj_wI (mj_wI x 0 40 ((x.1 0 40) + (1 : Int32))) 0 41 ((x.1 0 41) + (1 : Int32)))))))
   else some (none, x) := by rw [eX1_statement, h]; rfl
theorem wX1_statement_0_75 (d : Nat) (a1 : Int32) (x : mj_X) (h : (x.1 2 a1.toNatClampNeg) = (75 : Int32)) : kX1 (d + 1) 38 [.ref 0, .int a1] x = 
  if (x.1 0 35) = 0 then some (none, x)
  else 
   if (x.1 0 34) = 0 then 
    if (60000 : Int32) < ((x.1 0 40) + (1 : Int32)) then some (none, (mj_wI (mj_wI x 0 40 ((x.1 0 40) + (1 : Int32))) 0 34 (1 : Int32)))
    else 
     if (x.1 0 41) = (200 : Int32) then some (none, (mj_wI (mj_wI x 0 40 ((x.1 0 40) + (1 : Int32))) 0 34 (1 : Int32)))
     else mj_g a1 4000 (mj_g a1 4000 (mj_g a1 4000 (rX1_statement d (361, [some (.ref 0), some (.int a1), some (.int (x.1 3 a1.toNatClampNeg)), some (.int (x.1 4 a1.toNatClampNeg)), none], [], (mj_wI (mj_wI x 0 40 ((x.1 0 40) + (1 : Int32))) 0 41 ((x.1 0 41) + (1 : Int32)))))))
   else some (none, x) := by rw [eX1_statement, h]; rfl
theorem wX1_statement_0_76 (d : Nat) (a1 : Int32) (x : mj_X) (h : (x.1 2 a1.toNatClampNeg) = (76 : Int32)) : kX1 (d + 1) 38 [.ref 0, .int a1] x = 
  if (x.1 0 35) = 0 then some (none, x)
  else 
   if (x.1 0 34) = 0 then 
    if (60000 : Int32) < ((x.1 0 40) + (1 : Int32)) then some (none, (mj_wI (mj_wI x 0 40 ((x.1 0 40) + (1 : Int32))) 0 34 (1 : Int32)))
    else 
     if (x.1 0 41) = (200 : Int32) then some (none, (mj_wI (mj_wI x 0 40 ((x.1 0 40) + (1 : Int32))) 0 34 (1 : Int32)))
     else mj_g a1 4000 (mj_g a1 4000 (mj_g a1 4000 (rX1_statement d (398, [some (.ref 0), some (.int a1), some (.int (x.1 3 a1.toNatClampNeg)), some (.int (x.1 4 a1.toNatClampNeg)), none], [], (mj_wI (mj_wI x 0 40 ((x.1 0 40) + (1 : Int32))) 0 41 ((x.1 0 41) + (1 : Int32)))))))
   else some (none, x) := by rw [eX1_statement, h]; rfl
theorem wX1_statement_0_77 (d : Nat) (a1 : Int32) (x : mj_X) (h : (x.1 2 a1.toNatClampNeg) = (77 : Int32)) : kX1 (d + 1) 38 [.ref 0, .int a1] x = 
  if (x.1 0 35) = 0 then some (none, x)
  else 
   if (x.1 0 34) = 0 then 
    if (60000 : Int32) < ((x.1 0 40) + (1 : Int32)) then some (none, (mj_wI (mj_wI x 0 40 ((x.1 0 40) + (1 : Int32))) 0 34 (1 : Int32)))
    else 
     if (x.1 0 41) = (200 : Int32) then some (none, (mj_wI (mj_wI x 0 40 ((x.1 0 40) + (1 : Int32))) 0 34 (1 : Int32)))
     else mj_g a1 4000 (mj_g a1 4000 (mj_g a1 4000 (rX1_statement d (398, [some (.ref 0), some (.int a1), some (.int (x.1 3 a1.toNatClampNeg)), some (.int (x.1 4 a1.toNatClampNeg)), none], [], (mj_wI (mj_wI x 0 40 ((x.1 0 40) + (1 : Int32))) 0 41 ((x.1 0 41) + (1 : Int32)))))))
   else some (none, x) := by rw [eX1_statement, h]; rfl
theorem wX1_statement_0_78 (d : Nat) (a1 : Int32) (x : mj_X) (h : (x.1 2 a1.toNatClampNeg) = (78 : Int32)) : kX1 (d + 1) 38 [.ref 0, .int a1] x = 
  if (x.1 0 35) = 0 then some (none, x)
  else 
   if (x.1 0 34) = 0 then 
    if (60000 : Int32) < ((x.1 0 40) + (1 : Int32)) then some (none, (mj_wI (mj_wI x 0 40 ((x.1 0 40) + (1 : Int32))) 0 34 (1 : Int32)))
    else 
     if (x.1 0 41) = (200 : Int32) then some (none, (mj_wI (mj_wI x 0 40 ((x.1 0 40) + (1 : Int32))) 0 34 (1 : Int32)))
     else mj_g a1 4000 (mj_g a1 4000 (mj_g a1 4000 (rX1_statement d (398, [some (.ref 0), some (.int a1), some (.int (x.1 3 a1.toNatClampNeg)), some (.int (x.1 4 a1.toNatClampNeg)), none], [], (mj_wI (mj_wI x 0 40 ((x.1 0 40) + (1 : Int32))) 0 41 ((x.1 0 41) + (1 : Int32)))))))
   else some (none, x) := by rw [eX1_statement, h]; rfl
theorem wX1_statement_0_79 (d : Nat) (a1 : Int32) (x : mj_X) (h : (x.1 2 a1.toNatClampNeg) = (79 : Int32)) : kX1 (d + 1) 38 [.ref 0, .int a1] x = 
  if (x.1 0 35) = 0 then some (none, x)
  else 
   if (x.1 0 34) = 0 then 
    if (60000 : Int32) < ((x.1 0 40) + (1 : Int32)) then some (none, (mj_wI (mj_wI x 0 40 ((x.1 0 40) + (1 : Int32))) 0 34 (1 : Int32)))
    else 
     if (x.1 0 41) = (200 : Int32) then some (none, (mj_wI (mj_wI x 0 40 ((x.1 0 40) + (1 : Int32))) 0 34 (1 : Int32)))
     else mj_g a1 4000 (mj_g a1 4000 (mj_g a1 4000 (rX1_statement d (370, [some (.ref 0), some (.int a1), some (.int (x.1 3 a1.toNatClampNeg)), some (.int (x.1 4 a1.toNatClampNeg)), none], [], (mj_wI (mj_wI x 0 40 ((x.1 0 40) + (1 : Int32))) 0 41 ((x.1 0 41) + (1 : Int32)))))))
   else some (none, x) := by rw [eX1_statement, h]; rfl
theorem wX1_statement_0_80 (d : Nat) (a1 : Int32) (x : mj_X) (h : (x.1 2 a1.toNatClampNeg) = (80 : Int32)) : kX1 (d + 1) 38 [.ref 0, .int a1] x = 
  if (x.1 0 35) = 0 then some (none, x)
  else 
   if (x.1 0 34) = 0 then 
    if (60000 : Int32) < ((x.1 0 40) + (1 : Int32)) then some (none, (mj_wI (mj_wI x 0 40 ((x.1 0 40) + (1 : Int32))) 0 34 (1 : Int32)))
    else 
     if (x.1 0 41) = (200 : Int32) then some (none, (mj_wI (mj_wI x 0 40 ((x.1 0 40) + (1 : Int32))) 0 34 (1 : Int32)))
     else mj_g a1 4000 (mj_g a1 4000 (mj_g a1 4000 (rX1_statement d (380, [some (.ref 0), some (.int a1), some (.int (x.1 3 a1.toNatClampNeg)), some (.int (x.1 4 a1.toNatClampNeg)), none], [], (mj_wI (mj_wI x 0 40 ((x.1 0 40) + (1 : Int32))) 0 41 ((x.1 0 41) + (1 : Int32)))))))
   else some (none, x) := by rw [eX1_statement, h]; rfl
theorem wX1_statement_0_81 (d : Nat) (a1 : Int32) (x : mj_X) (h : (x.1 2 a1.toNatClampNeg) = (81 : Int32)) : kX1 (d + 1) 38 [.ref 0, .int a1] x = 
  if (x.1 0 35) = 0 then some (none, x)
  else 
   if (x.1 0 34) = 0 then 
    if (60000 : Int32) < ((x.1 0 40) + (1 : Int32)) then some (none, (mj_wI (mj_wI x 0 40 ((x.1 0 40) + (1 : Int32))) 0 34 (1 : Int32)))
    else 
     if (x.1 0 41) = (200 : Int32) then some (none, (mj_wI (mj_wI x 0 40 ((x.1 0 40) + (1 : Int32))) 0 34 (1 : Int32)))
     else mj_g a1 4000 (mj_g a1 4000 (mj_g a1 4000 (rX1_statement d (389, [some (.ref 0), some (.int a1), some (.int (x.1 3 a1.toNatClampNeg)), some (.int (x.1 4 a1.toNatClampNeg)), none], [], (mj_wI (mj_wI x 0 40 ((x.1 0 40) + (1 : Int32))) 0 41 ((x.1 0 41) + (1 : Int32)))))))
   else some (none, x) := by rw [eX1_statement, h]; rfl
theorem wX1_statement_0_out (d : Nat) (a1 : Int32) (x : mj_X) (h : ((x.1 2 a1.toNatClampNeg)).toInt < 60 ∨ 81 < ((x.1 2 a1.toNatClampNeg)).toInt) : kX1 (d + 1) 38 [.ref 0, .int a1] x = 
  if (x.1 0 35) = 0 then some (none, x)
  else 
   if (x.1 0 34) = 0 then 
    if (60000 : Int32) < ((x.1 0 40) + (1 : Int32)) then some (none, (mj_wI (mj_wI x 0 40 ((x.1 0 40) + (1 : Int32))) 0 34 (1 : Int32)))
    else 
     if (x.1 0 41) = (200 : Int32) then some (none, (mj_wI (mj_wI x 0 40 ((x.1 0 40) + (1 : Int32))) 0 34 (1 : Int32)))
     else mj_g a1 4000 (mj_g a1 4000 (mj_g a1 4000 (rX1_statement d (398, [some (.ref 0), some (.int a1), some (.int (x.1 3 a1.toNatClampNeg)), some (.int (x.1 4 a1.toNatClampNeg)), none], [], (mj_wI (mj_wI x 0 40 ((x.1 0 40) + (1 : Int32))) 0 41 ((x.1 0 41) + (1 : Int32)))))))
   else some (none, x) := by rw [eX1_statement]; simp only [mj_sw_out (x.1 2 a1.toNatClampNeg) 60 (318) [104, 112, 141, 154, 162, 190, 318, 199, 199, 199, 318, 214, 228, 242, 250, 281, 318, 318, 318, 290, 300, 309] _ h (by decide) (by decide)]; try rfl
