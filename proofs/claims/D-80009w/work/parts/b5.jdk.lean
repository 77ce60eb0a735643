/-! java/lang/Math -/
set_option maxRecDepth 100000
def RJ0 : String := "java/lang/Math"
abbrev cJ0_max : ByteArray := prog_6_method_65_code
def yJ0_max : MethodName := ⟨RJ0, "max", "(II)I"⟩
def dkwJ0_max_0 : List UInt8 := [26, 27, 161, 0, 7, 26, 167, 0, 4, 27, 172]
abbrev dktJ0_max_0 : List UInt8 := dkwJ0_max_0 ++ []
theorem dksJ0_max_0 : cJ0_max.data.toList.drop 0 = dktJ0_max_0 := by decide +kernel
theorem dJ0_max_0 : decode cJ0_max 0 = .ok (.iload_n 0, 1) := dk_26 (dk_at dksJ0_max_0 0 rfl rfl)
theorem dJ0_max_1 : decode cJ0_max 1 = .ok (.iload_n 1, 1) := dk_27 (dk_at dksJ0_max_0 1 rfl rfl)
theorem dJ0_max_2 : decode cJ0_max 2 = .ok (.if_icmp .lt 7, 3) := dk_161 0 7 (dk_at dksJ0_max_0 2 rfl rfl)
theorem dJ0_max_5 : decode cJ0_max 5 = .ok (.iload_n 0, 1) := dk_26 (dk_at dksJ0_max_0 5 rfl rfl)
theorem dJ0_max_6 : decode cJ0_max 6 = .ok (.goto 4, 3) := dk_167 0 4 (dk_at dksJ0_max_0 6 rfl rfl)
theorem dJ0_max_9 : decode cJ0_max 9 = .ok (.iload_n 1, 1) := dk_27 (dk_at dksJ0_max_0 9 rfl rfl)
theorem dJ0_max_10 : decode cJ0_max 10 = .ok (.ireturn, 1) := dk_172 (dk_at dksJ0_max_0 10 rfl rfl)
abbrev cJ0_min : ByteArray := prog_6_method_69_code
def yJ0_min : MethodName := ⟨RJ0, "min", "(II)I"⟩
def dkwJ0_min_0 : List UInt8 := [26, 27, 163, 0, 7, 26, 167, 0, 4, 27, 172]
abbrev dktJ0_min_0 : List UInt8 := dkwJ0_min_0 ++ []
theorem dksJ0_min_0 : cJ0_min.data.toList.drop 0 = dktJ0_min_0 := by decide +kernel
theorem dJ0_min_0 : decode cJ0_min 0 = .ok (.iload_n 0, 1) := dk_26 (dk_at dksJ0_min_0 0 rfl rfl)
theorem dJ0_min_1 : decode cJ0_min 1 = .ok (.iload_n 1, 1) := dk_27 (dk_at dksJ0_min_0 1 rfl rfl)
theorem dJ0_min_2 : decode cJ0_min 2 = .ok (.if_icmp .gt 7, 3) := dk_163 0 7 (dk_at dksJ0_min_0 2 rfl rfl)
theorem dJ0_min_5 : decode cJ0_min 5 = .ok (.iload_n 0, 1) := dk_26 (dk_at dksJ0_min_0 5 rfl rfl)
theorem dJ0_min_6 : decode cJ0_min 6 = .ok (.goto 4, 3) := dk_167 0 4 (dk_at dksJ0_min_0 6 rfl rfl)
theorem dJ0_min_9 : decode cJ0_min 9 = .ok (.iload_n 1, 1) := dk_27 (dk_at dksJ0_min_0 9 rfl rfl)
theorem dJ0_min_10 : decode cJ0_min 10 = .ok (.ireturn, 1) := dk_172 (dk_at dksJ0_min_0 10 rfl rfl)
theorem q257 : (Jvm.Cond.initialized "java/lang/Math") ∈ lw_all := lw_g (lw_at lw_m1 3 rfl) rfl
theorem q375 : (Jvm.Cond.static ({ cls := "java/lang/Math", name := "max", desc := "(II)I" } : Jvm.MethodName)) ∈ lw_all := lw_g (lw_at lw_m1 121 rfl) rfl
theorem q376 : (Jvm.Cond.code ({ cls := "java/lang/Math", name := "max", desc := "(II)I" } : Jvm.MethodName) prog_6_method_65_code (2 : Nat) (Option.some Jvm.ClassFile.FieldType.int)) ∈ lw_all := lw_g (lw_at lw_m1 122 rfl) rfl
theorem q670 : (Jvm.Cond.static ({ cls := "java/lang/Math", name := "min", desc := "(II)I" } : Jvm.MethodName)) ∈ lw_all := lw_g (lw_at lw_m2 176 rfl) rfl
theorem q671 : (Jvm.Cond.code ({ cls := "java/lang/Math", name := "min", desc := "(II)I" } : Jvm.MethodName) prog_6_method_69_code (2 : Nat) (Option.some Jvm.ClassFile.FieldType.int)) ∈ lw_all := lw_g (lw_at lw_m2 177 rfl) rfl

/-! java/util/Arrays -/
set_option maxRecDepth 100000
def RJ1 : String := "java/util/Arrays"
abbrev cJ1_fill : ByteArray := prog_9_method_112_code
def yJ1_fill : MethodName := ⟨RJ1, "fill", "([ZIIZ)V"⟩
def dkwJ1_fill_1 : List UInt8 := [167, 255, 242, 177]
abbrev dktJ1_fill_1 : List UInt8 := dkwJ1_fill_1 ++ []
def dkwJ1_fill_0 : List UInt8 := [42, 190, 27, 28, 184, 0, 13, 27, 54, 4, 21, 4, 28, 162, 0, 14, 42, 21, 4, 29, 84, 132, 4, 1]
abbrev dktJ1_fill_0 : List UInt8 := dkwJ1_fill_0 ++ dktJ1_fill_1
theorem dksJ1_fill_0 : cJ1_fill.data.toList.drop 0 = dktJ1_fill_0 := by decide +kernel
theorem dksJ1_fill_1 : cJ1_fill.data.toList.drop 24 = dktJ1_fill_1 := dk_seg dksJ1_fill_0 24 rfl rfl
theorem dJ1_fill_0 : decode cJ1_fill 0 = .ok (.aload_n 0, 1) := dk_42 (dk_at dksJ1_fill_0 0 rfl rfl)
theorem dJ1_fill_1 : decode cJ1_fill 1 = .ok (.arraylength, 1) := dk_190 (dk_at dksJ1_fill_0 1 rfl rfl)
theorem dJ1_fill_2 : decode cJ1_fill 2 = .ok (.iload_n 1, 1) := dk_27 (dk_at dksJ1_fill_0 2 rfl rfl)
theorem dJ1_fill_3 : decode cJ1_fill 3 = .ok (.iload_n 2, 1) := dk_28 (dk_at dksJ1_fill_0 3 rfl rfl)
theorem dJ1_fill_4 : decode cJ1_fill 4 = .ok (.invokestatic 13, 3) := dk_184 0 13 (dk_at dksJ1_fill_0 4 rfl rfl)
theorem dJ1_fill_7 : decode cJ1_fill 7 = .ok (.iload_n 1, 1) := dk_27 (dk_at dksJ1_fill_0 7 rfl rfl)
theorem dJ1_fill_8 : decode cJ1_fill 8 = .ok (.istore 4, 2) := dk_54 4 (dk_at dksJ1_fill_0 8 rfl rfl)
theorem dJ1_fill_10 : decode cJ1_fill 10 = .ok (.iload 4, 2) := dk_21 4 (dk_at dksJ1_fill_0 10 rfl rfl)
theorem dJ1_fill_12 : decode cJ1_fill 12 = .ok (.iload_n 2, 1) := dk_28 (dk_at dksJ1_fill_0 12 rfl rfl)
theorem dJ1_fill_13 : decode cJ1_fill 13 = .ok (.if_icmp .ge 14, 3) := dk_162 0 14 (dk_at dksJ1_fill_0 13 rfl rfl)
theorem dJ1_fill_16 : decode cJ1_fill 16 = .ok (.aload_n 0, 1) := dk_42 (dk_at dksJ1_fill_0 16 rfl rfl)
theorem dJ1_fill_17 : decode cJ1_fill 17 = .ok (.iload 4, 2) := dk_21 4 (dk_at dksJ1_fill_0 17 rfl rfl)
theorem dJ1_fill_19 : decode cJ1_fill 19 = .ok (.iload_n 3, 1) := dk_29 (dk_at dksJ1_fill_0 19 rfl rfl)
theorem dJ1_fill_20 : decode cJ1_fill 20 = .ok (.bastore, 1) := dk_84 (dk_at dksJ1_fill_0 20 rfl rfl)
theorem dJ1_fill_21 : decode cJ1_fill 21 = .ok (.iinc 4 1, 3) := dk_132 4 1 (dk_at dksJ1_fill_0 21 rfl rfl)
theorem dJ1_fill_24 : decode cJ1_fill 24 = .ok (.goto (-14), 3) := dk_167 255 242 (dk_at dksJ1_fill_1 0 rfl rfl)
theorem dJ1_fill_27 : decode cJ1_fill 27 = .ok (.return_, 1) := dk_177 (dk_at dksJ1_fill_1 3 rfl rfl)
abbrev cJ1_rangeCheck : ByteArray := prog_9_method_30_code
def yJ1_rangeCheck : MethodName := ⟨RJ1, "rangeCheck", "(III)V"⟩
def dkwJ1_rangeCheck_3 : List UInt8 := [183, 0, 70, 191, 177]
abbrev dktJ1_rangeCheck_3 : List UInt8 := dkwJ1_rangeCheck_3 ++ []
def dkwJ1_rangeCheck_2 : List UInt8 := [27, 156, 0, 12, 187, 0, 68, 89, 27, 183, 0, 70, 191, 28, 26, 164, 0, 12, 187, 0, 68, 89, 28]
abbrev dktJ1_rangeCheck_2 : List UInt8 := dkwJ1_rangeCheck_2 ++ dktJ1_rangeCheck_3
def dkwJ1_rangeCheck_1 : List UInt8 := [182, 0, 54, 18, 57, 182, 0, 50, 28, 182, 0, 54, 18, 59, 182, 0, 50, 182, 0, 61, 183, 0, 65, 191]
abbrev dktJ1_rangeCheck_1 : List UInt8 := dkwJ1_rangeCheck_1 ++ dktJ1_rangeCheck_2
def dkwJ1_rangeCheck_0 : List UInt8 := [27, 28, 164, 0, 44, 187, 0, 43, 89, 187, 0, 45, 89, 183, 0, 47, 18, 48, 182, 0, 50, 27]
abbrev dktJ1_rangeCheck_0 : List UInt8 := dkwJ1_rangeCheck_0 ++ dktJ1_rangeCheck_1
theorem dksJ1_rangeCheck_0 : cJ1_rangeCheck.data.toList.drop 0 = dktJ1_rangeCheck_0 := by decide +kernel
theorem dksJ1_rangeCheck_1 : cJ1_rangeCheck.data.toList.drop 22 = dktJ1_rangeCheck_1 := dk_seg dksJ1_rangeCheck_0 22 rfl rfl
theorem dksJ1_rangeCheck_2 : cJ1_rangeCheck.data.toList.drop 46 = dktJ1_rangeCheck_2 := dk_seg dksJ1_rangeCheck_1 24 rfl rfl
theorem dksJ1_rangeCheck_3 : cJ1_rangeCheck.data.toList.drop 69 = dktJ1_rangeCheck_3 := dk_seg dksJ1_rangeCheck_2 23 rfl rfl
theorem dJ1_rangeCheck_0 : decode cJ1_rangeCheck 0 = .ok (.iload_n 1, 1) := dk_27 (dk_at dksJ1_rangeCheck_0 0 rfl rfl)
theorem dJ1_rangeCheck_1 : decode cJ1_rangeCheck 1 = .ok (.iload_n 2, 1) := dk_28 (dk_at dksJ1_rangeCheck_0 1 rfl rfl)
theorem dJ1_rangeCheck_2 : decode cJ1_rangeCheck 2 = .ok (.if_icmp .le 44, 3) := dk_164 0 44 (dk_at dksJ1_rangeCheck_0 2 rfl rfl)
theorem dJ1_rangeCheck_5 : decode cJ1_rangeCheck 5 = .ok (.new 43, 3) := dk_187 0 43 (dk_at dksJ1_rangeCheck_0 5 rfl rfl)
theorem dJ1_rangeCheck_8 : decode cJ1_rangeCheck 8 = .ok (.dup, 1) := dk_89 (dk_at dksJ1_rangeCheck_0 8 rfl rfl)
theorem dJ1_rangeCheck_9 : decode cJ1_rangeCheck 9 = .ok (.new 45, 3) := dk_187 0 45 (dk_at dksJ1_rangeCheck_0 9 rfl rfl)
theorem dJ1_rangeCheck_12 : decode cJ1_rangeCheck 12 = .ok (.dup, 1) := dk_89 (dk_at dksJ1_rangeCheck_0 12 rfl rfl)
theorem dJ1_rangeCheck_13 : decode cJ1_rangeCheck 13 = .ok (.invokespecial 47, 3) := dk_183 0 47 (dk_at dksJ1_rangeCheck_0 13 rfl rfl)
theorem dJ1_rangeCheck_16 : decode cJ1_rangeCheck 16 = .ok (.ldc 48, 2) := dk_18 48 (dk_at dksJ1_rangeCheck_0 16 rfl rfl)
theorem dJ1_rangeCheck_18 : decode cJ1_rangeCheck 18 = .ok (.invokevirtual 50, 3) := dk_182 0 50 (dk_at dksJ1_rangeCheck_0 18 rfl rfl)
theorem dJ1_rangeCheck_21 : decode cJ1_rangeCheck 21 = .ok (.iload_n 1, 1) := dk_27 (dk_at dksJ1_rangeCheck_0 21 rfl rfl)
theorem dJ1_rangeCheck_22 : decode cJ1_rangeCheck 22 = .ok (.invokevirtual 54, 3) := dk_182 0 54 (dk_at dksJ1_rangeCheck_1 0 rfl rfl)
theorem dJ1_rangeCheck_25 : decode cJ1_rangeCheck 25 = .ok (.ldc 57, 2) := dk_18 57 (dk_at dksJ1_rangeCheck_1 3 rfl rfl)
theorem dJ1_rangeCheck_27 : decode cJ1_rangeCheck 27 = .ok (.invokevirtual 50, 3) := dk_182 0 50 (dk_at dksJ1_rangeCheck_1 5 rfl rfl)
theorem dJ1_rangeCheck_30 : decode cJ1_rangeCheck 30 = .ok (.iload_n 2, 1) := dk_28 (dk_at dksJ1_rangeCheck_1 8 rfl rfl)
theorem dJ1_rangeCheck_31 : decode cJ1_rangeCheck 31 = .ok (.invokevirtual 54, 3) := dk_182 0 54 (dk_at dksJ1_rangeCheck_1 9 rfl rfl)
theorem dJ1_rangeCheck_34 : decode cJ1_rangeCheck 34 = .ok (.ldc 59, 2) := dk_18 59 (dk_at dksJ1_rangeCheck_1 12 rfl rfl)
theorem dJ1_rangeCheck_36 : decode cJ1_rangeCheck 36 = .ok (.invokevirtual 50, 3) := dk_182 0 50 (dk_at dksJ1_rangeCheck_1 14 rfl rfl)
theorem dJ1_rangeCheck_39 : decode cJ1_rangeCheck 39 = .ok (.invokevirtual 61, 3) := dk_182 0 61 (dk_at dksJ1_rangeCheck_1 17 rfl rfl)
theorem dJ1_rangeCheck_42 : decode cJ1_rangeCheck 42 = .ok (.invokespecial 65, 3) := dk_183 0 65 (dk_at dksJ1_rangeCheck_1 20 rfl rfl)
theorem dJ1_rangeCheck_45 : decode cJ1_rangeCheck 45 = .ok (.athrow, 1) := dk_191 (dk_at dksJ1_rangeCheck_1 23 rfl rfl)
theorem dJ1_rangeCheck_46 : decode cJ1_rangeCheck 46 = .ok (.iload_n 1, 1) := dk_27 (dk_at dksJ1_rangeCheck_2 0 rfl rfl)
theorem dJ1_rangeCheck_47 : decode cJ1_rangeCheck 47 = .ok (.ifCond .ge 12, 3) := dk_156 0 12 (dk_at dksJ1_rangeCheck_2 1 rfl rfl)
theorem dJ1_rangeCheck_50 : decode cJ1_rangeCheck 50 = .ok (.new 68, 3) := dk_187 0 68 (dk_at dksJ1_rangeCheck_2 4 rfl rfl)
theorem dJ1_rangeCheck_53 : decode cJ1_rangeCheck 53 = .ok (.dup, 1) := dk_89 (dk_at dksJ1_rangeCheck_2 7 rfl rfl)
theorem dJ1_rangeCheck_54 : decode cJ1_rangeCheck 54 = .ok (.iload_n 1, 1) := dk_27 (dk_at dksJ1_rangeCheck_2 8 rfl rfl)
theorem dJ1_rangeCheck_55 : decode cJ1_rangeCheck 55 = .ok (.invokespecial 70, 3) := dk_183 0 70 (dk_at dksJ1_rangeCheck_2 9 rfl rfl)
theorem dJ1_rangeCheck_58 : decode cJ1_rangeCheck 58 = .ok (.athrow, 1) := dk_191 (dk_at dksJ1_rangeCheck_2 12 rfl rfl)
theorem dJ1_rangeCheck_59 : decode cJ1_rangeCheck 59 = .ok (.iload_n 2, 1) := dk_28 (dk_at dksJ1_rangeCheck_2 13 rfl rfl)
theorem dJ1_rangeCheck_60 : decode cJ1_rangeCheck 60 = .ok (.iload_n 0, 1) := dk_26 (dk_at dksJ1_rangeCheck_2 14 rfl rfl)
theorem dJ1_rangeCheck_61 : decode cJ1_rangeCheck 61 = .ok (.if_icmp .le 12, 3) := dk_164 0 12 (dk_at dksJ1_rangeCheck_2 15 rfl rfl)
theorem dJ1_rangeCheck_64 : decode cJ1_rangeCheck 64 = .ok (.new 68, 3) := dk_187 0 68 (dk_at dksJ1_rangeCheck_2 18 rfl rfl)
theorem dJ1_rangeCheck_67 : decode cJ1_rangeCheck 67 = .ok (.dup, 1) := dk_89 (dk_at dksJ1_rangeCheck_2 21 rfl rfl)
theorem dJ1_rangeCheck_68 : decode cJ1_rangeCheck 68 = .ok (.iload_n 2, 1) := dk_28 (dk_at dksJ1_rangeCheck_2 22 rfl rfl)
theorem dJ1_rangeCheck_69 : decode cJ1_rangeCheck 69 = .ok (.invokespecial 70, 3) := dk_183 0 70 (dk_at dksJ1_rangeCheck_3 0 rfl rfl)
theorem dJ1_rangeCheck_72 : decode cJ1_rangeCheck 72 = .ok (.athrow, 1) := dk_191 (dk_at dksJ1_rangeCheck_3 3 rfl rfl)
theorem dJ1_rangeCheck_73 : decode cJ1_rangeCheck 73 = .ok (.return_, 1) := dk_177 (dk_at dksJ1_rangeCheck_3 4 rfl rfl)
abbrev cJ1_fill_2 : ByteArray := prog_9_method_104_code
def yJ1_fill_2 : MethodName := ⟨RJ1, "fill", "([IIII)V"⟩
def dkwJ1_fill_2_1 : List UInt8 := [167, 255, 242, 177]
abbrev dktJ1_fill_2_1 : List UInt8 := dkwJ1_fill_2_1 ++ []
def dkwJ1_fill_2_0 : List UInt8 := [42, 190, 27, 28, 184, 0, 13, 27, 54, 4, 21, 4, 28, 162, 0, 14, 42, 21, 4, 29, 79, 132, 4, 1]
abbrev dktJ1_fill_2_0 : List UInt8 := dkwJ1_fill_2_0 ++ dktJ1_fill_2_1
theorem dksJ1_fill_2_0 : cJ1_fill_2.data.toList.drop 0 = dktJ1_fill_2_0 := by decide +kernel
theorem dksJ1_fill_2_1 : cJ1_fill_2.data.toList.drop 24 = dktJ1_fill_2_1 := dk_seg dksJ1_fill_2_0 24 rfl rfl
theorem dJ1_fill_2_0 : decode cJ1_fill_2 0 = .ok (.aload_n 0, 1) := dk_42 (dk_at dksJ1_fill_2_0 0 rfl rfl)
theorem dJ1_fill_2_1 : decode cJ1_fill_2 1 = .ok (.arraylength, 1) := dk_190 (dk_at dksJ1_fill_2_0 1 rfl rfl)
theorem dJ1_fill_2_2 : decode cJ1_fill_2 2 = .ok (.iload_n 1, 1) := dk_27 (dk_at dksJ1_fill_2_0 2 rfl rfl)
theorem dJ1_fill_2_3 : decode cJ1_fill_2 3 = .ok (.iload_n 2, 1) := dk_28 (dk_at dksJ1_fill_2_0 3 rfl rfl)
theorem dJ1_fill_2_4 : decode cJ1_fill_2 4 = .ok (.invokestatic 13, 3) := dk_184 0 13 (dk_at dksJ1_fill_2_0 4 rfl rfl)
theorem dJ1_fill_2_7 : decode cJ1_fill_2 7 = .ok (.iload_n 1, 1) := dk_27 (dk_at dksJ1_fill_2_0 7 rfl rfl)
theorem dJ1_fill_2_8 : decode cJ1_fill_2 8 = .ok (.istore 4, 2) := dk_54 4 (dk_at dksJ1_fill_2_0 8 rfl rfl)
theorem dJ1_fill_2_10 : decode cJ1_fill_2 10 = .ok (.iload 4, 2) := dk_21 4 (dk_at dksJ1_fill_2_0 10 rfl rfl)
theorem dJ1_fill_2_12 : decode cJ1_fill_2 12 = .ok (.iload_n 2, 1) := dk_28 (dk_at dksJ1_fill_2_0 12 rfl rfl)
theorem dJ1_fill_2_13 : decode cJ1_fill_2 13 = .ok (.if_icmp .ge 14, 3) := dk_162 0 14 (dk_at dksJ1_fill_2_0 13 rfl rfl)
theorem dJ1_fill_2_16 : decode cJ1_fill_2 16 = .ok (.aload_n 0, 1) := dk_42 (dk_at dksJ1_fill_2_0 16 rfl rfl)
theorem dJ1_fill_2_17 : decode cJ1_fill_2 17 = .ok (.iload 4, 2) := dk_21 4 (dk_at dksJ1_fill_2_0 17 rfl rfl)
theorem dJ1_fill_2_19 : decode cJ1_fill_2 19 = .ok (.iload_n 3, 1) := dk_29 (dk_at dksJ1_fill_2_0 19 rfl rfl)
theorem dJ1_fill_2_20 : decode cJ1_fill_2 20 = .ok (.iastore, 1) := dk_79 (dk_at dksJ1_fill_2_0 20 rfl rfl)
theorem dJ1_fill_2_21 : decode cJ1_fill_2 21 = .ok (.iinc 4 1, 3) := dk_132 4 1 (dk_at dksJ1_fill_2_0 21 rfl rfl)
theorem dJ1_fill_2_24 : decode cJ1_fill_2 24 = .ok (.goto (-14), 3) := dk_167 255 242 (dk_at dksJ1_fill_2_1 0 rfl rfl)
theorem dJ1_fill_2_27 : decode cJ1_fill_2 27 = .ok (.return_, 1) := dk_177 (dk_at dksJ1_fill_2_1 3 rfl rfl)
abbrev cJ1_fill_3 : ByteArray := prog_9_method_102_code
def yJ1_fill_3 : MethodName := ⟨RJ1, "fill", "([JIIJ)V"⟩
def dkwJ1_fill_3_1 : List UInt8 := [167, 255, 242, 177]
abbrev dktJ1_fill_3_1 : List UInt8 := dkwJ1_fill_3_1 ++ []
def dkwJ1_fill_3_0 : List UInt8 := [42, 190, 27, 28, 184, 0, 13, 27, 54, 5, 21, 5, 28, 162, 0, 14, 42, 21, 5, 33, 80, 132, 5, 1]
abbrev dktJ1_fill_3_0 : List UInt8 := dkwJ1_fill_3_0 ++ dktJ1_fill_3_1
theorem dksJ1_fill_3_0 : cJ1_fill_3.data.toList.drop 0 = dktJ1_fill_3_0 := by decide +kernel
theorem dksJ1_fill_3_1 : cJ1_fill_3.data.toList.drop 24 = dktJ1_fill_3_1 := dk_seg dksJ1_fill_3_0 24 rfl rfl
theorem dJ1_fill_3_0 : decode cJ1_fill_3 0 = .ok (.aload_n 0, 1) := dk_42 (dk_at dksJ1_fill_3_0 0 rfl rfl)
theorem dJ1_fill_3_1 : decode cJ1_fill_3 1 = .ok (.arraylength, 1) := dk_190 (dk_at dksJ1_fill_3_0 1 rfl rfl)
theorem dJ1_fill_3_2 : decode cJ1_fill_3 2 = .ok (.iload_n 1, 1) := dk_27 (dk_at dksJ1_fill_3_0 2 rfl rfl)
theorem dJ1_fill_3_3 : decode cJ1_fill_3 3 = .ok (.iload_n 2, 1) := dk_28 (dk_at dksJ1_fill_3_0 3 rfl rfl)
theorem dJ1_fill_3_4 : decode cJ1_fill_3 4 = .ok (.invokestatic 13, 3) := dk_184 0 13 (dk_at dksJ1_fill_3_0 4 rfl rfl)
theorem dJ1_fill_3_7 : decode cJ1_fill_3 7 = .ok (.iload_n 1, 1) := dk_27 (dk_at dksJ1_fill_3_0 7 rfl rfl)
theorem dJ1_fill_3_8 : decode cJ1_fill_3 8 = .ok (.istore 5, 2) := dk_54 5 (dk_at dksJ1_fill_3_0 8 rfl rfl)
theorem dJ1_fill_3_10 : decode cJ1_fill_3 10 = .ok (.iload 5, 2) := dk_21 5 (dk_at dksJ1_fill_3_0 10 rfl rfl)
theorem dJ1_fill_3_12 : decode cJ1_fill_3 12 = .ok (.iload_n 2, 1) := dk_28 (dk_at dksJ1_fill_3_0 12 rfl rfl)
theorem dJ1_fill_3_13 : decode cJ1_fill_3 13 = .ok (.if_icmp .ge 14, 3) := dk_162 0 14 (dk_at dksJ1_fill_3_0 13 rfl rfl)
theorem dJ1_fill_3_16 : decode cJ1_fill_3 16 = .ok (.aload_n 0, 1) := dk_42 (dk_at dksJ1_fill_3_0 16 rfl rfl)
theorem dJ1_fill_3_17 : decode cJ1_fill_3 17 = .ok (.iload 5, 2) := dk_21 5 (dk_at dksJ1_fill_3_0 17 rfl rfl)
theorem dJ1_fill_3_19 : decode cJ1_fill_3 19 = .ok (.lload_n 3, 1) := dk_33 (dk_at dksJ1_fill_3_0 19 rfl rfl)
theorem dJ1_fill_3_20 : decode cJ1_fill_3 20 = .ok (.lastore, 1) := dk_80 (dk_at dksJ1_fill_3_0 20 rfl rfl)
theorem dJ1_fill_3_21 : decode cJ1_fill_3 21 = .ok (.iinc 5 1, 3) := dk_132 5 1 (dk_at dksJ1_fill_3_0 21 rfl rfl)
theorem dJ1_fill_3_24 : decode cJ1_fill_3 24 = .ok (.goto (-14), 3) := dk_167 255 242 (dk_at dksJ1_fill_3_1 0 rfl rfl)
theorem dJ1_fill_3_27 : decode cJ1_fill_3 27 = .ok (.return_, 1) := dk_177 (dk_at dksJ1_fill_3_1 3 rfl rfl)
theorem q258 : (Jvm.Cond.initialized "java/util/Arrays") ∈ lw_all := lw_g (lw_at lw_m1 4 rfl) rfl
theorem q389 : (Jvm.Cond.static ({ cls := "java/util/Arrays", name := "fill", desc := "([ZIIZ)V" } : Jvm.MethodName)) ∈ lw_all := lw_g (lw_at lw_m1 135 rfl) rfl
theorem q390 : (Jvm.Cond.code ({ cls := "java/util/Arrays", name := "fill", desc := "([ZIIZ)V" } : Jvm.MethodName) prog_9_method_112_code (5 : Nat) (Option.none : Option Jvm.ClassFile.FieldType)) ∈ lw_all := lw_g (lw_at lw_m1 136 rfl) rfl
theorem q391 : (Jvm.Cond.methodLink "java/util/Arrays" (13 : Nat) ({ cls := "java/util/Arrays", name := "rangeCheck", desc := "(III)V" } : Jvm.MethodName)) ∈ lw_all := lw_g (lw_at lw_m1 137 rfl) rfl
theorem q392 : (Jvm.Cond.static ({ cls := "java/util/Arrays", name := "rangeCheck", desc := "(III)V" } : Jvm.MethodName)) ∈ lw_all := lw_g (lw_at lw_m1 138 rfl) rfl
theorem q393 : (Jvm.Cond.code ({ cls := "java/util/Arrays", name := "rangeCheck", desc := "(III)V" } : Jvm.MethodName) prog_9_method_30_code (3 : Nat) (Option.none : Option Jvm.ClassFile.FieldType)) ∈ lw_all := lw_g (lw_at lw_m1 139 rfl) rfl
theorem q733 : (Jvm.Cond.static ({ cls := "java/util/Arrays", name := "fill", desc := "([IIII)V" } : Jvm.MethodName)) ∈ lw_all := lw_g (lw_at lw_m2 239 rfl) rfl
theorem q734 : (Jvm.Cond.code ({ cls := "java/util/Arrays", name := "fill", desc := "([IIII)V" } : Jvm.MethodName) prog_9_method_104_code (5 : Nat) (Option.none : Option Jvm.ClassFile.FieldType)) ∈ lw_all := lw_g (lw_at lw_m3 0 rfl) rfl
theorem q1174 : (Jvm.Cond.static ({ cls := "java/util/Arrays", name := "fill", desc := "([JIIJ)V" } : Jvm.MethodName)) ∈ lw_all := lw_g (lw_at lw_m4 200 rfl) rfl
theorem q1175 : (Jvm.Cond.code ({ cls := "java/util/Arrays", name := "fill", desc := "([JIIJ)V" } : Jvm.MethodName) prog_9_method_102_code (6 : Nat) (Option.none : Option Jvm.ClassFile.FieldType)) ∈ lw_all := lw_g (lw_at lw_m4 201 rfl) rfl

/-! java/lang/Float -/
set_option maxRecDepth 100000
def RJ2 : String := "java/lang/Float"
abbrev cJ2_floatToIntBits : ByteArray := prog_5_method_24_code
def yJ2_floatToIntBits : MethodName := ⟨RJ2, "floatToIntBits", "(F)I"⟩
def dkwJ2_floatToIntBits_0 : List UInt8 := [34, 184, 0, 59, 154, 0, 8, 34, 184, 0, 74, 172, 18, 77, 172]
abbrev dktJ2_floatToIntBits_0 : List UInt8 := dkwJ2_floatToIntBits_0 ++ []
theorem dksJ2_floatToIntBits_0 : cJ2_floatToIntBits.data.toList.drop 0 = dktJ2_floatToIntBits_0 := by decide +kernel
theorem dJ2_floatToIntBits_0 : decode cJ2_floatToIntBits 0 = .ok (.fload_n 0, 1) := dk_34 (dk_at dksJ2_floatToIntBits_0 0 rfl rfl)
theorem dJ2_floatToIntBits_1 : decode cJ2_floatToIntBits 1 = .ok (.invokestatic 59, 3) := dk_184 0 59 (dk_at dksJ2_floatToIntBits_0 1 rfl rfl)
theorem dJ2_floatToIntBits_4 : decode cJ2_floatToIntBits 4 = .ok (.ifCond .ne 8, 3) := dk_154 0 8 (dk_at dksJ2_floatToIntBits_0 4 rfl rfl)
theorem dJ2_floatToIntBits_7 : decode cJ2_floatToIntBits 7 = .ok (.fload_n 0, 1) := dk_34 (dk_at dksJ2_floatToIntBits_0 7 rfl rfl)
theorem dJ2_floatToIntBits_8 : decode cJ2_floatToIntBits 8 = .ok (.invokestatic 74, 3) := dk_184 0 74 (dk_at dksJ2_floatToIntBits_0 8 rfl rfl)
theorem dJ2_floatToIntBits_11 : decode cJ2_floatToIntBits 11 = .ok (.ireturn, 1) := dk_172 (dk_at dksJ2_floatToIntBits_0 11 rfl rfl)
theorem dJ2_floatToIntBits_12 : decode cJ2_floatToIntBits 12 = .ok (.ldc 77, 2) := dk_18 77 (dk_at dksJ2_floatToIntBits_0 12 rfl rfl)
theorem dJ2_floatToIntBits_14 : decode cJ2_floatToIntBits 14 = .ok (.ireturn, 1) := dk_172 (dk_at dksJ2_floatToIntBits_0 14 rfl rfl)
abbrev cJ2_isNaN : ByteArray := prog_5_method_6_code
def yJ2_isNaN : MethodName := ⟨RJ2, "isNaN", "(F)Z"⟩
def dkwJ2_isNaN_0 : List UInt8 := [34, 34, 149, 153, 0, 7, 4, 167, 0, 4, 3, 172]
abbrev dktJ2_isNaN_0 : List UInt8 := dkwJ2_isNaN_0 ++ []
theorem dksJ2_isNaN_0 : cJ2_isNaN.data.toList.drop 0 = dktJ2_isNaN_0 := by decide +kernel
theorem dJ2_isNaN_0 : decode cJ2_isNaN 0 = .ok (.fload_n 0, 1) := dk_34 (dk_at dksJ2_isNaN_0 0 rfl rfl)
theorem dJ2_isNaN_1 : decode cJ2_isNaN 1 = .ok (.fload_n 0, 1) := dk_34 (dk_at dksJ2_isNaN_0 1 rfl rfl)
theorem dJ2_isNaN_2 : decode cJ2_isNaN 2 = .ok (.fcmp .l, 1) := dk_149 (dk_at dksJ2_isNaN_0 2 rfl rfl)
theorem dJ2_isNaN_3 : decode cJ2_isNaN 3 = .ok (.ifCond .eq 7, 3) := dk_153 0 7 (dk_at dksJ2_isNaN_0 3 rfl rfl)
theorem dJ2_isNaN_6 : decode cJ2_isNaN 6 = .ok (.iconst 1, 1) := dk_4 (dk_at dksJ2_isNaN_0 6 rfl rfl)
theorem dJ2_isNaN_7 : decode cJ2_isNaN 7 = .ok (.goto 4, 3) := dk_167 0 4 (dk_at dksJ2_isNaN_0 7 rfl rfl)
theorem dJ2_isNaN_10 : decode cJ2_isNaN 10 = .ok (.iconst 0, 1) := dk_3 (dk_at dksJ2_isNaN_0 10 rfl rfl)
theorem dJ2_isNaN_11 : decode cJ2_isNaN 11 = .ok (.ireturn, 1) := dk_172 (dk_at dksJ2_isNaN_0 11 rfl rfl)
theorem q260 : (Jvm.Cond.initialized "java/lang/Float") ∈ lw_all := lw_g (lw_at lw_m1 6 rfl) rfl
theorem q543 : (Jvm.Cond.static ({ cls := "java/lang/Float", name := "intBitsToFloat", desc := "(I)F" } : Jvm.MethodName)) ∈ lw_all := lw_g (lw_at lw_m2 49 rfl) rfl
theorem q544 : (Jvm.Cond.native ({ cls := "java/lang/Float", name := "intBitsToFloat", desc := "(I)F" } : Jvm.MethodName)) ∈ lw_all := lw_g (lw_at lw_m2 50 rfl) rfl
theorem q549 : (Jvm.Cond.static ({ cls := "java/lang/Float", name := "floatToIntBits", desc := "(F)I" } : Jvm.MethodName)) ∈ lw_all := lw_g (lw_at lw_m2 55 rfl) rfl
theorem q550 : (Jvm.Cond.code ({ cls := "java/lang/Float", name := "floatToIntBits", desc := "(F)I" } : Jvm.MethodName) prog_5_method_24_code (1 : Nat) (Option.some Jvm.ClassFile.FieldType.int)) ∈ lw_all := lw_g (lw_at lw_m2 56 rfl) rfl
theorem q551 : (Jvm.Cond.methodLink "java/lang/Float" (59 : Nat) ({ cls := "java/lang/Float", name := "isNaN", desc := "(F)Z" } : Jvm.MethodName)) ∈ lw_all := lw_g (lw_at lw_m2 57 rfl) rfl
theorem q552 : (Jvm.Cond.static ({ cls := "java/lang/Float", name := "isNaN", desc := "(F)Z" } : Jvm.MethodName)) ∈ lw_all := lw_g (lw_at lw_m2 58 rfl) rfl
theorem q553 : (Jvm.Cond.code ({ cls := "java/lang/Float", name := "isNaN", desc := "(F)Z" } : Jvm.MethodName) prog_5_method_6_code (1 : Nat) (Option.some Jvm.ClassFile.FieldType.boolean)) ∈ lw_all := lw_g (lw_at lw_m2 59 rfl) rfl
theorem q554 : (Jvm.Cond.methodLink "java/lang/Float" (74 : Nat) ({ cls := "java/lang/Float", name := "floatToRawIntBits", desc := "(F)I" } : Jvm.MethodName)) ∈ lw_all := lw_g (lw_at lw_m2 60 rfl) rfl
theorem q555 : (Jvm.Cond.static ({ cls := "java/lang/Float", name := "floatToRawIntBits", desc := "(F)I" } : Jvm.MethodName)) ∈ lw_all := lw_g (lw_at lw_m2 61 rfl) rfl
theorem q556 : (Jvm.Cond.native ({ cls := "java/lang/Float", name := "floatToRawIntBits", desc := "(F)I" } : Jvm.MethodName)) ∈ lw_all := lw_g (lw_at lw_m2 62 rfl) rfl
theorem q557 : (Jvm.Cond.constant "java/lang/Float" (77 : Nat) (2143289344 : Int32)) ∈ lw_all := lw_g (lw_at lw_m2 63 rfl) rfl

/-! java/lang/Double -/
set_option maxRecDepth 100000
def RJ3 : String := "java/lang/Double"
abbrev cJ3_doubleToLongBits : ByteArray := prog_4_method_23_code
def yJ3_doubleToLongBits : MethodName := ⟨RJ3, "doubleToLongBits", "(D)J"⟩
def dkwJ3_doubleToLongBits_0 : List UInt8 := [38, 184, 0, 122, 154, 0, 8, 38, 184, 0, 134, 173, 20, 0, 137, 173]
abbrev dktJ3_doubleToLongBits_0 : List UInt8 := dkwJ3_doubleToLongBits_0 ++ []
theorem dksJ3_doubleToLongBits_0 : cJ3_doubleToLongBits.data.toList.drop 0 = dktJ3_doubleToLongBits_0 := by decide +kernel
theorem dJ3_doubleToLongBits_0 : decode cJ3_doubleToLongBits 0 = .ok (.dload_n 0, 1) := dk_38 (dk_at dksJ3_doubleToLongBits_0 0 rfl rfl)
theorem dJ3_doubleToLongBits_1 : decode cJ3_doubleToLongBits 1 = .ok (.invokestatic 122, 3) := dk_184 0 122 (dk_at dksJ3_doubleToLongBits_0 1 rfl rfl)
theorem dJ3_doubleToLongBits_4 : decode cJ3_doubleToLongBits 4 = .ok (.ifCond .ne 8, 3) := dk_154 0 8 (dk_at dksJ3_doubleToLongBits_0 4 rfl rfl)
theorem dJ3_doubleToLongBits_7 : decode cJ3_doubleToLongBits 7 = .ok (.dload_n 0, 1) := dk_38 (dk_at dksJ3_doubleToLongBits_0 7 rfl rfl)
theorem dJ3_doubleToLongBits_8 : decode cJ3_doubleToLongBits 8 = .ok (.invokestatic 134, 3) := dk_184 0 134 (dk_at dksJ3_doubleToLongBits_0 8 rfl rfl)
theorem dJ3_doubleToLongBits_11 : decode cJ3_doubleToLongBits 11 = .ok (.lreturn, 1) := dk_173 (dk_at dksJ3_doubleToLongBits_0 11 rfl rfl)
theorem dJ3_doubleToLongBits_12 : decode cJ3_doubleToLongBits 12 = .ok (.ldc2_w 137, 3) := dk_20 0 137 (dk_at dksJ3_doubleToLongBits_0 12 rfl rfl)
theorem dJ3_doubleToLongBits_15 : decode cJ3_doubleToLongBits 15 = .ok (.lreturn, 1) := dk_173 (dk_at dksJ3_doubleToLongBits_0 15 rfl rfl)
abbrev cJ3_isNaN : ByteArray := prog_4_method_6_code
def yJ3_isNaN : MethodName := ⟨RJ3, "isNaN", "(D)Z"⟩
def dkwJ3_isNaN_0 : List UInt8 := [38, 38, 151, 153, 0, 7, 4, 167, 0, 4, 3, 172]
abbrev dktJ3_isNaN_0 : List UInt8 := dkwJ3_isNaN_0 ++ []
theorem dksJ3_isNaN_0 : cJ3_isNaN.data.toList.drop 0 = dktJ3_isNaN_0 := by decide +kernel
theorem dJ3_isNaN_0 : decode cJ3_isNaN 0 = .ok (.dload_n 0, 1) := dk_38 (dk_at dksJ3_isNaN_0 0 rfl rfl)
theorem dJ3_isNaN_1 : decode cJ3_isNaN 1 = .ok (.dload_n 0, 1) := dk_38 (dk_at dksJ3_isNaN_0 1 rfl rfl)
theorem dJ3_isNaN_2 : decode cJ3_isNaN 2 = .ok (.dcmp .l, 1) := dk_151 (dk_at dksJ3_isNaN_0 2 rfl rfl)
theorem dJ3_isNaN_3 : decode cJ3_isNaN 3 = .ok (.ifCond .eq 7, 3) := dk_153 0 7 (dk_at dksJ3_isNaN_0 3 rfl rfl)
theorem dJ3_isNaN_6 : decode cJ3_isNaN 6 = .ok (.iconst 1, 1) := dk_4 (dk_at dksJ3_isNaN_0 6 rfl rfl)
theorem dJ3_isNaN_7 : decode cJ3_isNaN 7 = .ok (.goto 4, 3) := dk_167 0 4 (dk_at dksJ3_isNaN_0 7 rfl rfl)
theorem dJ3_isNaN_10 : decode cJ3_isNaN 10 = .ok (.iconst 0, 1) := dk_3 (dk_at dksJ3_isNaN_0 10 rfl rfl)
theorem dJ3_isNaN_11 : decode cJ3_isNaN 11 = .ok (.ireturn, 1) := dk_172 (dk_at dksJ3_isNaN_0 11 rfl rfl)
theorem q261 : (Jvm.Cond.initialized "java/lang/Double") ∈ lw_all := lw_g (lw_at lw_m1 7 rfl) rfl
theorem q566 : (Jvm.Cond.static ({ cls := "java/lang/Double", name := "longBitsToDouble", desc := "(J)D" } : Jvm.MethodName)) ∈ lw_all := lw_g (lw_at lw_m2 72 rfl) rfl
theorem q567 : (Jvm.Cond.native ({ cls := "java/lang/Double", name := "longBitsToDouble", desc := "(J)D" } : Jvm.MethodName)) ∈ lw_all := lw_g (lw_at lw_m2 73 rfl) rfl
theorem q572 : (Jvm.Cond.static ({ cls := "java/lang/Double", name := "doubleToLongBits", desc := "(D)J" } : Jvm.MethodName)) ∈ lw_all := lw_g (lw_at lw_m2 78 rfl) rfl
theorem q573 : (Jvm.Cond.code ({ cls := "java/lang/Double", name := "doubleToLongBits", desc := "(D)J" } : Jvm.MethodName) prog_4_method_23_code (2 : Nat) (Option.some Jvm.ClassFile.FieldType.long)) ∈ lw_all := lw_g (lw_at lw_m2 79 rfl) rfl
theorem q574 : (Jvm.Cond.methodLink "java/lang/Double" (122 : Nat) ({ cls := "java/lang/Double", name := "isNaN", desc := "(D)Z" } : Jvm.MethodName)) ∈ lw_all := lw_g (lw_at lw_m2 80 rfl) rfl
theorem q575 : (Jvm.Cond.static ({ cls := "java/lang/Double", name := "isNaN", desc := "(D)Z" } : Jvm.MethodName)) ∈ lw_all := lw_g (lw_at lw_m2 81 rfl) rfl
theorem q576 : (Jvm.Cond.code ({ cls := "java/lang/Double", name := "isNaN", desc := "(D)Z" } : Jvm.MethodName) prog_4_method_6_code (2 : Nat) (Option.some Jvm.ClassFile.FieldType.boolean)) ∈ lw_all := lw_g (lw_at lw_m2 82 rfl) rfl
theorem q577 : (Jvm.Cond.methodLink "java/lang/Double" (134 : Nat) ({ cls := "java/lang/Double", name := "doubleToRawLongBits", desc := "(D)J" } : Jvm.MethodName)) ∈ lw_all := lw_g (lw_at lw_m2 83 rfl) rfl
theorem q578 : (Jvm.Cond.static ({ cls := "java/lang/Double", name := "doubleToRawLongBits", desc := "(D)J" } : Jvm.MethodName)) ∈ lw_all := lw_g (lw_at lw_m2 84 rfl) rfl
theorem q579 : (Jvm.Cond.native ({ cls := "java/lang/Double", name := "doubleToRawLongBits", desc := "(D)J" } : Jvm.MethodName)) ∈ lw_all := lw_g (lw_at lw_m2 85 rfl) rfl
theorem q580 : (Jvm.Cond.constantLong "java/lang/Double" (137 : Nat) (9221120237041090560 : Int64)) ∈ lw_all := lw_g (lw_at lw_m2 86 rfl) rfl

/-! java/lang/Object -/
set_option maxRecDepth 100000
def RJ4 : String := "java/lang/Object"
abbrev cJ4_init : ByteArray := object_method_1_code
def yJ4_init : MethodName := ⟨RJ4, "<init>", "()V"⟩
theorem dJ4_init_0 : decode cJ4_init 0 = .ok (.return_, 1) := by decide +kernel
theorem q794 : (Jvm.Cond.instanceMethod ({ cls := "java/lang/Object", name := "<init>", desc := "()V" } : Jvm.MethodName)) ∈ lw_all := lw_g (lw_at lw_m3 60 rfl) rfl
theorem q795 : (Jvm.Cond.code ({ cls := "java/lang/Object", name := "<init>", desc := "()V" } : Jvm.MethodName) object_method_1_code (1 : Nat) (Option.none : Option Jvm.ClassFile.FieldType)) ∈ lw_all := lw_g (lw_at lw_m3 61 rfl) rfl

theorem q1116 : (Jvm.Cond.arrayClass Jvm.ClassFile.FieldType.byte) ∈ lw_all := lw_g (lw_at lw_m4 142 rfl) rfl
set_option maxRecDepth 100000
theorem q1117 : (Jvm.Cond.arrayClass Jvm.ClassFile.FieldType.int) ∈ lw_all := lw_g (lw_at lw_m4 143 rfl) rfl
theorem q1118 : (Jvm.Cond.arrayClass Jvm.ClassFile.FieldType.boolean) ∈ lw_all := lw_g (lw_at lw_m4 144 rfl) rfl
theorem q1119 : (Jvm.Cond.arrayClass Jvm.ClassFile.FieldType.long) ∈ lw_all := lw_g (lw_at lw_m4 145 rfl) rfl

theorem q254 : (Jvm.Cond.initialized "CodeWriterLaw") ∈ lw_all := lw_g (lw_at lw_m1 0 rfl) rfl
set_option maxRecDepth 100000
theorem q263 : (Jvm.Cond.methodLink "CodeWriterLaw" (13 : Nat) ({ cls := "CodeWriter", name := "node", desc := "(III)I" } : Jvm.MethodName)) ∈ lw_all := lw_g (lw_at lw_m1 9 rfl) rfl
theorem q380 : (Jvm.Cond.methodLink "CodeWriterLaw" (18 : Nat) ({ cls := "CodeWriter", name := "of", desc := "(II)I" } : Jvm.MethodName)) ∈ lw_all := lw_g (lw_at lw_m1 126 rfl) rfl
theorem q384 : (Jvm.Cond.methodLink "CodeWriterLaw" (23 : Nat) ({ cls := "CodeWriter", name := "member", desc := "(III)I" } : Jvm.MethodName)) ∈ lw_all := lw_g (lw_at lw_m1 130 rfl) rfl
theorem q789 : (Jvm.Cond.classLink "CodeWriterLaw" (7 : Nat) "CodeWriter") ∈ lw_all := lw_g (lw_at lw_m3 55 rfl) rfl
theorem q790 : (Jvm.Cond.methodLink "CodeWriterLaw" (9 : Nat) ({ cls := "CodeWriter", name := "<init>", desc := "()V" } : Jvm.MethodName)) ∈ lw_all := lw_g (lw_at lw_m3 56 rfl) rfl
theorem q1120 : (Jvm.Cond.methodLink "CodeWriterLaw" (27 : Nat) ({ cls := "CodeWriter", name := "told", desc := "(II)I" } : Jvm.MethodName)) ∈ lw_all := lw_g (lw_at lw_m4 146 rfl) rfl
theorem q1128 : (Jvm.Cond.methodLink "CodeWriterLaw" (31 : Nat) ({ cls := "CodeWriter", name := "octet", desc := "(II)I" } : Jvm.MethodName)) ∈ lw_all := lw_g (lw_at lw_m4 154 rfl) rfl
theorem q1132 : (Jvm.Cond.methodLink "CodeWriterLaw" (35 : Nat) ({ cls := "CodeWriter", name := "pool", desc := "(III)I" } : Jvm.MethodName)) ∈ lw_all := lw_g (lw_at lw_m4 158 rfl) rfl
theorem q1136 : (Jvm.Cond.methodLink "CodeWriterLaw" (39 : Nat) ({ cls := "CodeWriter", name := "range", desc := "(III)I" } : Jvm.MethodName)) ∈ lw_all := lw_g (lw_at lw_m4 162 rfl) rfl
theorem q1140 : (Jvm.Cond.methodLink "CodeWriterLaw" (43 : Nat) ({ cls := "CodeWriter", name := "line", desc := "(III)I" } : Jvm.MethodName)) ∈ lw_all := lw_g (lw_at lw_m4 166 rfl) rfl
theorem q1144 : (Jvm.Cond.methodLink "CodeWriterLaw" (49 : Nat) ({ cls := "CodeWriter", name := "argument", desc := "(IJ)I" } : Jvm.MethodName)) ∈ lw_all := lw_g (lw_at lw_m4 170 rfl) rfl
theorem q1149 : (Jvm.Cond.methodLink "CodeWriterLaw" (54 : Nat) ({ cls := "CodeWriter", name := "forget", desc := "()I" } : Jvm.MethodName)) ∈ lw_all := lw_g (lw_at lw_m4 175 rfl) rfl
theorem q1153 : (Jvm.Cond.methodLink "CodeWriterLaw" (59 : Nat) ({ cls := "CodeWriter", name := "run", desc := "(II)I" } : Jvm.MethodName)) ∈ lw_all := lw_g (lw_at lw_m4 179 rfl) rfl
theorem q1343 : (Jvm.Cond.methodLink "CodeWriterLaw" (63 : Nat) ({ cls := "CodeWriter", name := "result", desc := "()J" } : Jvm.MethodName)) ∈ lw_all := lw_g (lw_at lw_m5 129 rfl) rfl
theorem q1347 : (Jvm.Cond.methodLink "CodeWriterLaw" (68 : Nat) ({ cls := "CodeWriter", name := "element", desc := "(I)J" } : Jvm.MethodName)) ∈ lw_all := lw_g (lw_at lw_m5 133 rfl) rfl
theorem q1351 : (Jvm.Cond.methodLink "CodeWriterLaw" (73 : Nat) ({ cls := "CodeWriter", name := "thrown", desc := "(I)I" } : Jvm.MethodName)) ∈ lw_all := lw_g (lw_at lw_m5 137 rfl) rfl
theorem q1355 : (Jvm.Cond.methodLink "CodeWriterLaw" (78 : Nat) ({ cls := "CodeWriter", name := "agree", desc := "(I)I" } : Jvm.MethodName)) ∈ lw_all := lw_g (lw_at lw_m5 141 rfl) rfl
theorem q1360 : (Jvm.Cond.classLink "CodeWriterLaw" (10 : Nat) "CodeWriterModel") ∈ lw_all := lw_g (lw_at lw_m5 146 rfl) rfl
theorem q1362 : (Jvm.Cond.methodLink "CodeWriterLaw" (12 : Nat) ({ cls := "CodeWriterModel", name := "<init>", desc := "()V" } : Jvm.MethodName)) ∈ lw_all := lw_g (lw_at lw_m5 148 rfl) rfl
theorem q1693 : (Jvm.Cond.methodLink "CodeWriterLaw" (17 : Nat) ({ cls := "CodeWriterModel", name := "node", desc := "(III)I" } : Jvm.MethodName)) ∈ lw_all := lw_g (lw_at lw_m6 239 rfl) rfl
theorem q1771 : (Jvm.Cond.methodLink "CodeWriterLaw" (22 : Nat) ({ cls := "CodeWriterModel", name := "of", desc := "(II)I" } : Jvm.MethodName)) ∈ lw_all := lw_g (lw_at lw_m7 77 rfl) rfl
theorem q1775 : (Jvm.Cond.methodLink "CodeWriterLaw" (26 : Nat) ({ cls := "CodeWriterModel", name := "member", desc := "(III)I" } : Jvm.MethodName)) ∈ lw_all := lw_g (lw_at lw_m7 81 rfl) rfl
theorem q2096 : (Jvm.Cond.methodLink "CodeWriterLaw" (30 : Nat) ({ cls := "CodeWriterModel", name := "told", desc := "(II)I" } : Jvm.MethodName)) ∈ lw_all := lw_g (lw_at lw_m8 162 rfl) rfl
theorem q2104 : (Jvm.Cond.methodLink "CodeWriterLaw" (34 : Nat) ({ cls := "CodeWriterModel", name := "octet", desc := "(II)I" } : Jvm.MethodName)) ∈ lw_all := lw_g (lw_at lw_m8 170 rfl) rfl
theorem q2108 : (Jvm.Cond.methodLink "CodeWriterLaw" (38 : Nat) ({ cls := "CodeWriterModel", name := "pool", desc := "(III)I" } : Jvm.MethodName)) ∈ lw_all := lw_g (lw_at lw_m8 174 rfl) rfl
theorem q2112 : (Jvm.Cond.methodLink "CodeWriterLaw" (42 : Nat) ({ cls := "CodeWriterModel", name := "range", desc := "(III)I" } : Jvm.MethodName)) ∈ lw_all := lw_g (lw_at lw_m8 178 rfl) rfl
theorem q2116 : (Jvm.Cond.methodLink "CodeWriterLaw" (46 : Nat) ({ cls := "CodeWriterModel", name := "line", desc := "(III)I" } : Jvm.MethodName)) ∈ lw_all := lw_g (lw_at lw_m8 182 rfl) rfl
theorem q2120 : (Jvm.Cond.methodLink "CodeWriterLaw" (53 : Nat) ({ cls := "CodeWriterModel", name := "argument", desc := "(IJ)I" } : Jvm.MethodName)) ∈ lw_all := lw_g (lw_at lw_m8 186 rfl) rfl
theorem q2125 : (Jvm.Cond.methodLink "CodeWriterLaw" (58 : Nat) ({ cls := "CodeWriterModel", name := "forget", desc := "()I" } : Jvm.MethodName)) ∈ lw_all := lw_g (lw_at lw_m8 191 rfl) rfl
theorem q2129 : (Jvm.Cond.methodLink "CodeWriterLaw" (62 : Nat) ({ cls := "CodeWriterModel", name := "run", desc := "(II)I" } : Jvm.MethodName)) ∈ lw_all := lw_g (lw_at lw_m8 195 rfl) rfl
theorem q2348 : (Jvm.Cond.methodLink "CodeWriterLaw" (67 : Nat) ({ cls := "CodeWriterModel", name := "result", desc := "()J" } : Jvm.MethodName)) ∈ lw_all := lw_g (lw_at lw_m9 174 rfl) rfl
theorem q2352 : (Jvm.Cond.methodLink "CodeWriterLaw" (72 : Nat) ({ cls := "CodeWriterModel", name := "element", desc := "(I)J" } : Jvm.MethodName)) ∈ lw_all := lw_g (lw_at lw_m9 178 rfl) rfl
theorem q2356 : (Jvm.Cond.methodLink "CodeWriterLaw" (77 : Nat) ({ cls := "CodeWriterModel", name := "thrown", desc := "(I)I" } : Jvm.MethodName)) ∈ lw_all := lw_g (lw_at lw_m9 182 rfl) rfl
theorem q2360 : (Jvm.Cond.methodLink "CodeWriterLaw" (81 : Nat) ({ cls := "CodeWriterModel", name := "agree", desc := "(I)I" } : Jvm.MethodName)) ∈ lw_all := lw_g (lw_at lw_m9 186 rfl) rfl
theorem q2367 : (Jvm.Cond.constantLong "CodeWriterLaw" (47 : Nat) (4294967295 : Int64)) ∈ lw_all := lw_g (lw_at lw_m9 193 rfl) rfl

theorem q259 : (Jvm.Cond.initialized "java/lang/Number") ∈ lw_all := lw_g (lw_at lw_m1 5 rfl) rfl
set_option maxRecDepth 100000

theorem q262 : (Jvm.Cond.initialized "java/lang/System") ∈ lw_all := lw_g (lw_at lw_m1 8 rfl) rfl
set_option maxRecDepth 100000
theorem q726 : (Jvm.Cond.static ({ cls := "java/lang/System", name := "arraycopy", desc := "(Ljava/lang/Object;ILjava/lang/Object;II)V" } : Jvm.MethodName)) ∈ lw_all := lw_g (lw_at lw_m2 232 rfl) rfl
theorem q727 : (Jvm.Cond.native ({ cls := "java/lang/System", name := "arraycopy", desc := "(Ljava/lang/Object;ILjava/lang/Object;II)V" } : Jvm.MethodName)) ∈ lw_all := lw_g (lw_at lw_m2 233 rfl) rfl

/-! the law's own entry -/
set_option maxRecDepth 100000
abbrev cL_law : ByteArray := code
def dkwL_law_24 : List UInt8 := [182, 0, 81, 159, 0, 5, 3, 172, 132, 3, 4, 167, 253, 168, 4, 172]
abbrev dktL_law_24 : List UInt8 := dkwL_law_24 ++ []
def dkwL_law_23 : List UInt8 := [182, 0, 77, 159, 0, 28, 3, 172, 43, 42, 29, 4, 96, 46, 182, 0, 78, 44, 42, 29, 4, 96, 46]
abbrev dktL_law_23 : List UInt8 := dkwL_law_23 ++ dktL_law_24
def dkwL_law_22 : List UInt8 := [182, 0, 72, 148, 153, 0, 51, 3, 172, 43, 42, 29, 4, 96, 46, 182, 0, 73, 44, 42, 29, 4, 96, 46]
abbrev dktL_law_22 : List UInt8 := dkwL_law_22 ++ dktL_law_23
def dkwL_law_21 : List UInt8 := [182, 0, 67, 148, 153, 0, 75, 3, 172, 43, 42, 29, 4, 96, 46, 182, 0, 68, 44, 42, 29, 4, 96, 46]
abbrev dktL_law_21 : List UInt8 := dkwL_law_21 ++ dktL_law_22
def dkwL_law_20 : List UInt8 := [42, 29, 4, 96, 46, 42, 29, 5, 96, 46, 182, 0, 62, 159, 0, 89, 3, 172, 43, 182, 0, 63, 44]
abbrev dktL_law_20 : List UInt8 := dkwL_law_20 ++ dktL_law_21
def dkwL_law_19 : List UInt8 := [44, 182, 0, 58, 159, 0, 122, 3, 172, 43, 42, 29, 4, 96, 46, 42, 29, 5, 96, 46, 182, 0, 59, 44]
abbrev dktL_law_19 : List UInt8 := dkwL_law_19 ++ dktL_law_20
def dkwL_law_18 : List UInt8 := [121, 42, 29, 6, 96, 46, 133, 20, 0, 47, 127, 129, 182, 0, 53, 159, 0, 135, 3, 172, 43, 182, 0, 54]
abbrev dktL_law_18 : List UInt8 := dkwL_law_18 ++ dktL_law_19
def dkwL_law_17 : List UInt8 := [46, 133, 20, 0, 47, 127, 129, 182, 0, 49, 44, 42, 29, 4, 96, 46, 42, 29, 5, 96, 46, 133, 16, 32]
abbrev dktL_law_17 : List UInt8 := dkwL_law_17 ++ dktL_law_18
def dkwL_law_16 : List UInt8 := [159, 0, 198, 3, 172, 43, 42, 29, 4, 96, 46, 42, 29, 5, 96, 46, 133, 16, 32, 121, 42, 29, 6, 96]
abbrev dktL_law_16 : List UInt8 := dkwL_law_16 ++ dktL_law_17
def dkwL_law_15 : List UInt8 := [182, 0, 43, 44, 42, 29, 4, 96, 46, 42, 29, 5, 96, 46, 42, 29, 6, 96, 46, 182, 0, 46]
abbrev dktL_law_15 : List UInt8 := dkwL_law_15 ++ dktL_law_16
def dkwL_law_14 : List UInt8 := [182, 0, 42, 159, 0, 241, 3, 172, 43, 42, 29, 4, 96, 46, 42, 29, 5, 96, 46, 42, 29, 6, 96, 46]
abbrev dktL_law_14 : List UInt8 := dkwL_law_14 ++ dktL_law_15
def dkwL_law_13 : List UInt8 := [42, 29, 6, 96, 46, 182, 0, 39, 44, 42, 29, 4, 96, 46, 42, 29, 5, 96, 46, 42, 29, 6, 96, 46]
abbrev dktL_law_13 : List UInt8 := dkwL_law_13 ++ dktL_law_14
def dkwL_law_12 : List UInt8 := [42, 29, 6, 96, 46, 182, 0, 38, 159, 1, 28, 3, 172, 43, 42, 29, 4, 96, 46, 42, 29, 5, 96, 46]
abbrev dktL_law_12 : List UInt8 := dkwL_law_12 ++ dktL_law_13
def dkwL_law_11 : List UInt8 := [42, 29, 5, 96, 46, 42, 29, 6, 96, 46, 182, 0, 35, 44, 42, 29, 4, 96, 46, 42, 29, 5, 96, 46]
abbrev dktL_law_11 : List UInt8 := dkwL_law_11 ++ dktL_law_12
def dkwL_law_10 : List UInt8 := [42, 29, 4, 96, 46, 42, 29, 5, 96, 46, 182, 0, 34, 159, 1, 71, 3, 172, 43, 42, 29, 4, 96, 46]
abbrev dktL_law_10 : List UInt8 := dkwL_law_10 ++ dktL_law_11
def dkwL_law_9 : List UInt8 := [46, 182, 0, 30, 159, 1, 104, 3, 172, 43, 42, 29, 4, 96, 46, 42, 29, 5, 96, 46, 182, 0, 31, 44]
abbrev dktL_law_9 : List UInt8 := dkwL_law_9 ++ dktL_law_10
def dkwL_law_8 : List UInt8 := [43, 42, 29, 4, 96, 46, 42, 29, 5, 96, 46, 182, 0, 27, 44, 42, 29, 4, 96, 46, 42, 29, 5, 96]
abbrev dktL_law_8 : List UInt8 := dkwL_law_8 ++ dktL_law_9
def dkwL_law_7 : List UInt8 := [44, 42, 29, 4, 96, 46, 42, 29, 5, 96, 46, 42, 29, 6, 96, 46, 182, 0, 26, 159, 1, 137, 3, 172]
abbrev dktL_law_7 : List UInt8 := dkwL_law_7 ++ dktL_law_8
def dkwL_law_6 : List UInt8 := [159, 1, 180, 3, 172, 43, 42, 29, 4, 96, 46, 42, 29, 5, 96, 46, 42, 29, 6, 96, 46, 182, 0, 23]
abbrev dktL_law_6 : List UInt8 := dkwL_law_6 ++ dktL_law_7
def dkwL_law_5 : List UInt8 := [46, 42, 29, 5, 96, 46, 182, 0, 18, 44, 42, 29, 4, 96, 46, 42, 29, 5, 96, 46, 182, 0, 22]
abbrev dktL_law_5 : List UInt8 := dkwL_law_5 ++ dktL_law_6
def dkwL_law_4 : List UInt8 := [46, 42, 29, 5, 96, 46, 42, 29, 6, 96, 46, 182, 0, 17, 159, 1, 213, 3, 172, 43, 42, 29, 4, 96]
abbrev dktL_law_4 : List UInt8 := dkwL_law_4 ++ dktL_law_5
def dkwL_law_3 : List UInt8 := [43, 42, 29, 4, 96, 46, 42, 29, 5, 96, 46, 42, 29, 6, 96, 46, 182, 0, 13, 44, 42, 29, 4, 96]
abbrev dktL_law_3 : List UInt8 := dkwL_law_3 ++ dktL_law_4
def dkwL_law_2 : List UInt8 := [170, 0, 0, 0, 0, 0, 2, 71, 0, 0, 0, 0, 0, 0, 0, 14, 0, 0, 0, 76, 0, 0, 0, 119, 0, 0, 0, 152, 0, 0, 0, 195, 0, 0, 0, 228, 0, 0, 1, 5, 0, 0, 1, 48, 0, 0, 1, 91, 0, 0, 1, 134, 0, 0, 1, 197, 0, 0, 1, 210, 0, 0, 1, 243, 0, 0, 2, 1, 0, 0, 2, 25, 0, 0, 2, 48]
abbrev dktL_law_2 : List UInt8 := dkwL_law_2 ++ dktL_law_3
def dkwL_law_1 : List UInt8 := [163, 2, 86, 42, 29, 46, 16, 15, 126]
abbrev dktL_law_1 : List UInt8 := dkwL_law_1 ++ dktL_law_2
def dkwL_law_0 : List UInt8 := [187, 0, 7, 89, 183, 0, 9, 76, 187, 0, 10, 89, 183, 0, 12, 77, 3, 62, 29, 42, 190, 7, 100]
abbrev dktL_law_0 : List UInt8 := dkwL_law_0 ++ dktL_law_1
theorem dksL_law_0 : cL_law.data.toList.drop 0 = dktL_law_0 := by decide +kernel
theorem dksL_law_1 : cL_law.data.toList.drop 23 = dktL_law_1 := dk_seg dksL_law_0 23 rfl rfl
theorem dksL_law_2 : cL_law.data.toList.drop 32 = dktL_law_2 := dk_seg dksL_law_1 9 rfl rfl
theorem dksL_law_3 : cL_law.data.toList.drop 108 = dktL_law_3 := dk_seg dksL_law_2 76 rfl rfl
theorem dksL_law_4 : cL_law.data.toList.drop 132 = dktL_law_4 := dk_seg dksL_law_3 24 rfl rfl
theorem dksL_law_5 : cL_law.data.toList.drop 156 = dktL_law_5 := dk_seg dksL_law_4 24 rfl rfl
theorem dksL_law_6 : cL_law.data.toList.drop 179 = dktL_law_6 := dk_seg dksL_law_5 23 rfl rfl
theorem dksL_law_7 : cL_law.data.toList.drop 203 = dktL_law_7 := dk_seg dksL_law_6 24 rfl rfl
theorem dksL_law_8 : cL_law.data.toList.drop 227 = dktL_law_8 := dk_seg dksL_law_7 24 rfl rfl
theorem dksL_law_9 : cL_law.data.toList.drop 251 = dktL_law_9 := dk_seg dksL_law_8 24 rfl rfl
theorem dksL_law_10 : cL_law.data.toList.drop 275 = dktL_law_10 := dk_seg dksL_law_9 24 rfl rfl
theorem dksL_law_11 : cL_law.data.toList.drop 299 = dktL_law_11 := dk_seg dksL_law_10 24 rfl rfl
theorem dksL_law_12 : cL_law.data.toList.drop 323 = dktL_law_12 := dk_seg dksL_law_11 24 rfl rfl
theorem dksL_law_13 : cL_law.data.toList.drop 347 = dktL_law_13 := dk_seg dksL_law_12 24 rfl rfl
theorem dksL_law_14 : cL_law.data.toList.drop 371 = dktL_law_14 := dk_seg dksL_law_13 24 rfl rfl
theorem dksL_law_15 : cL_law.data.toList.drop 395 = dktL_law_15 := dk_seg dksL_law_14 24 rfl rfl
theorem dksL_law_16 : cL_law.data.toList.drop 417 = dktL_law_16 := dk_seg dksL_law_15 22 rfl rfl
theorem dksL_law_17 : cL_law.data.toList.drop 441 = dktL_law_17 := dk_seg dksL_law_16 24 rfl rfl
theorem dksL_law_18 : cL_law.data.toList.drop 465 = dktL_law_18 := dk_seg dksL_law_17 24 rfl rfl
theorem dksL_law_19 : cL_law.data.toList.drop 489 = dktL_law_19 := dk_seg dksL_law_18 24 rfl rfl
theorem dksL_law_20 : cL_law.data.toList.drop 513 = dktL_law_20 := dk_seg dksL_law_19 24 rfl rfl
theorem dksL_law_21 : cL_law.data.toList.drop 536 = dktL_law_21 := dk_seg dksL_law_20 23 rfl rfl
theorem dksL_law_22 : cL_law.data.toList.drop 560 = dktL_law_22 := dk_seg dksL_law_21 24 rfl rfl
theorem dksL_law_23 : cL_law.data.toList.drop 584 = dktL_law_23 := dk_seg dksL_law_22 24 rfl rfl
theorem dksL_law_24 : cL_law.data.toList.drop 607 = dktL_law_24 := dk_seg dksL_law_23 23 rfl rfl
theorem dL_law_0 : decode cL_law 0 = .ok (.new 7, 3) := dk_187 0 7 (dk_at dksL_law_0 0 rfl rfl)
theorem dL_law_3 : decode cL_law 3 = .ok (.dup, 1) := dk_89 (dk_at dksL_law_0 3 rfl rfl)
theorem dL_law_4 : decode cL_law 4 = .ok (.invokespecial 9, 3) := dk_183 0 9 (dk_at dksL_law_0 4 rfl rfl)
theorem dL_law_7 : decode cL_law 7 = .ok (.astore_n 1, 1) := dk_76 (dk_at dksL_law_0 7 rfl rfl)
theorem dL_law_8 : decode cL_law 8 = .ok (.new 10, 3) := dk_187 0 10 (dk_at dksL_law_0 8 rfl rfl)
theorem dL_law_11 : decode cL_law 11 = .ok (.dup, 1) := dk_89 (dk_at dksL_law_0 11 rfl rfl)
theorem dL_law_12 : decode cL_law 12 = .ok (.invokespecial 12, 3) := dk_183 0 12 (dk_at dksL_law_0 12 rfl rfl)
theorem dL_law_15 : decode cL_law 15 = .ok (.astore_n 2, 1) := dk_77 (dk_at dksL_law_0 15 rfl rfl)
theorem dL_law_16 : decode cL_law 16 = .ok (.iconst 0, 1) := dk_3 (dk_at dksL_law_0 16 rfl rfl)
theorem dL_law_17 : decode cL_law 17 = .ok (.istore_n 3, 1) := dk_62 (dk_at dksL_law_0 17 rfl rfl)
theorem dL_law_18 : decode cL_law 18 = .ok (.iload_n 3, 1) := dk_29 (dk_at dksL_law_0 18 rfl rfl)
theorem dL_law_19 : decode cL_law 19 = .ok (.aload_n 0, 1) := dk_42 (dk_at dksL_law_0 19 rfl rfl)
theorem dL_law_20 : decode cL_law 20 = .ok (.arraylength, 1) := dk_190 (dk_at dksL_law_0 20 rfl rfl)
theorem dL_law_21 : decode cL_law 21 = .ok (.iconst 4, 1) := dk_7 (dk_at dksL_law_0 21 rfl rfl)
theorem dL_law_22 : decode cL_law 22 = .ok (.isub, 1) := dk_100 (dk_at dksL_law_0 22 rfl rfl)
theorem dL_law_23 : decode cL_law 23 = .ok (.if_icmp .gt 598, 3) := dk_163 2 86 (dk_at dksL_law_1 0 rfl rfl)
theorem dL_law_26 : decode cL_law 26 = .ok (.aload_n 0, 1) := dk_42 (dk_at dksL_law_1 3 rfl rfl)
theorem dL_law_27 : decode cL_law 27 = .ok (.iload_n 3, 1) := dk_29 (dk_at dksL_law_1 4 rfl rfl)
theorem dL_law_28 : decode cL_law 28 = .ok (.iaload, 1) := dk_46 (dk_at dksL_law_1 5 rfl rfl)
theorem dL_law_29 : decode cL_law 29 = .ok (.bipush 15, 2) := dk_16 15 (dk_at dksL_law_1 6 rfl rfl)
theorem dL_law_31 : decode cL_law 31 = .ok (.iand, 1) := dk_126 (dk_at dksL_law_1 8 rfl rfl)
theorem dL_law_32 : decode cL_law 32 = .ok (.tableswitch 583 0 14 #[76, 119, 152, 195, 228, 261, 304, 347, 390, 453, 466, 499, 513, 537, 560], 76) := by decide +kernel
theorem dL_law_108 : decode cL_law 108 = .ok (.aload_n 1, 1) := dk_43 (dk_at dksL_law_3 0 rfl rfl)
theorem dL_law_109 : decode cL_law 109 = .ok (.aload_n 0, 1) := dk_42 (dk_at dksL_law_3 1 rfl rfl)
theorem dL_law_110 : decode cL_law 110 = .ok (.iload_n 3, 1) := dk_29 (dk_at dksL_law_3 2 rfl rfl)
theorem dL_law_111 : decode cL_law 111 = .ok (.iconst 1, 1) := dk_4 (dk_at dksL_law_3 3 rfl rfl)
theorem dL_law_112 : decode cL_law 112 = .ok (.iadd, 1) := dk_96 (dk_at dksL_law_3 4 rfl rfl)
theorem dL_law_113 : decode cL_law 113 = .ok (.iaload, 1) := dk_46 (dk_at dksL_law_3 5 rfl rfl)
theorem dL_law_114 : decode cL_law 114 = .ok (.aload_n 0, 1) := dk_42 (dk_at dksL_law_3 6 rfl rfl)
theorem dL_law_115 : decode cL_law 115 = .ok (.iload_n 3, 1) := dk_29 (dk_at dksL_law_3 7 rfl rfl)
theorem dL_law_116 : decode cL_law 116 = .ok (.iconst 2, 1) := dk_5 (dk_at dksL_law_3 8 rfl rfl)
theorem dL_law_117 : decode cL_law 117 = .ok (.iadd, 1) := dk_96 (dk_at dksL_law_3 9 rfl rfl)
theorem dL_law_118 : decode cL_law 118 = .ok (.iaload, 1) := dk_46 (dk_at dksL_law_3 10 rfl rfl)
theorem dL_law_119 : decode cL_law 119 = .ok (.aload_n 0, 1) := dk_42 (dk_at dksL_law_3 11 rfl rfl)
theorem dL_law_120 : decode cL_law 120 = .ok (.iload_n 3, 1) := dk_29 (dk_at dksL_law_3 12 rfl rfl)
theorem dL_law_121 : decode cL_law 121 = .ok (.iconst 3, 1) := dk_6 (dk_at dksL_law_3 13 rfl rfl)
theorem dL_law_122 : decode cL_law 122 = .ok (.iadd, 1) := dk_96 (dk_at dksL_law_3 14 rfl rfl)
theorem dL_law_123 : decode cL_law 123 = .ok (.iaload, 1) := dk_46 (dk_at dksL_law_3 15 rfl rfl)
theorem dL_law_124 : decode cL_law 124 = .ok (.invokevirtual 13, 3) := dk_182 0 13 (dk_at dksL_law_3 16 rfl rfl)
theorem dL_law_127 : decode cL_law 127 = .ok (.aload_n 2, 1) := dk_44 (dk_at dksL_law_3 19 rfl rfl)
theorem dL_law_128 : decode cL_law 128 = .ok (.aload_n 0, 1) := dk_42 (dk_at dksL_law_3 20 rfl rfl)
theorem dL_law_129 : decode cL_law 129 = .ok (.iload_n 3, 1) := dk_29 (dk_at dksL_law_3 21 rfl rfl)
theorem dL_law_130 : decode cL_law 130 = .ok (.iconst 1, 1) := dk_4 (dk_at dksL_law_3 22 rfl rfl)
theorem dL_law_131 : decode cL_law 131 = .ok (.iadd, 1) := dk_96 (dk_at dksL_law_3 23 rfl rfl)
theorem dL_law_132 : decode cL_law 132 = .ok (.iaload, 1) := dk_46 (dk_at dksL_law_4 0 rfl rfl)
theorem dL_law_133 : decode cL_law 133 = .ok (.aload_n 0, 1) := dk_42 (dk_at dksL_law_4 1 rfl rfl)
theorem dL_law_134 : decode cL_law 134 = .ok (.iload_n 3, 1) := dk_29 (dk_at dksL_law_4 2 rfl rfl)
theorem dL_law_135 : decode cL_law 135 = .ok (.iconst 2, 1) := dk_5 (dk_at dksL_law_4 3 rfl rfl)
theorem dL_law_136 : decode cL_law 136 = .ok (.iadd, 1) := dk_96 (dk_at dksL_law_4 4 rfl rfl)
theorem dL_law_137 : decode cL_law 137 = .ok (.iaload, 1) := dk_46 (dk_at dksL_law_4 5 rfl rfl)
theorem dL_law_138 : decode cL_law 138 = .ok (.aload_n 0, 1) := dk_42 (dk_at dksL_law_4 6 rfl rfl)
theorem dL_law_139 : decode cL_law 139 = .ok (.iload_n 3, 1) := dk_29 (dk_at dksL_law_4 7 rfl rfl)
theorem dL_law_140 : decode cL_law 140 = .ok (.iconst 3, 1) := dk_6 (dk_at dksL_law_4 8 rfl rfl)
theorem dL_law_141 : decode cL_law 141 = .ok (.iadd, 1) := dk_96 (dk_at dksL_law_4 9 rfl rfl)
theorem dL_law_142 : decode cL_law 142 = .ok (.iaload, 1) := dk_46 (dk_at dksL_law_4 10 rfl rfl)
theorem dL_law_143 : decode cL_law 143 = .ok (.invokevirtual 17, 3) := dk_182 0 17 (dk_at dksL_law_4 11 rfl rfl)
theorem dL_law_146 : decode cL_law 146 = .ok (.if_icmp .eq 469, 3) := dk_159 1 213 (dk_at dksL_law_4 14 rfl rfl)
theorem dL_law_149 : decode cL_law 149 = .ok (.iconst 0, 1) := dk_3 (dk_at dksL_law_4 17 rfl rfl)
theorem dL_law_150 : decode cL_law 150 = .ok (.ireturn, 1) := dk_172 (dk_at dksL_law_4 18 rfl rfl)
theorem dL_law_151 : decode cL_law 151 = .ok (.aload_n 1, 1) := dk_43 (dk_at dksL_law_4 19 rfl rfl)
theorem dL_law_152 : decode cL_law 152 = .ok (.aload_n 0, 1) := dk_42 (dk_at dksL_law_4 20 rfl rfl)
theorem dL_law_153 : decode cL_law 153 = .ok (.iload_n 3, 1) := dk_29 (dk_at dksL_law_4 21 rfl rfl)
theorem dL_law_154 : decode cL_law 154 = .ok (.iconst 1, 1) := dk_4 (dk_at dksL_law_4 22 rfl rfl)
theorem dL_law_155 : decode cL_law 155 = .ok (.iadd, 1) := dk_96 (dk_at dksL_law_4 23 rfl rfl)
theorem dL_law_156 : decode cL_law 156 = .ok (.iaload, 1) := dk_46 (dk_at dksL_law_5 0 rfl rfl)
theorem dL_law_157 : decode cL_law 157 = .ok (.aload_n 0, 1) := dk_42 (dk_at dksL_law_5 1 rfl rfl)
theorem dL_law_158 : decode cL_law 158 = .ok (.iload_n 3, 1) := dk_29 (dk_at dksL_law_5 2 rfl rfl)
theorem dL_law_159 : decode cL_law 159 = .ok (.iconst 2, 1) := dk_5 (dk_at dksL_law_5 3 rfl rfl)
theorem dL_law_160 : decode cL_law 160 = .ok (.iadd, 1) := dk_96 (dk_at dksL_law_5 4 rfl rfl)
theorem dL_law_161 : decode cL_law 161 = .ok (.iaload, 1) := dk_46 (dk_at dksL_law_5 5 rfl rfl)
theorem dL_law_162 : decode cL_law 162 = .ok (.invokevirtual 18, 3) := dk_182 0 18 (dk_at dksL_law_5 6 rfl rfl)
theorem dL_law_165 : decode cL_law 165 = .ok (.aload_n 2, 1) := dk_44 (dk_at dksL_law_5 9 rfl rfl)
theorem dL_law_166 : decode cL_law 166 = .ok (.aload_n 0, 1) := dk_42 (dk_at dksL_law_5 10 rfl rfl)
theorem dL_law_167 : decode cL_law 167 = .ok (.iload_n 3, 1) := dk_29 (dk_at dksL_law_5 11 rfl rfl)
theorem dL_law_168 : decode cL_law 168 = .ok (.iconst 1, 1) := dk_4 (dk_at dksL_law_5 12 rfl rfl)
theorem dL_law_169 : decode cL_law 169 = .ok (.iadd, 1) := dk_96 (dk_at dksL_law_5 13 rfl rfl)
theorem dL_law_170 : decode cL_law 170 = .ok (.iaload, 1) := dk_46 (dk_at dksL_law_5 14 rfl rfl)
theorem dL_law_171 : decode cL_law 171 = .ok (.aload_n 0, 1) := dk_42 (dk_at dksL_law_5 15 rfl rfl)
theorem dL_law_172 : decode cL_law 172 = .ok (.iload_n 3, 1) := dk_29 (dk_at dksL_law_5 16 rfl rfl)
theorem dL_law_173 : decode cL_law 173 = .ok (.iconst 2, 1) := dk_5 (dk_at dksL_law_5 17 rfl rfl)
theorem dL_law_174 : decode cL_law 174 = .ok (.iadd, 1) := dk_96 (dk_at dksL_law_5 18 rfl rfl)
theorem dL_law_175 : decode cL_law 175 = .ok (.iaload, 1) := dk_46 (dk_at dksL_law_5 19 rfl rfl)
theorem dL_law_176 : decode cL_law 176 = .ok (.invokevirtual 22, 3) := dk_182 0 22 (dk_at dksL_law_5 20 rfl rfl)
theorem dL_law_179 : decode cL_law 179 = .ok (.if_icmp .eq 436, 3) := dk_159 1 180 (dk_at dksL_law_6 0 rfl rfl)
theorem dL_law_182 : decode cL_law 182 = .ok (.iconst 0, 1) := dk_3 (dk_at dksL_law_6 3 rfl rfl)
theorem dL_law_183 : decode cL_law 183 = .ok (.ireturn, 1) := dk_172 (dk_at dksL_law_6 4 rfl rfl)
theorem dL_law_184 : decode cL_law 184 = .ok (.aload_n 1, 1) := dk_43 (dk_at dksL_law_6 5 rfl rfl)
theorem dL_law_185 : decode cL_law 185 = .ok (.aload_n 0, 1) := dk_42 (dk_at dksL_law_6 6 rfl rfl)
theorem dL_law_186 : decode cL_law 186 = .ok (.iload_n 3, 1) := dk_29 (dk_at dksL_law_6 7 rfl rfl)
theorem dL_law_187 : decode cL_law 187 = .ok (.iconst 1, 1) := dk_4 (dk_at dksL_law_6 8 rfl rfl)
theorem dL_law_188 : decode cL_law 188 = .ok (.iadd, 1) := dk_96 (dk_at dksL_law_6 9 rfl rfl)
theorem dL_law_189 : decode cL_law 189 = .ok (.iaload, 1) := dk_46 (dk_at dksL_law_6 10 rfl rfl)
theorem dL_law_190 : decode cL_law 190 = .ok (.aload_n 0, 1) := dk_42 (dk_at dksL_law_6 11 rfl rfl)
theorem dL_law_191 : decode cL_law 191 = .ok (.iload_n 3, 1) := dk_29 (dk_at dksL_law_6 12 rfl rfl)
theorem dL_law_192 : decode cL_law 192 = .ok (.iconst 2, 1) := dk_5 (dk_at dksL_law_6 13 rfl rfl)
theorem dL_law_193 : decode cL_law 193 = .ok (.iadd, 1) := dk_96 (dk_at dksL_law_6 14 rfl rfl)
theorem dL_law_194 : decode cL_law 194 = .ok (.iaload, 1) := dk_46 (dk_at dksL_law_6 15 rfl rfl)
theorem dL_law_195 : decode cL_law 195 = .ok (.aload_n 0, 1) := dk_42 (dk_at dksL_law_6 16 rfl rfl)
theorem dL_law_196 : decode cL_law 196 = .ok (.iload_n 3, 1) := dk_29 (dk_at dksL_law_6 17 rfl rfl)
theorem dL_law_197 : decode cL_law 197 = .ok (.iconst 3, 1) := dk_6 (dk_at dksL_law_6 18 rfl rfl)
theorem dL_law_198 : decode cL_law 198 = .ok (.iadd, 1) := dk_96 (dk_at dksL_law_6 19 rfl rfl)
theorem dL_law_199 : decode cL_law 199 = .ok (.iaload, 1) := dk_46 (dk_at dksL_law_6 20 rfl rfl)
theorem dL_law_200 : decode cL_law 200 = .ok (.invokevirtual 23, 3) := dk_182 0 23 (dk_at dksL_law_6 21 rfl rfl)
theorem dL_law_203 : decode cL_law 203 = .ok (.aload_n 2, 1) := dk_44 (dk_at dksL_law_7 0 rfl rfl)
theorem dL_law_204 : decode cL_law 204 = .ok (.aload_n 0, 1) := dk_42 (dk_at dksL_law_7 1 rfl rfl)
theorem dL_law_205 : decode cL_law 205 = .ok (.iload_n 3, 1) := dk_29 (dk_at dksL_law_7 2 rfl rfl)
theorem dL_law_206 : decode cL_law 206 = .ok (.iconst 1, 1) := dk_4 (dk_at dksL_law_7 3 rfl rfl)
theorem dL_law_207 : decode cL_law 207 = .ok (.iadd, 1) := dk_96 (dk_at dksL_law_7 4 rfl rfl)
theorem dL_law_208 : decode cL_law 208 = .ok (.iaload, 1) := dk_46 (dk_at dksL_law_7 5 rfl rfl)
theorem dL_law_209 : decode cL_law 209 = .ok (.aload_n 0, 1) := dk_42 (dk_at dksL_law_7 6 rfl rfl)
theorem dL_law_210 : decode cL_law 210 = .ok (.iload_n 3, 1) := dk_29 (dk_at dksL_law_7 7 rfl rfl)
theorem dL_law_211 : decode cL_law 211 = .ok (.iconst 2, 1) := dk_5 (dk_at dksL_law_7 8 rfl rfl)
theorem dL_law_212 : decode cL_law 212 = .ok (.iadd, 1) := dk_96 (dk_at dksL_law_7 9 rfl rfl)
theorem dL_law_213 : decode cL_law 213 = .ok (.iaload, 1) := dk_46 (dk_at dksL_law_7 10 rfl rfl)
theorem dL_law_214 : decode cL_law 214 = .ok (.aload_n 0, 1) := dk_42 (dk_at dksL_law_7 11 rfl rfl)
theorem dL_law_215 : decode cL_law 215 = .ok (.iload_n 3, 1) := dk_29 (dk_at dksL_law_7 12 rfl rfl)
theorem dL_law_216 : decode cL_law 216 = .ok (.iconst 3, 1) := dk_6 (dk_at dksL_law_7 13 rfl rfl)
theorem dL_law_217 : decode cL_law 217 = .ok (.iadd, 1) := dk_96 (dk_at dksL_law_7 14 rfl rfl)
theorem dL_law_218 : decode cL_law 218 = .ok (.iaload, 1) := dk_46 (dk_at dksL_law_7 15 rfl rfl)
theorem dL_law_219 : decode cL_law 219 = .ok (.invokevirtual 26, 3) := dk_182 0 26 (dk_at dksL_law_7 16 rfl rfl)
theorem dL_law_222 : decode cL_law 222 = .ok (.if_icmp .eq 393, 3) := dk_159 1 137 (dk_at dksL_law_7 19 rfl rfl)
theorem dL_law_225 : decode cL_law 225 = .ok (.iconst 0, 1) := dk_3 (dk_at dksL_law_7 22 rfl rfl)
theorem dL_law_226 : decode cL_law 226 = .ok (.ireturn, 1) := dk_172 (dk_at dksL_law_7 23 rfl rfl)
theorem dL_law_227 : decode cL_law 227 = .ok (.aload_n 1, 1) := dk_43 (dk_at dksL_law_8 0 rfl rfl)
theorem dL_law_228 : decode cL_law 228 = .ok (.aload_n 0, 1) := dk_42 (dk_at dksL_law_8 1 rfl rfl)
theorem dL_law_229 : decode cL_law 229 = .ok (.iload_n 3, 1) := dk_29 (dk_at dksL_law_8 2 rfl rfl)
theorem dL_law_230 : decode cL_law 230 = .ok (.iconst 1, 1) := dk_4 (dk_at dksL_law_8 3 rfl rfl)
theorem dL_law_231 : decode cL_law 231 = .ok (.iadd, 1) := dk_96 (dk_at dksL_law_8 4 rfl rfl)
theorem dL_law_232 : decode cL_law 232 = .ok (.iaload, 1) := dk_46 (dk_at dksL_law_8 5 rfl rfl)
theorem dL_law_233 : decode cL_law 233 = .ok (.aload_n 0, 1) := dk_42 (dk_at dksL_law_8 6 rfl rfl)
theorem dL_law_234 : decode cL_law 234 = .ok (.iload_n 3, 1) := dk_29 (dk_at dksL_law_8 7 rfl rfl)
theorem dL_law_235 : decode cL_law 235 = .ok (.iconst 2, 1) := dk_5 (dk_at dksL_law_8 8 rfl rfl)
theorem dL_law_236 : decode cL_law 236 = .ok (.iadd, 1) := dk_96 (dk_at dksL_law_8 9 rfl rfl)
theorem dL_law_237 : decode cL_law 237 = .ok (.iaload, 1) := dk_46 (dk_at dksL_law_8 10 rfl rfl)
theorem dL_law_238 : decode cL_law 238 = .ok (.invokevirtual 27, 3) := dk_182 0 27 (dk_at dksL_law_8 11 rfl rfl)
theorem dL_law_241 : decode cL_law 241 = .ok (.aload_n 2, 1) := dk_44 (dk_at dksL_law_8 14 rfl rfl)
theorem dL_law_242 : decode cL_law 242 = .ok (.aload_n 0, 1) := dk_42 (dk_at dksL_law_8 15 rfl rfl)
theorem dL_law_243 : decode cL_law 243 = .ok (.iload_n 3, 1) := dk_29 (dk_at dksL_law_8 16 rfl rfl)
theorem dL_law_244 : decode cL_law 244 = .ok (.iconst 1, 1) := dk_4 (dk_at dksL_law_8 17 rfl rfl)
theorem dL_law_245 : decode cL_law 245 = .ok (.iadd, 1) := dk_96 (dk_at dksL_law_8 18 rfl rfl)
theorem dL_law_246 : decode cL_law 246 = .ok (.iaload, 1) := dk_46 (dk_at dksL_law_8 19 rfl rfl)
theorem dL_law_247 : decode cL_law 247 = .ok (.aload_n 0, 1) := dk_42 (dk_at dksL_law_8 20 rfl rfl)
theorem dL_law_248 : decode cL_law 248 = .ok (.iload_n 3, 1) := dk_29 (dk_at dksL_law_8 21 rfl rfl)
theorem dL_law_249 : decode cL_law 249 = .ok (.iconst 2, 1) := dk_5 (dk_at dksL_law_8 22 rfl rfl)
theorem dL_law_250 : decode cL_law 250 = .ok (.iadd, 1) := dk_96 (dk_at dksL_law_8 23 rfl rfl)
theorem dL_law_251 : decode cL_law 251 = .ok (.iaload, 1) := dk_46 (dk_at dksL_law_9 0 rfl rfl)
theorem dL_law_252 : decode cL_law 252 = .ok (.invokevirtual 30, 3) := dk_182 0 30 (dk_at dksL_law_9 1 rfl rfl)
theorem dL_law_255 : decode cL_law 255 = .ok (.if_icmp .eq 360, 3) := dk_159 1 104 (dk_at dksL_law_9 4 rfl rfl)
theorem dL_law_258 : decode cL_law 258 = .ok (.iconst 0, 1) := dk_3 (dk_at dksL_law_9 7 rfl rfl)
theorem dL_law_259 : decode cL_law 259 = .ok (.ireturn, 1) := dk_172 (dk_at dksL_law_9 8 rfl rfl)
theorem dL_law_260 : decode cL_law 260 = .ok (.aload_n 1, 1) := dk_43 (dk_at dksL_law_9 9 rfl rfl)
theorem dL_law_261 : decode cL_law 261 = .ok (.aload_n 0, 1) := dk_42 (dk_at dksL_law_9 10 rfl rfl)
theorem dL_law_262 : decode cL_law 262 = .ok (.iload_n 3, 1) := dk_29 (dk_at dksL_law_9 11 rfl rfl)
theorem dL_law_263 : decode cL_law 263 = .ok (.iconst 1, 1) := dk_4 (dk_at dksL_law_9 12 rfl rfl)
theorem dL_law_264 : decode cL_law 264 = .ok (.iadd, 1) := dk_96 (dk_at dksL_law_9 13 rfl rfl)
theorem dL_law_265 : decode cL_law 265 = .ok (.iaload, 1) := dk_46 (dk_at dksL_law_9 14 rfl rfl)
theorem dL_law_266 : decode cL_law 266 = .ok (.aload_n 0, 1) := dk_42 (dk_at dksL_law_9 15 rfl rfl)
theorem dL_law_267 : decode cL_law 267 = .ok (.iload_n 3, 1) := dk_29 (dk_at dksL_law_9 16 rfl rfl)
theorem dL_law_268 : decode cL_law 268 = .ok (.iconst 2, 1) := dk_5 (dk_at dksL_law_9 17 rfl rfl)
theorem dL_law_269 : decode cL_law 269 = .ok (.iadd, 1) := dk_96 (dk_at dksL_law_9 18 rfl rfl)
theorem dL_law_270 : decode cL_law 270 = .ok (.iaload, 1) := dk_46 (dk_at dksL_law_9 19 rfl rfl)
theorem dL_law_271 : decode cL_law 271 = .ok (.invokevirtual 31, 3) := dk_182 0 31 (dk_at dksL_law_9 20 rfl rfl)
theorem dL_law_274 : decode cL_law 274 = .ok (.aload_n 2, 1) := dk_44 (dk_at dksL_law_9 23 rfl rfl)
theorem dL_law_275 : decode cL_law 275 = .ok (.aload_n 0, 1) := dk_42 (dk_at dksL_law_10 0 rfl rfl)
theorem dL_law_276 : decode cL_law 276 = .ok (.iload_n 3, 1) := dk_29 (dk_at dksL_law_10 1 rfl rfl)
theorem dL_law_277 : decode cL_law 277 = .ok (.iconst 1, 1) := dk_4 (dk_at dksL_law_10 2 rfl rfl)
theorem dL_law_278 : decode cL_law 278 = .ok (.iadd, 1) := dk_96 (dk_at dksL_law_10 3 rfl rfl)
theorem dL_law_279 : decode cL_law 279 = .ok (.iaload, 1) := dk_46 (dk_at dksL_law_10 4 rfl rfl)
theorem dL_law_280 : decode cL_law 280 = .ok (.aload_n 0, 1) := dk_42 (dk_at dksL_law_10 5 rfl rfl)
theorem dL_law_281 : decode cL_law 281 = .ok (.iload_n 3, 1) := dk_29 (dk_at dksL_law_10 6 rfl rfl)
theorem dL_law_282 : decode cL_law 282 = .ok (.iconst 2, 1) := dk_5 (dk_at dksL_law_10 7 rfl rfl)
theorem dL_law_283 : decode cL_law 283 = .ok (.iadd, 1) := dk_96 (dk_at dksL_law_10 8 rfl rfl)
theorem dL_law_284 : decode cL_law 284 = .ok (.iaload, 1) := dk_46 (dk_at dksL_law_10 9 rfl rfl)
theorem dL_law_285 : decode cL_law 285 = .ok (.invokevirtual 34, 3) := dk_182 0 34 (dk_at dksL_law_10 10 rfl rfl)
theorem dL_law_288 : decode cL_law 288 = .ok (.if_icmp .eq 327, 3) := dk_159 1 71 (dk_at dksL_law_10 13 rfl rfl)
theorem dL_law_291 : decode cL_law 291 = .ok (.iconst 0, 1) := dk_3 (dk_at dksL_law_10 16 rfl rfl)
theorem dL_law_292 : decode cL_law 292 = .ok (.ireturn, 1) := dk_172 (dk_at dksL_law_10 17 rfl rfl)
theorem dL_law_293 : decode cL_law 293 = .ok (.aload_n 1, 1) := dk_43 (dk_at dksL_law_10 18 rfl rfl)
theorem dL_law_294 : decode cL_law 294 = .ok (.aload_n 0, 1) := dk_42 (dk_at dksL_law_10 19 rfl rfl)
theorem dL_law_295 : decode cL_law 295 = .ok (.iload_n 3, 1) := dk_29 (dk_at dksL_law_10 20 rfl rfl)
theorem dL_law_296 : decode cL_law 296 = .ok (.iconst 1, 1) := dk_4 (dk_at dksL_law_10 21 rfl rfl)
theorem dL_law_297 : decode cL_law 297 = .ok (.iadd, 1) := dk_96 (dk_at dksL_law_10 22 rfl rfl)
theorem dL_law_298 : decode cL_law 298 = .ok (.iaload, 1) := dk_46 (dk_at dksL_law_10 23 rfl rfl)
theorem dL_law_299 : decode cL_law 299 = .ok (.aload_n 0, 1) := dk_42 (dk_at dksL_law_11 0 rfl rfl)
theorem dL_law_300 : decode cL_law 300 = .ok (.iload_n 3, 1) := dk_29 (dk_at dksL_law_11 1 rfl rfl)
theorem dL_law_301 : decode cL_law 301 = .ok (.iconst 2, 1) := dk_5 (dk_at dksL_law_11 2 rfl rfl)
theorem dL_law_302 : decode cL_law 302 = .ok (.iadd, 1) := dk_96 (dk_at dksL_law_11 3 rfl rfl)
theorem dL_law_303 : decode cL_law 303 = .ok (.iaload, 1) := dk_46 (dk_at dksL_law_11 4 rfl rfl)
theorem dL_law_304 : decode cL_law 304 = .ok (.aload_n 0, 1) := dk_42 (dk_at dksL_law_11 5 rfl rfl)
theorem dL_law_305 : decode cL_law 305 = .ok (.iload_n 3, 1) := dk_29 (dk_at dksL_law_11 6 rfl rfl)
theorem dL_law_306 : decode cL_law 306 = .ok (.iconst 3, 1) := dk_6 (dk_at dksL_law_11 7 rfl rfl)
theorem dL_law_307 : decode cL_law 307 = .ok (.iadd, 1) := dk_96 (dk_at dksL_law_11 8 rfl rfl)
theorem dL_law_308 : decode cL_law 308 = .ok (.iaload, 1) := dk_46 (dk_at dksL_law_11 9 rfl rfl)
theorem dL_law_309 : decode cL_law 309 = .ok (.invokevirtual 35, 3) := dk_182 0 35 (dk_at dksL_law_11 10 rfl rfl)
theorem dL_law_312 : decode cL_law 312 = .ok (.aload_n 2, 1) := dk_44 (dk_at dksL_law_11 13 rfl rfl)
theorem dL_law_313 : decode cL_law 313 = .ok (.aload_n 0, 1) := dk_42 (dk_at dksL_law_11 14 rfl rfl)
theorem dL_law_314 : decode cL_law 314 = .ok (.iload_n 3, 1) := dk_29 (dk_at dksL_law_11 15 rfl rfl)
theorem dL_law_315 : decode cL_law 315 = .ok (.iconst 1, 1) := dk_4 (dk_at dksL_law_11 16 rfl rfl)
theorem dL_law_316 : decode cL_law 316 = .ok (.iadd, 1) := dk_96 (dk_at dksL_law_11 17 rfl rfl)
theorem dL_law_317 : decode cL_law 317 = .ok (.iaload, 1) := dk_46 (dk_at dksL_law_11 18 rfl rfl)
theorem dL_law_318 : decode cL_law 318 = .ok (.aload_n 0, 1) := dk_42 (dk_at dksL_law_11 19 rfl rfl)
theorem dL_law_319 : decode cL_law 319 = .ok (.iload_n 3, 1) := dk_29 (dk_at dksL_law_11 20 rfl rfl)
theorem dL_law_320 : decode cL_law 320 = .ok (.iconst 2, 1) := dk_5 (dk_at dksL_law_11 21 rfl rfl)
theorem dL_law_321 : decode cL_law 321 = .ok (.iadd, 1) := dk_96 (dk_at dksL_law_11 22 rfl rfl)
theorem dL_law_322 : decode cL_law 322 = .ok (.iaload, 1) := dk_46 (dk_at dksL_law_11 23 rfl rfl)
theorem dL_law_323 : decode cL_law 323 = .ok (.aload_n 0, 1) := dk_42 (dk_at dksL_law_12 0 rfl rfl)
theorem dL_law_324 : decode cL_law 324 = .ok (.iload_n 3, 1) := dk_29 (dk_at dksL_law_12 1 rfl rfl)
theorem dL_law_325 : decode cL_law 325 = .ok (.iconst 3, 1) := dk_6 (dk_at dksL_law_12 2 rfl rfl)
theorem dL_law_326 : decode cL_law 326 = .ok (.iadd, 1) := dk_96 (dk_at dksL_law_12 3 rfl rfl)
theorem dL_law_327 : decode cL_law 327 = .ok (.iaload, 1) := dk_46 (dk_at dksL_law_12 4 rfl rfl)
theorem dL_law_328 : decode cL_law 328 = .ok (.invokevirtual 38, 3) := dk_182 0 38 (dk_at dksL_law_12 5 rfl rfl)
theorem dL_law_331 : decode cL_law 331 = .ok (.if_icmp .eq 284, 3) := dk_159 1 28 (dk_at dksL_law_12 8 rfl rfl)
theorem dL_law_334 : decode cL_law 334 = .ok (.iconst 0, 1) := dk_3 (dk_at dksL_law_12 11 rfl rfl)
theorem dL_law_335 : decode cL_law 335 = .ok (.ireturn, 1) := dk_172 (dk_at dksL_law_12 12 rfl rfl)
theorem dL_law_336 : decode cL_law 336 = .ok (.aload_n 1, 1) := dk_43 (dk_at dksL_law_12 13 rfl rfl)
theorem dL_law_337 : decode cL_law 337 = .ok (.aload_n 0, 1) := dk_42 (dk_at dksL_law_12 14 rfl rfl)
theorem dL_law_338 : decode cL_law 338 = .ok (.iload_n 3, 1) := dk_29 (dk_at dksL_law_12 15 rfl rfl)
theorem dL_law_339 : decode cL_law 339 = .ok (.iconst 1, 1) := dk_4 (dk_at dksL_law_12 16 rfl rfl)
theorem dL_law_340 : decode cL_law 340 = .ok (.iadd, 1) := dk_96 (dk_at dksL_law_12 17 rfl rfl)
theorem dL_law_341 : decode cL_law 341 = .ok (.iaload, 1) := dk_46 (dk_at dksL_law_12 18 rfl rfl)
theorem dL_law_342 : decode cL_law 342 = .ok (.aload_n 0, 1) := dk_42 (dk_at dksL_law_12 19 rfl rfl)
theorem dL_law_343 : decode cL_law 343 = .ok (.iload_n 3, 1) := dk_29 (dk_at dksL_law_12 20 rfl rfl)
theorem dL_law_344 : decode cL_law 344 = .ok (.iconst 2, 1) := dk_5 (dk_at dksL_law_12 21 rfl rfl)
theorem dL_law_345 : decode cL_law 345 = .ok (.iadd, 1) := dk_96 (dk_at dksL_law_12 22 rfl rfl)
theorem dL_law_346 : decode cL_law 346 = .ok (.iaload, 1) := dk_46 (dk_at dksL_law_12 23 rfl rfl)
theorem dL_law_347 : decode cL_law 347 = .ok (.aload_n 0, 1) := dk_42 (dk_at dksL_law_13 0 rfl rfl)
theorem dL_law_348 : decode cL_law 348 = .ok (.iload_n 3, 1) := dk_29 (dk_at dksL_law_13 1 rfl rfl)
theorem dL_law_349 : decode cL_law 349 = .ok (.iconst 3, 1) := dk_6 (dk_at dksL_law_13 2 rfl rfl)
theorem dL_law_350 : decode cL_law 350 = .ok (.iadd, 1) := dk_96 (dk_at dksL_law_13 3 rfl rfl)
theorem dL_law_351 : decode cL_law 351 = .ok (.iaload, 1) := dk_46 (dk_at dksL_law_13 4 rfl rfl)
theorem dL_law_352 : decode cL_law 352 = .ok (.invokevirtual 39, 3) := dk_182 0 39 (dk_at dksL_law_13 5 rfl rfl)
theorem dL_law_355 : decode cL_law 355 = .ok (.aload_n 2, 1) := dk_44 (dk_at dksL_law_13 8 rfl rfl)
theorem dL_law_356 : decode cL_law 356 = .ok (.aload_n 0, 1) := dk_42 (dk_at dksL_law_13 9 rfl rfl)
theorem dL_law_357 : decode cL_law 357 = .ok (.iload_n 3, 1) := dk_29 (dk_at dksL_law_13 10 rfl rfl)
theorem dL_law_358 : decode cL_law 358 = .ok (.iconst 1, 1) := dk_4 (dk_at dksL_law_13 11 rfl rfl)
theorem dL_law_359 : decode cL_law 359 = .ok (.iadd, 1) := dk_96 (dk_at dksL_law_13 12 rfl rfl)
theorem dL_law_360 : decode cL_law 360 = .ok (.iaload, 1) := dk_46 (dk_at dksL_law_13 13 rfl rfl)
theorem dL_law_361 : decode cL_law 361 = .ok (.aload_n 0, 1) := dk_42 (dk_at dksL_law_13 14 rfl rfl)
theorem dL_law_362 : decode cL_law 362 = .ok (.iload_n 3, 1) := dk_29 (dk_at dksL_law_13 15 rfl rfl)
theorem dL_law_363 : decode cL_law 363 = .ok (.iconst 2, 1) := dk_5 (dk_at dksL_law_13 16 rfl rfl)
theorem dL_law_364 : decode cL_law 364 = .ok (.iadd, 1) := dk_96 (dk_at dksL_law_13 17 rfl rfl)
theorem dL_law_365 : decode cL_law 365 = .ok (.iaload, 1) := dk_46 (dk_at dksL_law_13 18 rfl rfl)
theorem dL_law_366 : decode cL_law 366 = .ok (.aload_n 0, 1) := dk_42 (dk_at dksL_law_13 19 rfl rfl)
theorem dL_law_367 : decode cL_law 367 = .ok (.iload_n 3, 1) := dk_29 (dk_at dksL_law_13 20 rfl rfl)
theorem dL_law_368 : decode cL_law 368 = .ok (.iconst 3, 1) := dk_6 (dk_at dksL_law_13 21 rfl rfl)
theorem dL_law_369 : decode cL_law 369 = .ok (.iadd, 1) := dk_96 (dk_at dksL_law_13 22 rfl rfl)
theorem dL_law_370 : decode cL_law 370 = .ok (.iaload, 1) := dk_46 (dk_at dksL_law_13 23 rfl rfl)
theorem dL_law_371 : decode cL_law 371 = .ok (.invokevirtual 42, 3) := dk_182 0 42 (dk_at dksL_law_14 0 rfl rfl)
theorem dL_law_374 : decode cL_law 374 = .ok (.if_icmp .eq 241, 3) := dk_159 0 241 (dk_at dksL_law_14 3 rfl rfl)
theorem dL_law_377 : decode cL_law 377 = .ok (.iconst 0, 1) := dk_3 (dk_at dksL_law_14 6 rfl rfl)
theorem dL_law_378 : decode cL_law 378 = .ok (.ireturn, 1) := dk_172 (dk_at dksL_law_14 7 rfl rfl)
theorem dL_law_379 : decode cL_law 379 = .ok (.aload_n 1, 1) := dk_43 (dk_at dksL_law_14 8 rfl rfl)
theorem dL_law_380 : decode cL_law 380 = .ok (.aload_n 0, 1) := dk_42 (dk_at dksL_law_14 9 rfl rfl)
theorem dL_law_381 : decode cL_law 381 = .ok (.iload_n 3, 1) := dk_29 (dk_at dksL_law_14 10 rfl rfl)
theorem dL_law_382 : decode cL_law 382 = .ok (.iconst 1, 1) := dk_4 (dk_at dksL_law_14 11 rfl rfl)
theorem dL_law_383 : decode cL_law 383 = .ok (.iadd, 1) := dk_96 (dk_at dksL_law_14 12 rfl rfl)
theorem dL_law_384 : decode cL_law 384 = .ok (.iaload, 1) := dk_46 (dk_at dksL_law_14 13 rfl rfl)
theorem dL_law_385 : decode cL_law 385 = .ok (.aload_n 0, 1) := dk_42 (dk_at dksL_law_14 14 rfl rfl)
theorem dL_law_386 : decode cL_law 386 = .ok (.iload_n 3, 1) := dk_29 (dk_at dksL_law_14 15 rfl rfl)
theorem dL_law_387 : decode cL_law 387 = .ok (.iconst 2, 1) := dk_5 (dk_at dksL_law_14 16 rfl rfl)
theorem dL_law_388 : decode cL_law 388 = .ok (.iadd, 1) := dk_96 (dk_at dksL_law_14 17 rfl rfl)
theorem dL_law_389 : decode cL_law 389 = .ok (.iaload, 1) := dk_46 (dk_at dksL_law_14 18 rfl rfl)
theorem dL_law_390 : decode cL_law 390 = .ok (.aload_n 0, 1) := dk_42 (dk_at dksL_law_14 19 rfl rfl)
theorem dL_law_391 : decode cL_law 391 = .ok (.iload_n 3, 1) := dk_29 (dk_at dksL_law_14 20 rfl rfl)
theorem dL_law_392 : decode cL_law 392 = .ok (.iconst 3, 1) := dk_6 (dk_at dksL_law_14 21 rfl rfl)
theorem dL_law_393 : decode cL_law 393 = .ok (.iadd, 1) := dk_96 (dk_at dksL_law_14 22 rfl rfl)
theorem dL_law_394 : decode cL_law 394 = .ok (.iaload, 1) := dk_46 (dk_at dksL_law_14 23 rfl rfl)
theorem dL_law_395 : decode cL_law 395 = .ok (.invokevirtual 43, 3) := dk_182 0 43 (dk_at dksL_law_15 0 rfl rfl)
theorem dL_law_398 : decode cL_law 398 = .ok (.aload_n 2, 1) := dk_44 (dk_at dksL_law_15 3 rfl rfl)
theorem dL_law_399 : decode cL_law 399 = .ok (.aload_n 0, 1) := dk_42 (dk_at dksL_law_15 4 rfl rfl)
theorem dL_law_400 : decode cL_law 400 = .ok (.iload_n 3, 1) := dk_29 (dk_at dksL_law_15 5 rfl rfl)
theorem dL_law_401 : decode cL_law 401 = .ok (.iconst 1, 1) := dk_4 (dk_at dksL_law_15 6 rfl rfl)
theorem dL_law_402 : decode cL_law 402 = .ok (.iadd, 1) := dk_96 (dk_at dksL_law_15 7 rfl rfl)
theorem dL_law_403 : decode cL_law 403 = .ok (.iaload, 1) := dk_46 (dk_at dksL_law_15 8 rfl rfl)
theorem dL_law_404 : decode cL_law 404 = .ok (.aload_n 0, 1) := dk_42 (dk_at dksL_law_15 9 rfl rfl)
theorem dL_law_405 : decode cL_law 405 = .ok (.iload_n 3, 1) := dk_29 (dk_at dksL_law_15 10 rfl rfl)
theorem dL_law_406 : decode cL_law 406 = .ok (.iconst 2, 1) := dk_5 (dk_at dksL_law_15 11 rfl rfl)
theorem dL_law_407 : decode cL_law 407 = .ok (.iadd, 1) := dk_96 (dk_at dksL_law_15 12 rfl rfl)
theorem dL_law_408 : decode cL_law 408 = .ok (.iaload, 1) := dk_46 (dk_at dksL_law_15 13 rfl rfl)
theorem dL_law_409 : decode cL_law 409 = .ok (.aload_n 0, 1) := dk_42 (dk_at dksL_law_15 14 rfl rfl)
theorem dL_law_410 : decode cL_law 410 = .ok (.iload_n 3, 1) := dk_29 (dk_at dksL_law_15 15 rfl rfl)
theorem dL_law_411 : decode cL_law 411 = .ok (.iconst 3, 1) := dk_6 (dk_at dksL_law_15 16 rfl rfl)
theorem dL_law_412 : decode cL_law 412 = .ok (.iadd, 1) := dk_96 (dk_at dksL_law_15 17 rfl rfl)
theorem dL_law_413 : decode cL_law 413 = .ok (.iaload, 1) := dk_46 (dk_at dksL_law_15 18 rfl rfl)
theorem dL_law_414 : decode cL_law 414 = .ok (.invokevirtual 46, 3) := dk_182 0 46 (dk_at dksL_law_15 19 rfl rfl)
theorem dL_law_417 : decode cL_law 417 = .ok (.if_icmp .eq 198, 3) := dk_159 0 198 (dk_at dksL_law_16 0 rfl rfl)
theorem dL_law_420 : decode cL_law 420 = .ok (.iconst 0, 1) := dk_3 (dk_at dksL_law_16 3 rfl rfl)
theorem dL_law_421 : decode cL_law 421 = .ok (.ireturn, 1) := dk_172 (dk_at dksL_law_16 4 rfl rfl)
theorem dL_law_422 : decode cL_law 422 = .ok (.aload_n 1, 1) := dk_43 (dk_at dksL_law_16 5 rfl rfl)
theorem dL_law_423 : decode cL_law 423 = .ok (.aload_n 0, 1) := dk_42 (dk_at dksL_law_16 6 rfl rfl)
theorem dL_law_424 : decode cL_law 424 = .ok (.iload_n 3, 1) := dk_29 (dk_at dksL_law_16 7 rfl rfl)
theorem dL_law_425 : decode cL_law 425 = .ok (.iconst 1, 1) := dk_4 (dk_at dksL_law_16 8 rfl rfl)
theorem dL_law_426 : decode cL_law 426 = .ok (.iadd, 1) := dk_96 (dk_at dksL_law_16 9 rfl rfl)
theorem dL_law_427 : decode cL_law 427 = .ok (.iaload, 1) := dk_46 (dk_at dksL_law_16 10 rfl rfl)
theorem dL_law_428 : decode cL_law 428 = .ok (.aload_n 0, 1) := dk_42 (dk_at dksL_law_16 11 rfl rfl)
theorem dL_law_429 : decode cL_law 429 = .ok (.iload_n 3, 1) := dk_29 (dk_at dksL_law_16 12 rfl rfl)
theorem dL_law_430 : decode cL_law 430 = .ok (.iconst 2, 1) := dk_5 (dk_at dksL_law_16 13 rfl rfl)
theorem dL_law_431 : decode cL_law 431 = .ok (.iadd, 1) := dk_96 (dk_at dksL_law_16 14 rfl rfl)
theorem dL_law_432 : decode cL_law 432 = .ok (.iaload, 1) := dk_46 (dk_at dksL_law_16 15 rfl rfl)
theorem dL_law_433 : decode cL_law 433 = .ok (.i2l, 1) := dk_133 (dk_at dksL_law_16 16 rfl rfl)
theorem dL_law_434 : decode cL_law 434 = .ok (.bipush 32, 2) := dk_16 32 (dk_at dksL_law_16 17 rfl rfl)
theorem dL_law_436 : decode cL_law 436 = .ok (.lshl, 1) := dk_121 (dk_at dksL_law_16 19 rfl rfl)
theorem dL_law_437 : decode cL_law 437 = .ok (.aload_n 0, 1) := dk_42 (dk_at dksL_law_16 20 rfl rfl)
theorem dL_law_438 : decode cL_law 438 = .ok (.iload_n 3, 1) := dk_29 (dk_at dksL_law_16 21 rfl rfl)
theorem dL_law_439 : decode cL_law 439 = .ok (.iconst 3, 1) := dk_6 (dk_at dksL_law_16 22 rfl rfl)
theorem dL_law_440 : decode cL_law 440 = .ok (.iadd, 1) := dk_96 (dk_at dksL_law_16 23 rfl rfl)
theorem dL_law_441 : decode cL_law 441 = .ok (.iaload, 1) := dk_46 (dk_at dksL_law_17 0 rfl rfl)
theorem dL_law_442 : decode cL_law 442 = .ok (.i2l, 1) := dk_133 (dk_at dksL_law_17 1 rfl rfl)
theorem dL_law_443 : decode cL_law 443 = .ok (.ldc2_w 47, 3) := dk_20 0 47 (dk_at dksL_law_17 2 rfl rfl)
theorem dL_law_446 : decode cL_law 446 = .ok (.land, 1) := dk_127 (dk_at dksL_law_17 5 rfl rfl)
theorem dL_law_447 : decode cL_law 447 = .ok (.lor, 1) := dk_129 (dk_at dksL_law_17 6 rfl rfl)
theorem dL_law_448 : decode cL_law 448 = .ok (.invokevirtual 49, 3) := dk_182 0 49 (dk_at dksL_law_17 7 rfl rfl)
theorem dL_law_451 : decode cL_law 451 = .ok (.aload_n 2, 1) := dk_44 (dk_at dksL_law_17 10 rfl rfl)
theorem dL_law_452 : decode cL_law 452 = .ok (.aload_n 0, 1) := dk_42 (dk_at dksL_law_17 11 rfl rfl)
theorem dL_law_453 : decode cL_law 453 = .ok (.iload_n 3, 1) := dk_29 (dk_at dksL_law_17 12 rfl rfl)
theorem dL_law_454 : decode cL_law 454 = .ok (.iconst 1, 1) := dk_4 (dk_at dksL_law_17 13 rfl rfl)
theorem dL_law_455 : decode cL_law 455 = .ok (.iadd, 1) := dk_96 (dk_at dksL_law_17 14 rfl rfl)
theorem dL_law_456 : decode cL_law 456 = .ok (.iaload, 1) := dk_46 (dk_at dksL_law_17 15 rfl rfl)
theorem dL_law_457 : decode cL_law 457 = .ok (.aload_n 0, 1) := dk_42 (dk_at dksL_law_17 16 rfl rfl)
theorem dL_law_458 : decode cL_law 458 = .ok (.iload_n 3, 1) := dk_29 (dk_at dksL_law_17 17 rfl rfl)
theorem dL_law_459 : decode cL_law 459 = .ok (.iconst 2, 1) := dk_5 (dk_at dksL_law_17 18 rfl rfl)
theorem dL_law_460 : decode cL_law 460 = .ok (.iadd, 1) := dk_96 (dk_at dksL_law_17 19 rfl rfl)
theorem dL_law_461 : decode cL_law 461 = .ok (.iaload, 1) := dk_46 (dk_at dksL_law_17 20 rfl rfl)
theorem dL_law_462 : decode cL_law 462 = .ok (.i2l, 1) := dk_133 (dk_at dksL_law_17 21 rfl rfl)
theorem dL_law_463 : decode cL_law 463 = .ok (.bipush 32, 2) := dk_16 32 (dk_at dksL_law_17 22 rfl rfl)
theorem dL_law_465 : decode cL_law 465 = .ok (.lshl, 1) := dk_121 (dk_at dksL_law_18 0 rfl rfl)
theorem dL_law_466 : decode cL_law 466 = .ok (.aload_n 0, 1) := dk_42 (dk_at dksL_law_18 1 rfl rfl)
theorem dL_law_467 : decode cL_law 467 = .ok (.iload_n 3, 1) := dk_29 (dk_at dksL_law_18 2 rfl rfl)
theorem dL_law_468 : decode cL_law 468 = .ok (.iconst 3, 1) := dk_6 (dk_at dksL_law_18 3 rfl rfl)
theorem dL_law_469 : decode cL_law 469 = .ok (.iadd, 1) := dk_96 (dk_at dksL_law_18 4 rfl rfl)
theorem dL_law_470 : decode cL_law 470 = .ok (.iaload, 1) := dk_46 (dk_at dksL_law_18 5 rfl rfl)
theorem dL_law_471 : decode cL_law 471 = .ok (.i2l, 1) := dk_133 (dk_at dksL_law_18 6 rfl rfl)
theorem dL_law_472 : decode cL_law 472 = .ok (.ldc2_w 47, 3) := dk_20 0 47 (dk_at dksL_law_18 7 rfl rfl)
theorem dL_law_475 : decode cL_law 475 = .ok (.land, 1) := dk_127 (dk_at dksL_law_18 10 rfl rfl)
theorem dL_law_476 : decode cL_law 476 = .ok (.lor, 1) := dk_129 (dk_at dksL_law_18 11 rfl rfl)
theorem dL_law_477 : decode cL_law 477 = .ok (.invokevirtual 53, 3) := dk_182 0 53 (dk_at dksL_law_18 12 rfl rfl)
theorem dL_law_480 : decode cL_law 480 = .ok (.if_icmp .eq 135, 3) := dk_159 0 135 (dk_at dksL_law_18 15 rfl rfl)
theorem dL_law_483 : decode cL_law 483 = .ok (.iconst 0, 1) := dk_3 (dk_at dksL_law_18 18 rfl rfl)
theorem dL_law_484 : decode cL_law 484 = .ok (.ireturn, 1) := dk_172 (dk_at dksL_law_18 19 rfl rfl)
theorem dL_law_485 : decode cL_law 485 = .ok (.aload_n 1, 1) := dk_43 (dk_at dksL_law_18 20 rfl rfl)
theorem dL_law_486 : decode cL_law 486 = .ok (.invokevirtual 54, 3) := dk_182 0 54 (dk_at dksL_law_18 21 rfl rfl)
theorem dL_law_489 : decode cL_law 489 = .ok (.aload_n 2, 1) := dk_44 (dk_at dksL_law_19 0 rfl rfl)
theorem dL_law_490 : decode cL_law 490 = .ok (.invokevirtual 58, 3) := dk_182 0 58 (dk_at dksL_law_19 1 rfl rfl)
theorem dL_law_493 : decode cL_law 493 = .ok (.if_icmp .eq 122, 3) := dk_159 0 122 (dk_at dksL_law_19 4 rfl rfl)
theorem dL_law_496 : decode cL_law 496 = .ok (.iconst 0, 1) := dk_3 (dk_at dksL_law_19 7 rfl rfl)
theorem dL_law_497 : decode cL_law 497 = .ok (.ireturn, 1) := dk_172 (dk_at dksL_law_19 8 rfl rfl)
theorem dL_law_498 : decode cL_law 498 = .ok (.aload_n 1, 1) := dk_43 (dk_at dksL_law_19 9 rfl rfl)
theorem dL_law_499 : decode cL_law 499 = .ok (.aload_n 0, 1) := dk_42 (dk_at dksL_law_19 10 rfl rfl)
theorem dL_law_500 : decode cL_law 500 = .ok (.iload_n 3, 1) := dk_29 (dk_at dksL_law_19 11 rfl rfl)
theorem dL_law_501 : decode cL_law 501 = .ok (.iconst 1, 1) := dk_4 (dk_at dksL_law_19 12 rfl rfl)
theorem dL_law_502 : decode cL_law 502 = .ok (.iadd, 1) := dk_96 (dk_at dksL_law_19 13 rfl rfl)
theorem dL_law_503 : decode cL_law 503 = .ok (.iaload, 1) := dk_46 (dk_at dksL_law_19 14 rfl rfl)
theorem dL_law_504 : decode cL_law 504 = .ok (.aload_n 0, 1) := dk_42 (dk_at dksL_law_19 15 rfl rfl)
theorem dL_law_505 : decode cL_law 505 = .ok (.iload_n 3, 1) := dk_29 (dk_at dksL_law_19 16 rfl rfl)
theorem dL_law_506 : decode cL_law 506 = .ok (.iconst 2, 1) := dk_5 (dk_at dksL_law_19 17 rfl rfl)
theorem dL_law_507 : decode cL_law 507 = .ok (.iadd, 1) := dk_96 (dk_at dksL_law_19 18 rfl rfl)
theorem dL_law_508 : decode cL_law 508 = .ok (.iaload, 1) := dk_46 (dk_at dksL_law_19 19 rfl rfl)
theorem dL_law_509 : decode cL_law 509 = .ok (.invokevirtual 59, 3) := dk_182 0 59 (dk_at dksL_law_19 20 rfl rfl)
theorem dL_law_512 : decode cL_law 512 = .ok (.aload_n 2, 1) := dk_44 (dk_at dksL_law_19 23 rfl rfl)
theorem dL_law_513 : decode cL_law 513 = .ok (.aload_n 0, 1) := dk_42 (dk_at dksL_law_20 0 rfl rfl)
theorem dL_law_514 : decode cL_law 514 = .ok (.iload_n 3, 1) := dk_29 (dk_at dksL_law_20 1 rfl rfl)
theorem dL_law_515 : decode cL_law 515 = .ok (.iconst 1, 1) := dk_4 (dk_at dksL_law_20 2 rfl rfl)
theorem dL_law_516 : decode cL_law 516 = .ok (.iadd, 1) := dk_96 (dk_at dksL_law_20 3 rfl rfl)
theorem dL_law_517 : decode cL_law 517 = .ok (.iaload, 1) := dk_46 (dk_at dksL_law_20 4 rfl rfl)
theorem dL_law_518 : decode cL_law 518 = .ok (.aload_n 0, 1) := dk_42 (dk_at dksL_law_20 5 rfl rfl)
theorem dL_law_519 : decode cL_law 519 = .ok (.iload_n 3, 1) := dk_29 (dk_at dksL_law_20 6 rfl rfl)
theorem dL_law_520 : decode cL_law 520 = .ok (.iconst 2, 1) := dk_5 (dk_at dksL_law_20 7 rfl rfl)
theorem dL_law_521 : decode cL_law 521 = .ok (.iadd, 1) := dk_96 (dk_at dksL_law_20 8 rfl rfl)
theorem dL_law_522 : decode cL_law 522 = .ok (.iaload, 1) := dk_46 (dk_at dksL_law_20 9 rfl rfl)
theorem dL_law_523 : decode cL_law 523 = .ok (.invokevirtual 62, 3) := dk_182 0 62 (dk_at dksL_law_20 10 rfl rfl)
theorem dL_law_526 : decode cL_law 526 = .ok (.if_icmp .eq 89, 3) := dk_159 0 89 (dk_at dksL_law_20 13 rfl rfl)
theorem dL_law_529 : decode cL_law 529 = .ok (.iconst 0, 1) := dk_3 (dk_at dksL_law_20 16 rfl rfl)
theorem dL_law_530 : decode cL_law 530 = .ok (.ireturn, 1) := dk_172 (dk_at dksL_law_20 17 rfl rfl)
theorem dL_law_531 : decode cL_law 531 = .ok (.aload_n 1, 1) := dk_43 (dk_at dksL_law_20 18 rfl rfl)
theorem dL_law_532 : decode cL_law 532 = .ok (.invokevirtual 63, 3) := dk_182 0 63 (dk_at dksL_law_20 19 rfl rfl)
theorem dL_law_535 : decode cL_law 535 = .ok (.aload_n 2, 1) := dk_44 (dk_at dksL_law_20 22 rfl rfl)
theorem dL_law_536 : decode cL_law 536 = .ok (.invokevirtual 67, 3) := dk_182 0 67 (dk_at dksL_law_21 0 rfl rfl)
theorem dL_law_539 : decode cL_law 539 = .ok (.lcmp, 1) := dk_148 (dk_at dksL_law_21 3 rfl rfl)
theorem dL_law_540 : decode cL_law 540 = .ok (.ifCond .eq 75, 3) := dk_153 0 75 (dk_at dksL_law_21 4 rfl rfl)
theorem dL_law_543 : decode cL_law 543 = .ok (.iconst 0, 1) := dk_3 (dk_at dksL_law_21 7 rfl rfl)
theorem dL_law_544 : decode cL_law 544 = .ok (.ireturn, 1) := dk_172 (dk_at dksL_law_21 8 rfl rfl)
theorem dL_law_545 : decode cL_law 545 = .ok (.aload_n 1, 1) := dk_43 (dk_at dksL_law_21 9 rfl rfl)
theorem dL_law_546 : decode cL_law 546 = .ok (.aload_n 0, 1) := dk_42 (dk_at dksL_law_21 10 rfl rfl)
theorem dL_law_547 : decode cL_law 547 = .ok (.iload_n 3, 1) := dk_29 (dk_at dksL_law_21 11 rfl rfl)
theorem dL_law_548 : decode cL_law 548 = .ok (.iconst 1, 1) := dk_4 (dk_at dksL_law_21 12 rfl rfl)
theorem dL_law_549 : decode cL_law 549 = .ok (.iadd, 1) := dk_96 (dk_at dksL_law_21 13 rfl rfl)
theorem dL_law_550 : decode cL_law 550 = .ok (.iaload, 1) := dk_46 (dk_at dksL_law_21 14 rfl rfl)
theorem dL_law_551 : decode cL_law 551 = .ok (.invokevirtual 68, 3) := dk_182 0 68 (dk_at dksL_law_21 15 rfl rfl)
theorem dL_law_554 : decode cL_law 554 = .ok (.aload_n 2, 1) := dk_44 (dk_at dksL_law_21 18 rfl rfl)
theorem dL_law_555 : decode cL_law 555 = .ok (.aload_n 0, 1) := dk_42 (dk_at dksL_law_21 19 rfl rfl)
theorem dL_law_556 : decode cL_law 556 = .ok (.iload_n 3, 1) := dk_29 (dk_at dksL_law_21 20 rfl rfl)
theorem dL_law_557 : decode cL_law 557 = .ok (.iconst 1, 1) := dk_4 (dk_at dksL_law_21 21 rfl rfl)
theorem dL_law_558 : decode cL_law 558 = .ok (.iadd, 1) := dk_96 (dk_at dksL_law_21 22 rfl rfl)
theorem dL_law_559 : decode cL_law 559 = .ok (.iaload, 1) := dk_46 (dk_at dksL_law_21 23 rfl rfl)
theorem dL_law_560 : decode cL_law 560 = .ok (.invokevirtual 72, 3) := dk_182 0 72 (dk_at dksL_law_22 0 rfl rfl)
theorem dL_law_563 : decode cL_law 563 = .ok (.lcmp, 1) := dk_148 (dk_at dksL_law_22 3 rfl rfl)
theorem dL_law_564 : decode cL_law 564 = .ok (.ifCond .eq 51, 3) := dk_153 0 51 (dk_at dksL_law_22 4 rfl rfl)
theorem dL_law_567 : decode cL_law 567 = .ok (.iconst 0, 1) := dk_3 (dk_at dksL_law_22 7 rfl rfl)
theorem dL_law_568 : decode cL_law 568 = .ok (.ireturn, 1) := dk_172 (dk_at dksL_law_22 8 rfl rfl)
theorem dL_law_569 : decode cL_law 569 = .ok (.aload_n 1, 1) := dk_43 (dk_at dksL_law_22 9 rfl rfl)
theorem dL_law_570 : decode cL_law 570 = .ok (.aload_n 0, 1) := dk_42 (dk_at dksL_law_22 10 rfl rfl)
theorem dL_law_571 : decode cL_law 571 = .ok (.iload_n 3, 1) := dk_29 (dk_at dksL_law_22 11 rfl rfl)
theorem dL_law_572 : decode cL_law 572 = .ok (.iconst 1, 1) := dk_4 (dk_at dksL_law_22 12 rfl rfl)
theorem dL_law_573 : decode cL_law 573 = .ok (.iadd, 1) := dk_96 (dk_at dksL_law_22 13 rfl rfl)
theorem dL_law_574 : decode cL_law 574 = .ok (.iaload, 1) := dk_46 (dk_at dksL_law_22 14 rfl rfl)
theorem dL_law_575 : decode cL_law 575 = .ok (.invokevirtual 73, 3) := dk_182 0 73 (dk_at dksL_law_22 15 rfl rfl)
theorem dL_law_578 : decode cL_law 578 = .ok (.aload_n 2, 1) := dk_44 (dk_at dksL_law_22 18 rfl rfl)
theorem dL_law_579 : decode cL_law 579 = .ok (.aload_n 0, 1) := dk_42 (dk_at dksL_law_22 19 rfl rfl)
theorem dL_law_580 : decode cL_law 580 = .ok (.iload_n 3, 1) := dk_29 (dk_at dksL_law_22 20 rfl rfl)
theorem dL_law_581 : decode cL_law 581 = .ok (.iconst 1, 1) := dk_4 (dk_at dksL_law_22 21 rfl rfl)
theorem dL_law_582 : decode cL_law 582 = .ok (.iadd, 1) := dk_96 (dk_at dksL_law_22 22 rfl rfl)
theorem dL_law_583 : decode cL_law 583 = .ok (.iaload, 1) := dk_46 (dk_at dksL_law_22 23 rfl rfl)
theorem dL_law_584 : decode cL_law 584 = .ok (.invokevirtual 77, 3) := dk_182 0 77 (dk_at dksL_law_23 0 rfl rfl)
theorem dL_law_587 : decode cL_law 587 = .ok (.if_icmp .eq 28, 3) := dk_159 0 28 (dk_at dksL_law_23 3 rfl rfl)
theorem dL_law_590 : decode cL_law 590 = .ok (.iconst 0, 1) := dk_3 (dk_at dksL_law_23 6 rfl rfl)
theorem dL_law_591 : decode cL_law 591 = .ok (.ireturn, 1) := dk_172 (dk_at dksL_law_23 7 rfl rfl)
theorem dL_law_592 : decode cL_law 592 = .ok (.aload_n 1, 1) := dk_43 (dk_at dksL_law_23 8 rfl rfl)
theorem dL_law_593 : decode cL_law 593 = .ok (.aload_n 0, 1) := dk_42 (dk_at dksL_law_23 9 rfl rfl)
theorem dL_law_594 : decode cL_law 594 = .ok (.iload_n 3, 1) := dk_29 (dk_at dksL_law_23 10 rfl rfl)
theorem dL_law_595 : decode cL_law 595 = .ok (.iconst 1, 1) := dk_4 (dk_at dksL_law_23 11 rfl rfl)
theorem dL_law_596 : decode cL_law 596 = .ok (.iadd, 1) := dk_96 (dk_at dksL_law_23 12 rfl rfl)
theorem dL_law_597 : decode cL_law 597 = .ok (.iaload, 1) := dk_46 (dk_at dksL_law_23 13 rfl rfl)
theorem dL_law_598 : decode cL_law 598 = .ok (.invokevirtual 78, 3) := dk_182 0 78 (dk_at dksL_law_23 14 rfl rfl)
theorem dL_law_601 : decode cL_law 601 = .ok (.aload_n 2, 1) := dk_44 (dk_at dksL_law_23 17 rfl rfl)
theorem dL_law_602 : decode cL_law 602 = .ok (.aload_n 0, 1) := dk_42 (dk_at dksL_law_23 18 rfl rfl)
theorem dL_law_603 : decode cL_law 603 = .ok (.iload_n 3, 1) := dk_29 (dk_at dksL_law_23 19 rfl rfl)
theorem dL_law_604 : decode cL_law 604 = .ok (.iconst 1, 1) := dk_4 (dk_at dksL_law_23 20 rfl rfl)
theorem dL_law_605 : decode cL_law 605 = .ok (.iadd, 1) := dk_96 (dk_at dksL_law_23 21 rfl rfl)
theorem dL_law_606 : decode cL_law 606 = .ok (.iaload, 1) := dk_46 (dk_at dksL_law_23 22 rfl rfl)
theorem dL_law_607 : decode cL_law 607 = .ok (.invokevirtual 81, 3) := dk_182 0 81 (dk_at dksL_law_24 0 rfl rfl)
theorem dL_law_610 : decode cL_law 610 = .ok (.if_icmp .eq 5, 3) := dk_159 0 5 (dk_at dksL_law_24 3 rfl rfl)
theorem dL_law_613 : decode cL_law 613 = .ok (.iconst 0, 1) := dk_3 (dk_at dksL_law_24 6 rfl rfl)
theorem dL_law_614 : decode cL_law 614 = .ok (.ireturn, 1) := dk_172 (dk_at dksL_law_24 7 rfl rfl)
theorem dL_law_615 : decode cL_law 615 = .ok (.iinc 3 4, 3) := dk_132 3 4 (dk_at dksL_law_24 8 rfl rfl)
theorem dL_law_618 : decode cL_law 618 = .ok (.goto (-600), 3) := dk_167 253 168 (dk_at dksL_law_24 11 rfl rfl)
theorem dL_law_621 : decode cL_law 621 = .ok (.iconst 1, 1) := dk_4 (dk_at dksL_law_24 14 rfl rfl)
theorem dL_law_622 : decode cL_law 622 = .ok (.ireturn, 1) := dk_172 (dk_at dksL_law_24 15 rfl rfl)
