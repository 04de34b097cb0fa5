/-! java/lang/Math -/
set_option maxRecDepth 100000
def RJ0 : String := "java/lang/Math"
abbrev cJ0_min : ByteArray := prog_20_method_69_code
def yJ0_min : MethodName := ⟨RJ0, "min", "(II)I"⟩
def dkwJ0_min_0 : List UInt8 := [26, 27, 163, 0, 7, 26, 167, 0, 4, 27, 172]
abbrev dktJ0_min_0 : List UInt8 := dkwJ0_min_0 ++ []
theorem dksJ0_min_0 : cJ0_min.data.toList.drop 0 = dktJ0_min_0 := by decide +kernel
theorem dJ0_min_0 : decode cJ0_min 0 = .ok (.iload_n 0, 1) := dk_26 (dk_at dksJ0_min_0 0 rfl rfl)
theorem dJ0_min_1 : decode cJ0_min 1 = .ok (.iload_n 1, 1) := dk_27 (dk_at dksJ0_min_0 1 rfl rfl)
theorem dJ0_min_2 : decode cJ0_min 2 = .ok (.if_icmp .gt 7, 3) := dk_163 0 7 (dk_at dksJ0_min_0 2 rfl rfl)
theorem dJ0_min_5 : decode cJ0_min 5 = .ok (.iload_n 0, 1) := dk_26 (dk_at dksJ0_min_0 5 rfl rfl)
theorem dJ0_min_6 : decode cJ0_min 6 = .ok (.goto 4, 3) := dk_167 0 4 (dk_at dksJ0_min_0 6 rfl rfl)
theorem dJ0_min_9 : decode cJ0_min 9 = .ok (.iload_n 1, 1) := dk_27 (dk_at dksJ0_min_0 9 rfl rfl)
theorem dJ0_min_10 : decode cJ0_min 10 = .ok (.ireturn, 1) := dk_172 (dk_at dksJ0_min_0 10 rfl rfl)
abbrev cJ0_max : ByteArray := prog_20_method_65_code
def yJ0_max : MethodName := ⟨RJ0, "max", "(II)I"⟩
def dkwJ0_max_0 : List UInt8 := [26, 27, 161, 0, 7, 26, 167, 0, 4, 27, 172]
abbrev dktJ0_max_0 : List UInt8 := dkwJ0_max_0 ++ []
theorem dksJ0_max_0 : cJ0_max.data.toList.drop 0 = dktJ0_max_0 := by decide +kernel
theorem dJ0_max_0 : decode cJ0_max 0 = .ok (.iload_n 0, 1) := dk_26 (dk_at dksJ0_max_0 0 rfl rfl)
theorem dJ0_max_1 : decode cJ0_max 1 = .ok (.iload_n 1, 1) := dk_27 (dk_at dksJ0_max_0 1 rfl rfl)
theorem dJ0_max_2 : decode cJ0_max 2 = .ok (.if_icmp .lt 7, 3) := dk_161 0 7 (dk_at dksJ0_max_0 2 rfl rfl)
theorem dJ0_max_5 : decode cJ0_max 5 = .ok (.iload_n 0, 1) := dk_26 (dk_at dksJ0_max_0 5 rfl rfl)
theorem dJ0_max_6 : decode cJ0_max 6 = .ok (.goto 4, 3) := dk_167 0 4 (dk_at dksJ0_max_0 6 rfl rfl)
theorem dJ0_max_9 : decode cJ0_max 9 = .ok (.iload_n 1, 1) := dk_27 (dk_at dksJ0_max_0 9 rfl rfl)
theorem dJ0_max_10 : decode cJ0_max 10 = .ok (.ireturn, 1) := dk_172 (dk_at dksJ0_max_0 10 rfl rfl)
abbrev cJ0_max_2 : ByteArray := prog_20_method_68_code
def yJ0_max_2 : MethodName := ⟨RJ0, "max", "(DD)D"⟩
def dkwJ0_max_2_1 : List UInt8 := [178, 0, 174, 148, 154, 0, 5, 40, 175, 38, 40, 151, 155, 0, 7, 38, 167, 0, 4, 40, 175]
abbrev dktJ0_max_2_1 : List UInt8 := dkwJ0_max_2_1 ++ []
def dkwJ0_max_2_0 : List UInt8 := [38, 38, 151, 153, 0, 5, 38, 175, 38, 14, 151, 154, 0, 22, 40, 14, 151, 154, 0, 16, 38, 184, 0, 79]
abbrev dktJ0_max_2_0 : List UInt8 := dkwJ0_max_2_0 ++ dktJ0_max_2_1
theorem dksJ0_max_2_0 : cJ0_max_2.data.toList.drop 0 = dktJ0_max_2_0 := by decide +kernel
theorem dksJ0_max_2_1 : cJ0_max_2.data.toList.drop 24 = dktJ0_max_2_1 := dk_seg dksJ0_max_2_0 24 rfl rfl
theorem dJ0_max_2_0 : decode cJ0_max_2 0 = .ok (.dload_n 0, 1) := dk_38 (dk_at dksJ0_max_2_0 0 rfl rfl)
theorem dJ0_max_2_1 : decode cJ0_max_2 1 = .ok (.dload_n 0, 1) := dk_38 (dk_at dksJ0_max_2_0 1 rfl rfl)
theorem dJ0_max_2_2 : decode cJ0_max_2 2 = .ok (.dcmp .l, 1) := dk_151 (dk_at dksJ0_max_2_0 2 rfl rfl)
theorem dJ0_max_2_3 : decode cJ0_max_2 3 = .ok (.ifCond .eq 5, 3) := dk_153 0 5 (dk_at dksJ0_max_2_0 3 rfl rfl)
theorem dJ0_max_2_6 : decode cJ0_max_2 6 = .ok (.dload_n 0, 1) := dk_38 (dk_at dksJ0_max_2_0 6 rfl rfl)
theorem dJ0_max_2_7 : decode cJ0_max_2 7 = .ok (.dreturn, 1) := dk_175 (dk_at dksJ0_max_2_0 7 rfl rfl)
theorem dJ0_max_2_8 : decode cJ0_max_2 8 = .ok (.dload_n 0, 1) := dk_38 (dk_at dksJ0_max_2_0 8 rfl rfl)
theorem dJ0_max_2_9 : decode cJ0_max_2 9 = .ok (.dconst 0, 1) := dk_14 (dk_at dksJ0_max_2_0 9 rfl rfl)
theorem dJ0_max_2_10 : decode cJ0_max_2 10 = .ok (.dcmp .l, 1) := dk_151 (dk_at dksJ0_max_2_0 10 rfl rfl)
theorem dJ0_max_2_11 : decode cJ0_max_2 11 = .ok (.ifCond .ne 22, 3) := dk_154 0 22 (dk_at dksJ0_max_2_0 11 rfl rfl)
theorem dJ0_max_2_14 : decode cJ0_max_2 14 = .ok (.dload_n 2, 1) := dk_40 (dk_at dksJ0_max_2_0 14 rfl rfl)
theorem dJ0_max_2_15 : decode cJ0_max_2 15 = .ok (.dconst 0, 1) := dk_14 (dk_at dksJ0_max_2_0 15 rfl rfl)
theorem dJ0_max_2_16 : decode cJ0_max_2 16 = .ok (.dcmp .l, 1) := dk_151 (dk_at dksJ0_max_2_0 16 rfl rfl)
theorem dJ0_max_2_17 : decode cJ0_max_2 17 = .ok (.ifCond .ne 16, 3) := dk_154 0 16 (dk_at dksJ0_max_2_0 17 rfl rfl)
theorem dJ0_max_2_20 : decode cJ0_max_2 20 = .ok (.dload_n 0, 1) := dk_38 (dk_at dksJ0_max_2_0 20 rfl rfl)
theorem dJ0_max_2_21 : decode cJ0_max_2 21 = .ok (.invokestatic 79, 3) := dk_184 0 79 (dk_at dksJ0_max_2_0 21 rfl rfl)
theorem dJ0_max_2_24 : decode cJ0_max_2 24 = .ok (.getstatic 174, 3) := dk_178 0 174 (dk_at dksJ0_max_2_1 0 rfl rfl)
theorem dJ0_max_2_27 : decode cJ0_max_2 27 = .ok (.lcmp, 1) := dk_148 (dk_at dksJ0_max_2_1 3 rfl rfl)
theorem dJ0_max_2_28 : decode cJ0_max_2 28 = .ok (.ifCond .ne 5, 3) := dk_154 0 5 (dk_at dksJ0_max_2_1 4 rfl rfl)
theorem dJ0_max_2_31 : decode cJ0_max_2 31 = .ok (.dload_n 2, 1) := dk_40 (dk_at dksJ0_max_2_1 7 rfl rfl)
theorem dJ0_max_2_32 : decode cJ0_max_2 32 = .ok (.dreturn, 1) := dk_175 (dk_at dksJ0_max_2_1 8 rfl rfl)
theorem dJ0_max_2_33 : decode cJ0_max_2 33 = .ok (.dload_n 0, 1) := dk_38 (dk_at dksJ0_max_2_1 9 rfl rfl)
theorem dJ0_max_2_34 : decode cJ0_max_2 34 = .ok (.dload_n 2, 1) := dk_40 (dk_at dksJ0_max_2_1 10 rfl rfl)
theorem dJ0_max_2_35 : decode cJ0_max_2 35 = .ok (.dcmp .l, 1) := dk_151 (dk_at dksJ0_max_2_1 11 rfl rfl)
theorem dJ0_max_2_36 : decode cJ0_max_2 36 = .ok (.ifCond .lt 7, 3) := dk_155 0 7 (dk_at dksJ0_max_2_1 12 rfl rfl)
theorem dJ0_max_2_39 : decode cJ0_max_2 39 = .ok (.dload_n 0, 1) := dk_38 (dk_at dksJ0_max_2_1 15 rfl rfl)
theorem dJ0_max_2_40 : decode cJ0_max_2 40 = .ok (.goto 4, 3) := dk_167 0 4 (dk_at dksJ0_max_2_1 16 rfl rfl)
theorem dJ0_max_2_43 : decode cJ0_max_2 43 = .ok (.dload_n 2, 1) := dk_40 (dk_at dksJ0_max_2_1 19 rfl rfl)
theorem dJ0_max_2_44 : decode cJ0_max_2 44 = .ok (.dreturn, 1) := dk_175 (dk_at dksJ0_max_2_1 20 rfl rfl)
abbrev cJ0_min_2 : ByteArray := prog_20_method_72_code
def yJ0_min_2 : MethodName := ⟨RJ0, "min", "(DD)D"⟩
def dkwJ0_min_2_1 : List UInt8 := [178, 0, 174, 148, 154, 0, 5, 40, 175, 38, 40, 152, 157, 0, 7, 38, 167, 0, 4, 40, 175]
abbrev dktJ0_min_2_1 : List UInt8 := dkwJ0_min_2_1 ++ []
def dkwJ0_min_2_0 : List UInt8 := [38, 38, 151, 153, 0, 5, 38, 175, 38, 14, 151, 154, 0, 22, 40, 14, 151, 154, 0, 16, 40, 184, 0, 79]
abbrev dktJ0_min_2_0 : List UInt8 := dkwJ0_min_2_0 ++ dktJ0_min_2_1
theorem dksJ0_min_2_0 : cJ0_min_2.data.toList.drop 0 = dktJ0_min_2_0 := by decide +kernel
theorem dksJ0_min_2_1 : cJ0_min_2.data.toList.drop 24 = dktJ0_min_2_1 := dk_seg dksJ0_min_2_0 24 rfl rfl
theorem dJ0_min_2_0 : decode cJ0_min_2 0 = .ok (.dload_n 0, 1) := dk_38 (dk_at dksJ0_min_2_0 0 rfl rfl)
theorem dJ0_min_2_1 : decode cJ0_min_2 1 = .ok (.dload_n 0, 1) := dk_38 (dk_at dksJ0_min_2_0 1 rfl rfl)
theorem dJ0_min_2_2 : decode cJ0_min_2 2 = .ok (.dcmp .l, 1) := dk_151 (dk_at dksJ0_min_2_0 2 rfl rfl)
theorem dJ0_min_2_3 : decode cJ0_min_2 3 = .ok (.ifCond .eq 5, 3) := dk_153 0 5 (dk_at dksJ0_min_2_0 3 rfl rfl)
theorem dJ0_min_2_6 : decode cJ0_min_2 6 = .ok (.dload_n 0, 1) := dk_38 (dk_at dksJ0_min_2_0 6 rfl rfl)
theorem dJ0_min_2_7 : decode cJ0_min_2 7 = .ok (.dreturn, 1) := dk_175 (dk_at dksJ0_min_2_0 7 rfl rfl)
theorem dJ0_min_2_8 : decode cJ0_min_2 8 = .ok (.dload_n 0, 1) := dk_38 (dk_at dksJ0_min_2_0 8 rfl rfl)
theorem dJ0_min_2_9 : decode cJ0_min_2 9 = .ok (.dconst 0, 1) := dk_14 (dk_at dksJ0_min_2_0 9 rfl rfl)
theorem dJ0_min_2_10 : decode cJ0_min_2 10 = .ok (.dcmp .l, 1) := dk_151 (dk_at dksJ0_min_2_0 10 rfl rfl)
theorem dJ0_min_2_11 : decode cJ0_min_2 11 = .ok (.ifCond .ne 22, 3) := dk_154 0 22 (dk_at dksJ0_min_2_0 11 rfl rfl)
theorem dJ0_min_2_14 : decode cJ0_min_2 14 = .ok (.dload_n 2, 1) := dk_40 (dk_at dksJ0_min_2_0 14 rfl rfl)
theorem dJ0_min_2_15 : decode cJ0_min_2 15 = .ok (.dconst 0, 1) := dk_14 (dk_at dksJ0_min_2_0 15 rfl rfl)
theorem dJ0_min_2_16 : decode cJ0_min_2 16 = .ok (.dcmp .l, 1) := dk_151 (dk_at dksJ0_min_2_0 16 rfl rfl)
theorem dJ0_min_2_17 : decode cJ0_min_2 17 = .ok (.ifCond .ne 16, 3) := dk_154 0 16 (dk_at dksJ0_min_2_0 17 rfl rfl)
theorem dJ0_min_2_20 : decode cJ0_min_2 20 = .ok (.dload_n 2, 1) := dk_40 (dk_at dksJ0_min_2_0 20 rfl rfl)
theorem dJ0_min_2_21 : decode cJ0_min_2 21 = .ok (.invokestatic 79, 3) := dk_184 0 79 (dk_at dksJ0_min_2_0 21 rfl rfl)
theorem dJ0_min_2_24 : decode cJ0_min_2 24 = .ok (.getstatic 174, 3) := dk_178 0 174 (dk_at dksJ0_min_2_1 0 rfl rfl)
theorem dJ0_min_2_27 : decode cJ0_min_2 27 = .ok (.lcmp, 1) := dk_148 (dk_at dksJ0_min_2_1 3 rfl rfl)
theorem dJ0_min_2_28 : decode cJ0_min_2 28 = .ok (.ifCond .ne 5, 3) := dk_154 0 5 (dk_at dksJ0_min_2_1 4 rfl rfl)
theorem dJ0_min_2_31 : decode cJ0_min_2 31 = .ok (.dload_n 2, 1) := dk_40 (dk_at dksJ0_min_2_1 7 rfl rfl)
theorem dJ0_min_2_32 : decode cJ0_min_2 32 = .ok (.dreturn, 1) := dk_175 (dk_at dksJ0_min_2_1 8 rfl rfl)
theorem dJ0_min_2_33 : decode cJ0_min_2 33 = .ok (.dload_n 0, 1) := dk_38 (dk_at dksJ0_min_2_1 9 rfl rfl)
theorem dJ0_min_2_34 : decode cJ0_min_2 34 = .ok (.dload_n 2, 1) := dk_40 (dk_at dksJ0_min_2_1 10 rfl rfl)
theorem dJ0_min_2_35 : decode cJ0_min_2 35 = .ok (.dcmp .g, 1) := dk_152 (dk_at dksJ0_min_2_1 11 rfl rfl)
theorem dJ0_min_2_36 : decode cJ0_min_2 36 = .ok (.ifCond .gt 7, 3) := dk_157 0 7 (dk_at dksJ0_min_2_1 12 rfl rfl)
theorem dJ0_min_2_39 : decode cJ0_min_2 39 = .ok (.dload_n 0, 1) := dk_38 (dk_at dksJ0_min_2_1 15 rfl rfl)
theorem dJ0_min_2_40 : decode cJ0_min_2 40 = .ok (.goto 4, 3) := dk_167 0 4 (dk_at dksJ0_min_2_1 16 rfl rfl)
theorem dJ0_min_2_43 : decode cJ0_min_2 43 = .ok (.dload_n 2, 1) := dk_40 (dk_at dksJ0_min_2_1 19 rfl rfl)
theorem dJ0_min_2_44 : decode cJ0_min_2 44 = .ok (.dreturn, 1) := dk_175 (dk_at dksJ0_min_2_1 20 rfl rfl)
abbrev cJ0_copySign : ByteArray := prog_20_method_89_code
def yJ0_copySign : MethodName := ⟨RJ0, "copySign", "(DD)D"⟩
def dkwJ0_copySign_0 : List UInt8 := [40, 184, 0, 79, 20, 0, 128, 127, 38, 184, 0, 79, 20, 0, 135, 127, 129, 184, 0, 166, 175]
abbrev dktJ0_copySign_0 : List UInt8 := dkwJ0_copySign_0 ++ []
theorem dksJ0_copySign_0 : cJ0_copySign.data.toList.drop 0 = dktJ0_copySign_0 := by decide +kernel
theorem dJ0_copySign_0 : decode cJ0_copySign 0 = .ok (.dload_n 2, 1) := dk_40 (dk_at dksJ0_copySign_0 0 rfl rfl)
theorem dJ0_copySign_1 : decode cJ0_copySign 1 = .ok (.invokestatic 79, 3) := dk_184 0 79 (dk_at dksJ0_copySign_0 1 rfl rfl)
theorem dJ0_copySign_4 : decode cJ0_copySign 4 = .ok (.ldc2_w 128, 3) := dk_20 0 128 (dk_at dksJ0_copySign_0 4 rfl rfl)
theorem dJ0_copySign_7 : decode cJ0_copySign 7 = .ok (.land, 1) := dk_127 (dk_at dksJ0_copySign_0 7 rfl rfl)
theorem dJ0_copySign_8 : decode cJ0_copySign 8 = .ok (.dload_n 0, 1) := dk_38 (dk_at dksJ0_copySign_0 8 rfl rfl)
theorem dJ0_copySign_9 : decode cJ0_copySign 9 = .ok (.invokestatic 79, 3) := dk_184 0 79 (dk_at dksJ0_copySign_0 9 rfl rfl)
theorem dJ0_copySign_12 : decode cJ0_copySign 12 = .ok (.ldc2_w 135, 3) := dk_20 0 135 (dk_at dksJ0_copySign_0 12 rfl rfl)
theorem dJ0_copySign_15 : decode cJ0_copySign 15 = .ok (.land, 1) := dk_127 (dk_at dksJ0_copySign_0 15 rfl rfl)
theorem dJ0_copySign_16 : decode cJ0_copySign 16 = .ok (.lor, 1) := dk_129 (dk_at dksJ0_copySign_0 16 rfl rfl)
theorem dJ0_copySign_17 : decode cJ0_copySign 17 = .ok (.invokestatic 166, 3) := dk_184 0 166 (dk_at dksJ0_copySign_0 17 rfl rfl)
theorem dJ0_copySign_20 : decode cJ0_copySign 20 = .ok (.dreturn, 1) := dk_175 (dk_at dksJ0_copySign_0 20 rfl rfl)
abbrev cJ0_abs : ByteArray := prog_20_method_64_code
def yJ0_abs : MethodName := ⟨RJ0, "abs", "(D)D"⟩
def dkwJ0_abs_0 : List UInt8 := [38, 184, 0, 79, 20, 0, 135, 127, 184, 0, 166, 175]
abbrev dktJ0_abs_0 : List UInt8 := dkwJ0_abs_0 ++ []
theorem dksJ0_abs_0 : cJ0_abs.data.toList.drop 0 = dktJ0_abs_0 := by decide +kernel
theorem dJ0_abs_0 : decode cJ0_abs 0 = .ok (.dload_n 0, 1) := dk_38 (dk_at dksJ0_abs_0 0 rfl rfl)
theorem dJ0_abs_1 : decode cJ0_abs 1 = .ok (.invokestatic 79, 3) := dk_184 0 79 (dk_at dksJ0_abs_0 1 rfl rfl)
theorem dJ0_abs_4 : decode cJ0_abs 4 = .ok (.ldc2_w 135, 3) := dk_20 0 135 (dk_at dksJ0_abs_0 4 rfl rfl)
theorem dJ0_abs_7 : decode cJ0_abs 7 = .ok (.land, 1) := dk_127 (dk_at dksJ0_abs_0 7 rfl rfl)
theorem dJ0_abs_8 : decode cJ0_abs 8 = .ok (.invokestatic 166, 3) := dk_184 0 166 (dk_at dksJ0_abs_0 8 rfl rfl)
theorem dJ0_abs_11 : decode cJ0_abs 11 = .ok (.dreturn, 1) := dk_175 (dk_at dksJ0_abs_0 11 rfl rfl)
abbrev cJ0_floor : ByteArray := prog_20_method_17_code
def yJ0_floor : MethodName := ⟨RJ0, "floor", "(D)D"⟩
theorem dJ0_floor_0 : decode cJ0_floor 0 = .ok (.dload_n 0, 1) := by decide +kernel
theorem dJ0_floor_1 : decode cJ0_floor 1 = .ok (.invokestatic 56, 3) := by decide +kernel
theorem dJ0_floor_4 : decode cJ0_floor 4 = .ok (.dreturn, 1) := by decide +kernel
abbrev cJ0_getExponent : ByteArray := prog_20_method_92_code
def yJ0_getExponent : MethodName := ⟨RJ0, "getExponent", "(D)I"⟩
def dkwJ0_getExponent_0 : List UInt8 := [38, 184, 0, 79, 20, 0, 87, 127, 16, 52, 123, 20, 1, 66, 101, 136, 172]
abbrev dktJ0_getExponent_0 : List UInt8 := dkwJ0_getExponent_0 ++ []
theorem dksJ0_getExponent_0 : cJ0_getExponent.data.toList.drop 0 = dktJ0_getExponent_0 := by decide +kernel
theorem dJ0_getExponent_0 : decode cJ0_getExponent 0 = .ok (.dload_n 0, 1) := dk_38 (dk_at dksJ0_getExponent_0 0 rfl rfl)
theorem dJ0_getExponent_1 : decode cJ0_getExponent 1 = .ok (.invokestatic 79, 3) := dk_184 0 79 (dk_at dksJ0_getExponent_0 1 rfl rfl)
theorem dJ0_getExponent_4 : decode cJ0_getExponent 4 = .ok (.ldc2_w 87, 3) := dk_20 0 87 (dk_at dksJ0_getExponent_0 4 rfl rfl)
theorem dJ0_getExponent_7 : decode cJ0_getExponent 7 = .ok (.land, 1) := dk_127 (dk_at dksJ0_getExponent_0 7 rfl rfl)
theorem dJ0_getExponent_8 : decode cJ0_getExponent 8 = .ok (.bipush 52, 2) := dk_16 52 (dk_at dksJ0_getExponent_0 8 rfl rfl)
theorem dJ0_getExponent_10 : decode cJ0_getExponent 10 = .ok (.lshr, 1) := dk_123 (dk_at dksJ0_getExponent_0 10 rfl rfl)
theorem dJ0_getExponent_11 : decode cJ0_getExponent 11 = .ok (.ldc2_w 322, 3) := dk_20 1 66 (dk_at dksJ0_getExponent_0 11 rfl rfl)
theorem dJ0_getExponent_14 : decode cJ0_getExponent 14 = .ok (.lsub, 1) := dk_101 (dk_at dksJ0_getExponent_0 14 rfl rfl)
theorem dJ0_getExponent_15 : decode cJ0_getExponent 15 = .ok (.l2i, 1) := dk_136 (dk_at dksJ0_getExponent_0 15 rfl rfl)
theorem dJ0_getExponent_16 : decode cJ0_getExponent 16 = .ok (.ireturn, 1) := dk_172 (dk_at dksJ0_getExponent_0 16 rfl rfl)
abbrev cJ0_ceil : ByteArray := prog_20_method_16_code
def yJ0_ceil : MethodName := ⟨RJ0, "ceil", "(D)D"⟩
theorem dJ0_ceil_0 : decode cJ0_ceil 0 = .ok (.dload_n 0, 1) := by decide +kernel
theorem dJ0_ceil_1 : decode cJ0_ceil 1 = .ok (.invokestatic 53, 3) := by decide +kernel
theorem dJ0_ceil_4 : decode cJ0_ceil 4 = .ok (.dreturn, 1) := by decide +kernel
abbrev cJ0_rint : ByteArray := prog_20_method_18_code
def yJ0_rint : MethodName := ⟨RJ0, "rint", "(D)D"⟩
theorem dJ0_rint_0 : decode cJ0_rint 0 = .ok (.dload_n 0, 1) := by decide +kernel
theorem dJ0_rint_1 : decode cJ0_rint 1 = .ok (.invokestatic 59, 3) := by decide +kernel
theorem dJ0_rint_4 : decode cJ0_rint 4 = .ok (.dreturn, 1) := by decide +kernel
abbrev cJ0_signum : ByteArray := prog_20_method_81_code
def yJ0_signum : MethodName := ⟨RJ0, "signum", "(D)D"⟩
def dkwJ0_signum_0 : List UInt8 := [38, 14, 151, 153, 0, 10, 38, 184, 0, 205, 153, 0, 7, 38, 167, 0, 8, 15, 38, 184, 1, 43, 175]
abbrev dktJ0_signum_0 : List UInt8 := dkwJ0_signum_0 ++ []
theorem dksJ0_signum_0 : cJ0_signum.data.toList.drop 0 = dktJ0_signum_0 := by decide +kernel
theorem dJ0_signum_0 : decode cJ0_signum 0 = .ok (.dload_n 0, 1) := dk_38 (dk_at dksJ0_signum_0 0 rfl rfl)
theorem dJ0_signum_1 : decode cJ0_signum 1 = .ok (.dconst 0, 1) := dk_14 (dk_at dksJ0_signum_0 1 rfl rfl)
theorem dJ0_signum_2 : decode cJ0_signum 2 = .ok (.dcmp .l, 1) := dk_151 (dk_at dksJ0_signum_0 2 rfl rfl)
theorem dJ0_signum_3 : decode cJ0_signum 3 = .ok (.ifCond .eq 10, 3) := dk_153 0 10 (dk_at dksJ0_signum_0 3 rfl rfl)
theorem dJ0_signum_6 : decode cJ0_signum 6 = .ok (.dload_n 0, 1) := dk_38 (dk_at dksJ0_signum_0 6 rfl rfl)
theorem dJ0_signum_7 : decode cJ0_signum 7 = .ok (.invokestatic 205, 3) := dk_184 0 205 (dk_at dksJ0_signum_0 7 rfl rfl)
theorem dJ0_signum_10 : decode cJ0_signum 10 = .ok (.ifCond .eq 7, 3) := dk_153 0 7 (dk_at dksJ0_signum_0 10 rfl rfl)
theorem dJ0_signum_13 : decode cJ0_signum 13 = .ok (.dload_n 0, 1) := dk_38 (dk_at dksJ0_signum_0 13 rfl rfl)
theorem dJ0_signum_14 : decode cJ0_signum 14 = .ok (.goto 8, 3) := dk_167 0 8 (dk_at dksJ0_signum_0 14 rfl rfl)
theorem dJ0_signum_17 : decode cJ0_signum 17 = .ok (.dconst 1, 1) := dk_15 (dk_at dksJ0_signum_0 17 rfl rfl)
theorem dJ0_signum_18 : decode cJ0_signum 18 = .ok (.dload_n 0, 1) := dk_38 (dk_at dksJ0_signum_0 18 rfl rfl)
theorem dJ0_signum_19 : decode cJ0_signum 19 = .ok (.invokestatic 299, 3) := dk_184 1 43 (dk_at dksJ0_signum_0 19 rfl rfl)
theorem dJ0_signum_22 : decode cJ0_signum 22 = .ok (.dreturn, 1) := dk_175 (dk_at dksJ0_signum_0 22 rfl rfl)
abbrev cJ0_nextUp : ByteArray := prog_20_method_95_code
def yJ0_nextUp : MethodName := ⟨RJ0, "nextUp", "(D)D"⟩
def dkwJ0_nextUp_1 : List UInt8 := [167, 0, 6, 20, 0, 130, 97, 184, 0, 166, 175, 38, 175]
abbrev dktJ0_nextUp_1 : List UInt8 := dkwJ0_nextUp_1 ++ []
def dkwJ0_nextUp_0 : List UInt8 := [38, 20, 1, 71, 152, 156, 0, 29, 38, 14, 99, 184, 0, 79, 65, 32, 32, 9, 148, 155, 0, 7, 10]
abbrev dktJ0_nextUp_0 : List UInt8 := dkwJ0_nextUp_0 ++ dktJ0_nextUp_1
theorem dksJ0_nextUp_0 : cJ0_nextUp.data.toList.drop 0 = dktJ0_nextUp_0 := by decide +kernel
theorem dksJ0_nextUp_1 : cJ0_nextUp.data.toList.drop 23 = dktJ0_nextUp_1 := dk_seg dksJ0_nextUp_0 23 rfl rfl
theorem dJ0_nextUp_0 : decode cJ0_nextUp 0 = .ok (.dload_n 0, 1) := dk_38 (dk_at dksJ0_nextUp_0 0 rfl rfl)
theorem dJ0_nextUp_1 : decode cJ0_nextUp 1 = .ok (.ldc2_w 327, 3) := dk_20 1 71 (dk_at dksJ0_nextUp_0 1 rfl rfl)
theorem dJ0_nextUp_4 : decode cJ0_nextUp 4 = .ok (.dcmp .g, 1) := dk_152 (dk_at dksJ0_nextUp_0 4 rfl rfl)
theorem dJ0_nextUp_5 : decode cJ0_nextUp 5 = .ok (.ifCond .ge 29, 3) := dk_156 0 29 (dk_at dksJ0_nextUp_0 5 rfl rfl)
theorem dJ0_nextUp_8 : decode cJ0_nextUp 8 = .ok (.dload_n 0, 1) := dk_38 (dk_at dksJ0_nextUp_0 8 rfl rfl)
theorem dJ0_nextUp_9 : decode cJ0_nextUp 9 = .ok (.dconst 0, 1) := dk_14 (dk_at dksJ0_nextUp_0 9 rfl rfl)
theorem dJ0_nextUp_10 : decode cJ0_nextUp 10 = .ok (.dadd, 1) := dk_99 (dk_at dksJ0_nextUp_0 10 rfl rfl)
theorem dJ0_nextUp_11 : decode cJ0_nextUp 11 = .ok (.invokestatic 79, 3) := dk_184 0 79 (dk_at dksJ0_nextUp_0 11 rfl rfl)
theorem dJ0_nextUp_14 : decode cJ0_nextUp 14 = .ok (.lstore_n 2, 1) := dk_65 (dk_at dksJ0_nextUp_0 14 rfl rfl)
theorem dJ0_nextUp_15 : decode cJ0_nextUp 15 = .ok (.lload_n 2, 1) := dk_32 (dk_at dksJ0_nextUp_0 15 rfl rfl)
theorem dJ0_nextUp_16 : decode cJ0_nextUp 16 = .ok (.lload_n 2, 1) := dk_32 (dk_at dksJ0_nextUp_0 16 rfl rfl)
theorem dJ0_nextUp_17 : decode cJ0_nextUp 17 = .ok (.lconst 0, 1) := dk_9 (dk_at dksJ0_nextUp_0 17 rfl rfl)
theorem dJ0_nextUp_18 : decode cJ0_nextUp 18 = .ok (.lcmp, 1) := dk_148 (dk_at dksJ0_nextUp_0 18 rfl rfl)
theorem dJ0_nextUp_19 : decode cJ0_nextUp 19 = .ok (.ifCond .lt 7, 3) := dk_155 0 7 (dk_at dksJ0_nextUp_0 19 rfl rfl)
theorem dJ0_nextUp_22 : decode cJ0_nextUp 22 = .ok (.lconst 1, 1) := dk_10 (dk_at dksJ0_nextUp_0 22 rfl rfl)
theorem dJ0_nextUp_23 : decode cJ0_nextUp 23 = .ok (.goto 6, 3) := dk_167 0 6 (dk_at dksJ0_nextUp_1 0 rfl rfl)
theorem dJ0_nextUp_26 : decode cJ0_nextUp 26 = .ok (.ldc2_w 130, 3) := dk_20 0 130 (dk_at dksJ0_nextUp_1 3 rfl rfl)
theorem dJ0_nextUp_29 : decode cJ0_nextUp 29 = .ok (.ladd, 1) := dk_97 (dk_at dksJ0_nextUp_1 6 rfl rfl)
theorem dJ0_nextUp_30 : decode cJ0_nextUp 30 = .ok (.invokestatic 166, 3) := dk_184 0 166 (dk_at dksJ0_nextUp_1 7 rfl rfl)
theorem dJ0_nextUp_33 : decode cJ0_nextUp 33 = .ok (.dreturn, 1) := dk_175 (dk_at dksJ0_nextUp_1 10 rfl rfl)
theorem dJ0_nextUp_34 : decode cJ0_nextUp 34 = .ok (.dload_n 0, 1) := dk_38 (dk_at dksJ0_nextUp_1 11 rfl rfl)
theorem dJ0_nextUp_35 : decode cJ0_nextUp 35 = .ok (.dreturn, 1) := dk_175 (dk_at dksJ0_nextUp_1 12 rfl rfl)
abbrev cJ0_max_3 : ByteArray := prog_20_method_67_code
def yJ0_max_3 : MethodName := ⟨RJ0, "max", "(FF)F"⟩
def dkwJ0_max_3_1 : List UInt8 := [133, 178, 0, 170, 148, 154, 0, 5, 35, 174, 34, 35, 149, 155, 0, 7, 34, 167, 0, 4, 35, 174]
abbrev dktJ0_max_3_1 : List UInt8 := dkwJ0_max_3_1 ++ []
def dkwJ0_max_3_0 : List UInt8 := [34, 34, 149, 153, 0, 5, 34, 174, 34, 11, 149, 154, 0, 23, 35, 11, 149, 154, 0, 17, 34, 184, 0, 68]
abbrev dktJ0_max_3_0 : List UInt8 := dkwJ0_max_3_0 ++ dktJ0_max_3_1
theorem dksJ0_max_3_0 : cJ0_max_3.data.toList.drop 0 = dktJ0_max_3_0 := by decide +kernel
theorem dksJ0_max_3_1 : cJ0_max_3.data.toList.drop 24 = dktJ0_max_3_1 := dk_seg dksJ0_max_3_0 24 rfl rfl
theorem dJ0_max_3_0 : decode cJ0_max_3 0 = .ok (.fload_n 0, 1) := dk_34 (dk_at dksJ0_max_3_0 0 rfl rfl)
theorem dJ0_max_3_1 : decode cJ0_max_3 1 = .ok (.fload_n 0, 1) := dk_34 (dk_at dksJ0_max_3_0 1 rfl rfl)
theorem dJ0_max_3_2 : decode cJ0_max_3 2 = .ok (.fcmp .l, 1) := dk_149 (dk_at dksJ0_max_3_0 2 rfl rfl)
theorem dJ0_max_3_3 : decode cJ0_max_3 3 = .ok (.ifCond .eq 5, 3) := dk_153 0 5 (dk_at dksJ0_max_3_0 3 rfl rfl)
theorem dJ0_max_3_6 : decode cJ0_max_3 6 = .ok (.fload_n 0, 1) := dk_34 (dk_at dksJ0_max_3_0 6 rfl rfl)
theorem dJ0_max_3_7 : decode cJ0_max_3 7 = .ok (.freturn, 1) := dk_174 (dk_at dksJ0_max_3_0 7 rfl rfl)
theorem dJ0_max_3_8 : decode cJ0_max_3 8 = .ok (.fload_n 0, 1) := dk_34 (dk_at dksJ0_max_3_0 8 rfl rfl)
theorem dJ0_max_3_9 : decode cJ0_max_3 9 = .ok (.fconst 0, 1) := dk_11 (dk_at dksJ0_max_3_0 9 rfl rfl)
theorem dJ0_max_3_10 : decode cJ0_max_3 10 = .ok (.fcmp .l, 1) := dk_149 (dk_at dksJ0_max_3_0 10 rfl rfl)
theorem dJ0_max_3_11 : decode cJ0_max_3 11 = .ok (.ifCond .ne 23, 3) := dk_154 0 23 (dk_at dksJ0_max_3_0 11 rfl rfl)
theorem dJ0_max_3_14 : decode cJ0_max_3 14 = .ok (.fload_n 1, 1) := dk_35 (dk_at dksJ0_max_3_0 14 rfl rfl)
theorem dJ0_max_3_15 : decode cJ0_max_3 15 = .ok (.fconst 0, 1) := dk_11 (dk_at dksJ0_max_3_0 15 rfl rfl)
theorem dJ0_max_3_16 : decode cJ0_max_3 16 = .ok (.fcmp .l, 1) := dk_149 (dk_at dksJ0_max_3_0 16 rfl rfl)
theorem dJ0_max_3_17 : decode cJ0_max_3 17 = .ok (.ifCond .ne 17, 3) := dk_154 0 17 (dk_at dksJ0_max_3_0 17 rfl rfl)
theorem dJ0_max_3_20 : decode cJ0_max_3 20 = .ok (.fload_n 0, 1) := dk_34 (dk_at dksJ0_max_3_0 20 rfl rfl)
theorem dJ0_max_3_21 : decode cJ0_max_3 21 = .ok (.invokestatic 68, 3) := dk_184 0 68 (dk_at dksJ0_max_3_0 21 rfl rfl)
theorem dJ0_max_3_24 : decode cJ0_max_3 24 = .ok (.i2l, 1) := dk_133 (dk_at dksJ0_max_3_1 0 rfl rfl)
theorem dJ0_max_3_25 : decode cJ0_max_3 25 = .ok (.getstatic 170, 3) := dk_178 0 170 (dk_at dksJ0_max_3_1 1 rfl rfl)
theorem dJ0_max_3_28 : decode cJ0_max_3 28 = .ok (.lcmp, 1) := dk_148 (dk_at dksJ0_max_3_1 4 rfl rfl)
theorem dJ0_max_3_29 : decode cJ0_max_3 29 = .ok (.ifCond .ne 5, 3) := dk_154 0 5 (dk_at dksJ0_max_3_1 5 rfl rfl)
theorem dJ0_max_3_32 : decode cJ0_max_3 32 = .ok (.fload_n 1, 1) := dk_35 (dk_at dksJ0_max_3_1 8 rfl rfl)
theorem dJ0_max_3_33 : decode cJ0_max_3 33 = .ok (.freturn, 1) := dk_174 (dk_at dksJ0_max_3_1 9 rfl rfl)
theorem dJ0_max_3_34 : decode cJ0_max_3 34 = .ok (.fload_n 0, 1) := dk_34 (dk_at dksJ0_max_3_1 10 rfl rfl)
theorem dJ0_max_3_35 : decode cJ0_max_3 35 = .ok (.fload_n 1, 1) := dk_35 (dk_at dksJ0_max_3_1 11 rfl rfl)
theorem dJ0_max_3_36 : decode cJ0_max_3 36 = .ok (.fcmp .l, 1) := dk_149 (dk_at dksJ0_max_3_1 12 rfl rfl)
theorem dJ0_max_3_37 : decode cJ0_max_3 37 = .ok (.ifCond .lt 7, 3) := dk_155 0 7 (dk_at dksJ0_max_3_1 13 rfl rfl)
theorem dJ0_max_3_40 : decode cJ0_max_3 40 = .ok (.fload_n 0, 1) := dk_34 (dk_at dksJ0_max_3_1 16 rfl rfl)
theorem dJ0_max_3_41 : decode cJ0_max_3 41 = .ok (.goto 4, 3) := dk_167 0 4 (dk_at dksJ0_max_3_1 17 rfl rfl)
theorem dJ0_max_3_44 : decode cJ0_max_3 44 = .ok (.fload_n 1, 1) := dk_35 (dk_at dksJ0_max_3_1 20 rfl rfl)
theorem dJ0_max_3_45 : decode cJ0_max_3 45 = .ok (.freturn, 1) := dk_174 (dk_at dksJ0_max_3_1 21 rfl rfl)
abbrev cJ0_min_3 : ByteArray := prog_20_method_71_code
def yJ0_min_3 : MethodName := ⟨RJ0, "min", "(FF)F"⟩
def dkwJ0_min_3_1 : List UInt8 := [133, 178, 0, 170, 148, 154, 0, 5, 35, 174, 34, 35, 150, 157, 0, 7, 34, 167, 0, 4, 35, 174]
abbrev dktJ0_min_3_1 : List UInt8 := dkwJ0_min_3_1 ++ []
def dkwJ0_min_3_0 : List UInt8 := [34, 34, 149, 153, 0, 5, 34, 174, 34, 11, 149, 154, 0, 23, 35, 11, 149, 154, 0, 17, 35, 184, 0, 68]
abbrev dktJ0_min_3_0 : List UInt8 := dkwJ0_min_3_0 ++ dktJ0_min_3_1
theorem dksJ0_min_3_0 : cJ0_min_3.data.toList.drop 0 = dktJ0_min_3_0 := by decide +kernel
theorem dksJ0_min_3_1 : cJ0_min_3.data.toList.drop 24 = dktJ0_min_3_1 := dk_seg dksJ0_min_3_0 24 rfl rfl
theorem dJ0_min_3_0 : decode cJ0_min_3 0 = .ok (.fload_n 0, 1) := dk_34 (dk_at dksJ0_min_3_0 0 rfl rfl)
theorem dJ0_min_3_1 : decode cJ0_min_3 1 = .ok (.fload_n 0, 1) := dk_34 (dk_at dksJ0_min_3_0 1 rfl rfl)
theorem dJ0_min_3_2 : decode cJ0_min_3 2 = .ok (.fcmp .l, 1) := dk_149 (dk_at dksJ0_min_3_0 2 rfl rfl)
theorem dJ0_min_3_3 : decode cJ0_min_3 3 = .ok (.ifCond .eq 5, 3) := dk_153 0 5 (dk_at dksJ0_min_3_0 3 rfl rfl)
theorem dJ0_min_3_6 : decode cJ0_min_3 6 = .ok (.fload_n 0, 1) := dk_34 (dk_at dksJ0_min_3_0 6 rfl rfl)
theorem dJ0_min_3_7 : decode cJ0_min_3 7 = .ok (.freturn, 1) := dk_174 (dk_at dksJ0_min_3_0 7 rfl rfl)
theorem dJ0_min_3_8 : decode cJ0_min_3 8 = .ok (.fload_n 0, 1) := dk_34 (dk_at dksJ0_min_3_0 8 rfl rfl)
theorem dJ0_min_3_9 : decode cJ0_min_3 9 = .ok (.fconst 0, 1) := dk_11 (dk_at dksJ0_min_3_0 9 rfl rfl)
theorem dJ0_min_3_10 : decode cJ0_min_3 10 = .ok (.fcmp .l, 1) := dk_149 (dk_at dksJ0_min_3_0 10 rfl rfl)
theorem dJ0_min_3_11 : decode cJ0_min_3 11 = .ok (.ifCond .ne 23, 3) := dk_154 0 23 (dk_at dksJ0_min_3_0 11 rfl rfl)
theorem dJ0_min_3_14 : decode cJ0_min_3 14 = .ok (.fload_n 1, 1) := dk_35 (dk_at dksJ0_min_3_0 14 rfl rfl)
theorem dJ0_min_3_15 : decode cJ0_min_3 15 = .ok (.fconst 0, 1) := dk_11 (dk_at dksJ0_min_3_0 15 rfl rfl)
theorem dJ0_min_3_16 : decode cJ0_min_3 16 = .ok (.fcmp .l, 1) := dk_149 (dk_at dksJ0_min_3_0 16 rfl rfl)
theorem dJ0_min_3_17 : decode cJ0_min_3 17 = .ok (.ifCond .ne 17, 3) := dk_154 0 17 (dk_at dksJ0_min_3_0 17 rfl rfl)
theorem dJ0_min_3_20 : decode cJ0_min_3 20 = .ok (.fload_n 1, 1) := dk_35 (dk_at dksJ0_min_3_0 20 rfl rfl)
theorem dJ0_min_3_21 : decode cJ0_min_3 21 = .ok (.invokestatic 68, 3) := dk_184 0 68 (dk_at dksJ0_min_3_0 21 rfl rfl)
theorem dJ0_min_3_24 : decode cJ0_min_3 24 = .ok (.i2l, 1) := dk_133 (dk_at dksJ0_min_3_1 0 rfl rfl)
theorem dJ0_min_3_25 : decode cJ0_min_3 25 = .ok (.getstatic 170, 3) := dk_178 0 170 (dk_at dksJ0_min_3_1 1 rfl rfl)
theorem dJ0_min_3_28 : decode cJ0_min_3 28 = .ok (.lcmp, 1) := dk_148 (dk_at dksJ0_min_3_1 4 rfl rfl)
theorem dJ0_min_3_29 : decode cJ0_min_3 29 = .ok (.ifCond .ne 5, 3) := dk_154 0 5 (dk_at dksJ0_min_3_1 5 rfl rfl)
theorem dJ0_min_3_32 : decode cJ0_min_3 32 = .ok (.fload_n 1, 1) := dk_35 (dk_at dksJ0_min_3_1 8 rfl rfl)
theorem dJ0_min_3_33 : decode cJ0_min_3 33 = .ok (.freturn, 1) := dk_174 (dk_at dksJ0_min_3_1 9 rfl rfl)
theorem dJ0_min_3_34 : decode cJ0_min_3 34 = .ok (.fload_n 0, 1) := dk_34 (dk_at dksJ0_min_3_1 10 rfl rfl)
theorem dJ0_min_3_35 : decode cJ0_min_3 35 = .ok (.fload_n 1, 1) := dk_35 (dk_at dksJ0_min_3_1 11 rfl rfl)
theorem dJ0_min_3_36 : decode cJ0_min_3 36 = .ok (.fcmp .g, 1) := dk_150 (dk_at dksJ0_min_3_1 12 rfl rfl)
theorem dJ0_min_3_37 : decode cJ0_min_3 37 = .ok (.ifCond .gt 7, 3) := dk_157 0 7 (dk_at dksJ0_min_3_1 13 rfl rfl)
theorem dJ0_min_3_40 : decode cJ0_min_3 40 = .ok (.fload_n 0, 1) := dk_34 (dk_at dksJ0_min_3_1 16 rfl rfl)
theorem dJ0_min_3_41 : decode cJ0_min_3 41 = .ok (.goto 4, 3) := dk_167 0 4 (dk_at dksJ0_min_3_1 17 rfl rfl)
theorem dJ0_min_3_44 : decode cJ0_min_3 44 = .ok (.fload_n 1, 1) := dk_35 (dk_at dksJ0_min_3_1 20 rfl rfl)
theorem dJ0_min_3_45 : decode cJ0_min_3 45 = .ok (.freturn, 1) := dk_174 (dk_at dksJ0_min_3_1 21 rfl rfl)
abbrev cJ0_copySign_2 : ByteArray := prog_20_method_90_code
def yJ0_copySign_2 : MethodName := ⟨RJ0, "copySign", "(FF)F"⟩
def dkwJ0_copySign_2_0 : List UInt8 := [35, 184, 0, 68, 18, 137, 126, 34, 184, 0, 68, 18, 134, 126, 128, 184, 0, 162, 174]
abbrev dktJ0_copySign_2_0 : List UInt8 := dkwJ0_copySign_2_0 ++ []
theorem dksJ0_copySign_2_0 : cJ0_copySign_2.data.toList.drop 0 = dktJ0_copySign_2_0 := by decide +kernel
theorem dJ0_copySign_2_0 : decode cJ0_copySign_2 0 = .ok (.fload_n 1, 1) := dk_35 (dk_at dksJ0_copySign_2_0 0 rfl rfl)
theorem dJ0_copySign_2_1 : decode cJ0_copySign_2 1 = .ok (.invokestatic 68, 3) := dk_184 0 68 (dk_at dksJ0_copySign_2_0 1 rfl rfl)
theorem dJ0_copySign_2_4 : decode cJ0_copySign_2 4 = .ok (.ldc 137, 2) := dk_18 137 (dk_at dksJ0_copySign_2_0 4 rfl rfl)
theorem dJ0_copySign_2_6 : decode cJ0_copySign_2 6 = .ok (.iand, 1) := dk_126 (dk_at dksJ0_copySign_2_0 6 rfl rfl)
theorem dJ0_copySign_2_7 : decode cJ0_copySign_2 7 = .ok (.fload_n 0, 1) := dk_34 (dk_at dksJ0_copySign_2_0 7 rfl rfl)
theorem dJ0_copySign_2_8 : decode cJ0_copySign_2 8 = .ok (.invokestatic 68, 3) := dk_184 0 68 (dk_at dksJ0_copySign_2_0 8 rfl rfl)
theorem dJ0_copySign_2_11 : decode cJ0_copySign_2 11 = .ok (.ldc 134, 2) := dk_18 134 (dk_at dksJ0_copySign_2_0 11 rfl rfl)
theorem dJ0_copySign_2_13 : decode cJ0_copySign_2 13 = .ok (.iand, 1) := dk_126 (dk_at dksJ0_copySign_2_0 13 rfl rfl)
theorem dJ0_copySign_2_14 : decode cJ0_copySign_2 14 = .ok (.ior, 1) := dk_128 (dk_at dksJ0_copySign_2_0 14 rfl rfl)
theorem dJ0_copySign_2_15 : decode cJ0_copySign_2 15 = .ok (.invokestatic 162, 3) := dk_184 0 162 (dk_at dksJ0_copySign_2_0 15 rfl rfl)
theorem dJ0_copySign_2_18 : decode cJ0_copySign_2 18 = .ok (.freturn, 1) := dk_174 (dk_at dksJ0_copySign_2_0 18 rfl rfl)
abbrev cJ0_abs_2 : ByteArray := prog_20_method_63_code
def yJ0_abs_2 : MethodName := ⟨RJ0, "abs", "(F)F"⟩
def dkwJ0_abs_2_0 : List UInt8 := [34, 184, 0, 68, 18, 134, 126, 184, 0, 162, 174]
abbrev dktJ0_abs_2_0 : List UInt8 := dkwJ0_abs_2_0 ++ []
theorem dksJ0_abs_2_0 : cJ0_abs_2.data.toList.drop 0 = dktJ0_abs_2_0 := by decide +kernel
theorem dJ0_abs_2_0 : decode cJ0_abs_2 0 = .ok (.fload_n 0, 1) := dk_34 (dk_at dksJ0_abs_2_0 0 rfl rfl)
theorem dJ0_abs_2_1 : decode cJ0_abs_2 1 = .ok (.invokestatic 68, 3) := dk_184 0 68 (dk_at dksJ0_abs_2_0 1 rfl rfl)
theorem dJ0_abs_2_4 : decode cJ0_abs_2 4 = .ok (.ldc 134, 2) := dk_18 134 (dk_at dksJ0_abs_2_0 4 rfl rfl)
theorem dJ0_abs_2_6 : decode cJ0_abs_2 6 = .ok (.iand, 1) := dk_126 (dk_at dksJ0_abs_2_0 6 rfl rfl)
theorem dJ0_abs_2_7 : decode cJ0_abs_2 7 = .ok (.invokestatic 162, 3) := dk_184 0 162 (dk_at dksJ0_abs_2_0 7 rfl rfl)
theorem dJ0_abs_2_10 : decode cJ0_abs_2 10 = .ok (.freturn, 1) := dk_174 (dk_at dksJ0_abs_2_0 10 rfl rfl)
abbrev cJ0_signum_2 : ByteArray := prog_20_method_82_code
def yJ0_signum_2 : MethodName := ⟨RJ0, "signum", "(F)F"⟩
def dkwJ0_signum_2_0 : List UInt8 := [34, 11, 149, 153, 0, 10, 34, 184, 0, 224, 153, 0, 7, 34, 167, 0, 8, 12, 34, 184, 1, 46, 174]
abbrev dktJ0_signum_2_0 : List UInt8 := dkwJ0_signum_2_0 ++ []
theorem dksJ0_signum_2_0 : cJ0_signum_2.data.toList.drop 0 = dktJ0_signum_2_0 := by decide +kernel
theorem dJ0_signum_2_0 : decode cJ0_signum_2 0 = .ok (.fload_n 0, 1) := dk_34 (dk_at dksJ0_signum_2_0 0 rfl rfl)
theorem dJ0_signum_2_1 : decode cJ0_signum_2 1 = .ok (.fconst 0, 1) := dk_11 (dk_at dksJ0_signum_2_0 1 rfl rfl)
theorem dJ0_signum_2_2 : decode cJ0_signum_2 2 = .ok (.fcmp .l, 1) := dk_149 (dk_at dksJ0_signum_2_0 2 rfl rfl)
theorem dJ0_signum_2_3 : decode cJ0_signum_2 3 = .ok (.ifCond .eq 10, 3) := dk_153 0 10 (dk_at dksJ0_signum_2_0 3 rfl rfl)
theorem dJ0_signum_2_6 : decode cJ0_signum_2 6 = .ok (.fload_n 0, 1) := dk_34 (dk_at dksJ0_signum_2_0 6 rfl rfl)
theorem dJ0_signum_2_7 : decode cJ0_signum_2 7 = .ok (.invokestatic 224, 3) := dk_184 0 224 (dk_at dksJ0_signum_2_0 7 rfl rfl)
theorem dJ0_signum_2_10 : decode cJ0_signum_2 10 = .ok (.ifCond .eq 7, 3) := dk_153 0 7 (dk_at dksJ0_signum_2_0 10 rfl rfl)
theorem dJ0_signum_2_13 : decode cJ0_signum_2 13 = .ok (.fload_n 0, 1) := dk_34 (dk_at dksJ0_signum_2_0 13 rfl rfl)
theorem dJ0_signum_2_14 : decode cJ0_signum_2 14 = .ok (.goto 8, 3) := dk_167 0 8 (dk_at dksJ0_signum_2_0 14 rfl rfl)
theorem dJ0_signum_2_17 : decode cJ0_signum_2 17 = .ok (.fconst 1, 1) := dk_12 (dk_at dksJ0_signum_2_0 17 rfl rfl)
theorem dJ0_signum_2_18 : decode cJ0_signum_2 18 = .ok (.fload_n 0, 1) := dk_34 (dk_at dksJ0_signum_2_0 18 rfl rfl)
theorem dJ0_signum_2_19 : decode cJ0_signum_2 19 = .ok (.invokestatic 302, 3) := dk_184 1 46 (dk_at dksJ0_signum_2_0 19 rfl rfl)
theorem dJ0_signum_2_22 : decode cJ0_signum_2 22 = .ok (.freturn, 1) := dk_174 (dk_at dksJ0_signum_2_0 22 rfl rfl)
abbrev cJ0_nextUp_2 : ByteArray := prog_20_method_96_code
def yJ0_nextUp_2 : MethodName := ⟨RJ0, "nextUp", "(F)F"⟩
def dkwJ0_nextUp_2_1 : List UInt8 := [2, 96, 184, 0, 162, 174, 34, 174]
abbrev dktJ0_nextUp_2_1 : List UInt8 := dkwJ0_nextUp_2_1 ++ []
def dkwJ0_nextUp_2_0 : List UInt8 := [34, 19, 1, 73, 150, 156, 0, 25, 34, 11, 98, 184, 0, 68, 60, 27, 27, 155, 0, 7, 4, 167, 0, 4]
abbrev dktJ0_nextUp_2_0 : List UInt8 := dkwJ0_nextUp_2_0 ++ dktJ0_nextUp_2_1
theorem dksJ0_nextUp_2_0 : cJ0_nextUp_2.data.toList.drop 0 = dktJ0_nextUp_2_0 := by decide +kernel
theorem dksJ0_nextUp_2_1 : cJ0_nextUp_2.data.toList.drop 24 = dktJ0_nextUp_2_1 := dk_seg dksJ0_nextUp_2_0 24 rfl rfl
theorem dJ0_nextUp_2_0 : decode cJ0_nextUp_2 0 = .ok (.fload_n 0, 1) := dk_34 (dk_at dksJ0_nextUp_2_0 0 rfl rfl)
theorem dJ0_nextUp_2_1 : decode cJ0_nextUp_2 1 = .ok (.ldc_w 329, 3) := dk_19 1 73 (dk_at dksJ0_nextUp_2_0 1 rfl rfl)
theorem dJ0_nextUp_2_4 : decode cJ0_nextUp_2 4 = .ok (.fcmp .g, 1) := dk_150 (dk_at dksJ0_nextUp_2_0 4 rfl rfl)
theorem dJ0_nextUp_2_5 : decode cJ0_nextUp_2 5 = .ok (.ifCond .ge 25, 3) := dk_156 0 25 (dk_at dksJ0_nextUp_2_0 5 rfl rfl)
theorem dJ0_nextUp_2_8 : decode cJ0_nextUp_2 8 = .ok (.fload_n 0, 1) := dk_34 (dk_at dksJ0_nextUp_2_0 8 rfl rfl)
theorem dJ0_nextUp_2_9 : decode cJ0_nextUp_2 9 = .ok (.fconst 0, 1) := dk_11 (dk_at dksJ0_nextUp_2_0 9 rfl rfl)
theorem dJ0_nextUp_2_10 : decode cJ0_nextUp_2 10 = .ok (.fadd, 1) := dk_98 (dk_at dksJ0_nextUp_2_0 10 rfl rfl)
theorem dJ0_nextUp_2_11 : decode cJ0_nextUp_2 11 = .ok (.invokestatic 68, 3) := dk_184 0 68 (dk_at dksJ0_nextUp_2_0 11 rfl rfl)
theorem dJ0_nextUp_2_14 : decode cJ0_nextUp_2 14 = .ok (.istore_n 1, 1) := dk_60 (dk_at dksJ0_nextUp_2_0 14 rfl rfl)
theorem dJ0_nextUp_2_15 : decode cJ0_nextUp_2 15 = .ok (.iload_n 1, 1) := dk_27 (dk_at dksJ0_nextUp_2_0 15 rfl rfl)
theorem dJ0_nextUp_2_16 : decode cJ0_nextUp_2 16 = .ok (.iload_n 1, 1) := dk_27 (dk_at dksJ0_nextUp_2_0 16 rfl rfl)
theorem dJ0_nextUp_2_17 : decode cJ0_nextUp_2 17 = .ok (.ifCond .lt 7, 3) := dk_155 0 7 (dk_at dksJ0_nextUp_2_0 17 rfl rfl)
theorem dJ0_nextUp_2_20 : decode cJ0_nextUp_2 20 = .ok (.iconst 1, 1) := dk_4 (dk_at dksJ0_nextUp_2_0 20 rfl rfl)
theorem dJ0_nextUp_2_21 : decode cJ0_nextUp_2 21 = .ok (.goto 4, 3) := dk_167 0 4 (dk_at dksJ0_nextUp_2_0 21 rfl rfl)
theorem dJ0_nextUp_2_24 : decode cJ0_nextUp_2 24 = .ok (.iconst (-1), 1) := dk_2 (dk_at dksJ0_nextUp_2_1 0 rfl rfl)
theorem dJ0_nextUp_2_25 : decode cJ0_nextUp_2 25 = .ok (.iadd, 1) := dk_96 (dk_at dksJ0_nextUp_2_1 1 rfl rfl)
theorem dJ0_nextUp_2_26 : decode cJ0_nextUp_2 26 = .ok (.invokestatic 162, 3) := dk_184 0 162 (dk_at dksJ0_nextUp_2_1 2 rfl rfl)
theorem dJ0_nextUp_2_29 : decode cJ0_nextUp_2 29 = .ok (.freturn, 1) := dk_174 (dk_at dksJ0_nextUp_2_1 5 rfl rfl)
theorem dJ0_nextUp_2_30 : decode cJ0_nextUp_2 30 = .ok (.fload_n 0, 1) := dk_34 (dk_at dksJ0_nextUp_2_1 6 rfl rfl)
theorem dJ0_nextUp_2_31 : decode cJ0_nextUp_2 31 = .ok (.freturn, 1) := dk_174 (dk_at dksJ0_nextUp_2_1 7 rfl rfl)
theorem q26 : (Jvm.Cond.initialized "java/lang/Math") ∈ lw_all := lw_g (lw_at lw_m1 2 rfl) rfl
theorem q61 : (Jvm.Cond.static ({ cls := "java/lang/Math", name := "min", desc := "(II)I" } : Jvm.MethodName)) ∈ lw_all := lw_g (lw_at lw_m1 37 rfl) rfl
theorem q62 : (Jvm.Cond.code ({ cls := "java/lang/Math", name := "min", desc := "(II)I" } : Jvm.MethodName) prog_20_method_69_code (2 : Nat) (Option.some Jvm.ClassFile.FieldType.int)) ∈ lw_all := lw_g (lw_at lw_m1 38 rfl) rfl
theorem q64 : (Jvm.Cond.static ({ cls := "java/lang/Math", name := "max", desc := "(II)I" } : Jvm.MethodName)) ∈ lw_all := lw_g (lw_at lw_m1 40 rfl) rfl
theorem q65 : (Jvm.Cond.code ({ cls := "java/lang/Math", name := "max", desc := "(II)I" } : Jvm.MethodName) prog_20_method_65_code (2 : Nat) (Option.some Jvm.ClassFile.FieldType.int)) ∈ lw_all := lw_g (lw_at lw_m1 41 rfl) rfl
theorem q709 : (Jvm.Cond.static ({ cls := "java/lang/Math", name := "max", desc := "(DD)D" } : Jvm.MethodName)) ∈ lw_all := lw_g (lw_at lw_m3 205 rfl) rfl
theorem q710 : (Jvm.Cond.code ({ cls := "java/lang/Math", name := "max", desc := "(DD)D" } : Jvm.MethodName) prog_20_method_68_code (4 : Nat) (Option.some Jvm.ClassFile.FieldType.double)) ∈ lw_all := lw_g (lw_at lw_m3 206 rfl) rfl
theorem q711 : (Jvm.Cond.methodLink "java/lang/Math" (79 : Nat) ({ cls := "java/lang/Double", name := "doubleToRawLongBits", desc := "(D)J" } : Jvm.MethodName)) ∈ lw_all := lw_g (lw_at lw_m3 207 rfl) rfl
theorem q712 : (Jvm.Cond.fieldLink "java/lang/Math" (174 : Nat) "java/lang/Math" "negativeZeroDoubleBits" "J") ∈ lw_all := lw_g (lw_at lw_m3 208 rfl) rfl
theorem q713 : (Jvm.Cond.laysStatic "java/lang/Math" "negativeZeroDoubleBits" "J") ∈ lw_tbl := lw_at lw_m3 209 rfl
theorem q715 : (Jvm.Cond.static ({ cls := "java/lang/Math", name := "min", desc := "(DD)D" } : Jvm.MethodName)) ∈ lw_all := lw_g (lw_at lw_m3 211 rfl) rfl
theorem q716 : (Jvm.Cond.code ({ cls := "java/lang/Math", name := "min", desc := "(DD)D" } : Jvm.MethodName) prog_20_method_72_code (4 : Nat) (Option.some Jvm.ClassFile.FieldType.double)) ∈ lw_all := lw_g (lw_at lw_m3 212 rfl) rfl
theorem q718 : (Jvm.Cond.static ({ cls := "java/lang/Math", name := "copySign", desc := "(DD)D" } : Jvm.MethodName)) ∈ lw_all := lw_g (lw_at lw_m3 214 rfl) rfl
theorem q719 : (Jvm.Cond.code ({ cls := "java/lang/Math", name := "copySign", desc := "(DD)D" } : Jvm.MethodName) prog_20_method_89_code (4 : Nat) (Option.some Jvm.ClassFile.FieldType.double)) ∈ lw_all := lw_g (lw_at lw_m3 215 rfl) rfl
theorem q720 : (Jvm.Cond.constantLong "java/lang/Math" (128 : Nat) (-9223372036854775808 : Int64)) ∈ lw_all := lw_g (lw_at lw_m3 216 rfl) rfl
theorem q721 : (Jvm.Cond.constantLong "java/lang/Math" (135 : Nat) (9223372036854775807 : Int64)) ∈ lw_all := lw_g (lw_at lw_m3 217 rfl) rfl
theorem q722 : (Jvm.Cond.methodLink "java/lang/Math" (166 : Nat) ({ cls := "java/lang/Double", name := "longBitsToDouble", desc := "(J)D" } : Jvm.MethodName)) ∈ lw_all := lw_g (lw_at lw_m3 218 rfl) rfl
theorem q724 : (Jvm.Cond.static ({ cls := "java/lang/Math", name := "abs", desc := "(D)D" } : Jvm.MethodName)) ∈ lw_all := lw_g (lw_at lw_m3 220 rfl) rfl
theorem q725 : (Jvm.Cond.code ({ cls := "java/lang/Math", name := "abs", desc := "(D)D" } : Jvm.MethodName) prog_20_method_64_code (2 : Nat) (Option.some Jvm.ClassFile.FieldType.double)) ∈ lw_all := lw_g (lw_at lw_m3 221 rfl) rfl
theorem q727 : (Jvm.Cond.static ({ cls := "java/lang/Math", name := "floor", desc := "(D)D" } : Jvm.MethodName)) ∈ lw_all := lw_g (lw_at lw_m3 223 rfl) rfl
theorem q728 : (Jvm.Cond.code ({ cls := "java/lang/Math", name := "floor", desc := "(D)D" } : Jvm.MethodName) prog_20_method_17_code (2 : Nat) (Option.some Jvm.ClassFile.FieldType.double)) ∈ lw_all := lw_g (lw_at lw_m3 224 rfl) rfl
theorem q729 : (Jvm.Cond.methodLink "java/lang/Math" (56 : Nat) ({ cls := "java/lang/StrictMath", name := "floor", desc := "(D)D" } : Jvm.MethodName)) ∈ lw_all := lw_g (lw_at lw_m3 225 rfl) rfl
theorem q737 : (Jvm.Cond.static ({ cls := "java/lang/Math", name := "getExponent", desc := "(D)I" } : Jvm.MethodName)) ∈ lw_all := lw_g (lw_at lw_m3 233 rfl) rfl
theorem q738 : (Jvm.Cond.code ({ cls := "java/lang/Math", name := "getExponent", desc := "(D)I" } : Jvm.MethodName) prog_20_method_92_code (2 : Nat) (Option.some Jvm.ClassFile.FieldType.int)) ∈ lw_all := lw_g (lw_at lw_m3 234 rfl) rfl
theorem q739 : (Jvm.Cond.constantLong "java/lang/Math" (87 : Nat) (9218868437227405312 : Int64)) ∈ lw_all := lw_g (lw_at lw_m3 235 rfl) rfl
theorem q740 : (Jvm.Cond.constantLong "java/lang/Math" (322 : Nat) (1023 : Int64)) ∈ lw_all := lw_g (lw_at lw_m3 236 rfl) rfl
theorem q748 : (Jvm.Cond.static ({ cls := "java/lang/Math", name := "ceil", desc := "(D)D" } : Jvm.MethodName)) ∈ lw_all := lw_g (lw_at lw_m4 4 rfl) rfl
theorem q749 : (Jvm.Cond.code ({ cls := "java/lang/Math", name := "ceil", desc := "(D)D" } : Jvm.MethodName) prog_20_method_16_code (2 : Nat) (Option.some Jvm.ClassFile.FieldType.double)) ∈ lw_all := lw_g (lw_at lw_m4 5 rfl) rfl
theorem q750 : (Jvm.Cond.methodLink "java/lang/Math" (53 : Nat) ({ cls := "java/lang/StrictMath", name := "ceil", desc := "(D)D" } : Jvm.MethodName)) ∈ lw_all := lw_g (lw_at lw_m4 6 rfl) rfl
theorem q755 : (Jvm.Cond.static ({ cls := "java/lang/Math", name := "rint", desc := "(D)D" } : Jvm.MethodName)) ∈ lw_all := lw_g (lw_at lw_m4 11 rfl) rfl
theorem q756 : (Jvm.Cond.code ({ cls := "java/lang/Math", name := "rint", desc := "(D)D" } : Jvm.MethodName) prog_20_method_18_code (2 : Nat) (Option.some Jvm.ClassFile.FieldType.double)) ∈ lw_all := lw_g (lw_at lw_m4 12 rfl) rfl
theorem q757 : (Jvm.Cond.methodLink "java/lang/Math" (59 : Nat) ({ cls := "java/lang/StrictMath", name := "rint", desc := "(D)D" } : Jvm.MethodName)) ∈ lw_all := lw_g (lw_at lw_m4 13 rfl) rfl
theorem q764 : (Jvm.Cond.static ({ cls := "java/lang/Math", name := "signum", desc := "(D)D" } : Jvm.MethodName)) ∈ lw_all := lw_g (lw_at lw_m4 20 rfl) rfl
theorem q765 : (Jvm.Cond.code ({ cls := "java/lang/Math", name := "signum", desc := "(D)D" } : Jvm.MethodName) prog_20_method_81_code (2 : Nat) (Option.some Jvm.ClassFile.FieldType.double)) ∈ lw_all := lw_g (lw_at lw_m4 21 rfl) rfl
theorem q766 : (Jvm.Cond.methodLink "java/lang/Math" (205 : Nat) ({ cls := "java/lang/Double", name := "isNaN", desc := "(D)Z" } : Jvm.MethodName)) ∈ lw_all := lw_g (lw_at lw_m4 22 rfl) rfl
theorem q767 : (Jvm.Cond.methodLink "java/lang/Math" (299 : Nat) ({ cls := "java/lang/Math", name := "copySign", desc := "(DD)D" } : Jvm.MethodName)) ∈ lw_all := lw_g (lw_at lw_m4 23 rfl) rfl
theorem q769 : (Jvm.Cond.static ({ cls := "java/lang/Math", name := "nextUp", desc := "(D)D" } : Jvm.MethodName)) ∈ lw_all := lw_g (lw_at lw_m4 25 rfl) rfl
theorem q770 : (Jvm.Cond.code ({ cls := "java/lang/Math", name := "nextUp", desc := "(D)D" } : Jvm.MethodName) prog_20_method_95_code (4 : Nat) (Option.some Jvm.ClassFile.FieldType.double)) ∈ lw_all := lw_g (lw_at lw_m4 26 rfl) rfl
theorem q771 : (Jvm.Cond.constantDouble "java/lang/Math" (327 : Nat) (9218868437227405312 : UInt64)) ∈ lw_all := lw_g (lw_at lw_m4 27 rfl) rfl
theorem q772 : (Jvm.Cond.constantLong "java/lang/Math" (130 : Nat) (-1 : Int64)) ∈ lw_all := lw_g (lw_at lw_m4 28 rfl) rfl
theorem q789 : (Jvm.Cond.static ({ cls := "java/lang/Math", name := "max", desc := "(FF)F" } : Jvm.MethodName)) ∈ lw_all := lw_g (lw_at lw_m4 45 rfl) rfl
theorem q790 : (Jvm.Cond.code ({ cls := "java/lang/Math", name := "max", desc := "(FF)F" } : Jvm.MethodName) prog_20_method_67_code (2 : Nat) (Option.some Jvm.ClassFile.FieldType.float)) ∈ lw_all := lw_g (lw_at lw_m4 46 rfl) rfl
theorem q791 : (Jvm.Cond.methodLink "java/lang/Math" (68 : Nat) ({ cls := "java/lang/Float", name := "floatToRawIntBits", desc := "(F)I" } : Jvm.MethodName)) ∈ lw_all := lw_g (lw_at lw_m4 47 rfl) rfl
theorem q792 : (Jvm.Cond.fieldLink "java/lang/Math" (170 : Nat) "java/lang/Math" "negativeZeroFloatBits" "J") ∈ lw_all := lw_g (lw_at lw_m4 48 rfl) rfl
theorem q793 : (Jvm.Cond.laysStatic "java/lang/Math" "negativeZeroFloatBits" "J") ∈ lw_tbl := lw_at lw_m4 49 rfl
theorem q795 : (Jvm.Cond.static ({ cls := "java/lang/Math", name := "min", desc := "(FF)F" } : Jvm.MethodName)) ∈ lw_all := lw_g (lw_at lw_m4 51 rfl) rfl
theorem q796 : (Jvm.Cond.code ({ cls := "java/lang/Math", name := "min", desc := "(FF)F" } : Jvm.MethodName) prog_20_method_71_code (2 : Nat) (Option.some Jvm.ClassFile.FieldType.float)) ∈ lw_all := lw_g (lw_at lw_m4 52 rfl) rfl
theorem q798 : (Jvm.Cond.static ({ cls := "java/lang/Math", name := "copySign", desc := "(FF)F" } : Jvm.MethodName)) ∈ lw_all := lw_g (lw_at lw_m4 54 rfl) rfl
theorem q799 : (Jvm.Cond.code ({ cls := "java/lang/Math", name := "copySign", desc := "(FF)F" } : Jvm.MethodName) prog_20_method_90_code (2 : Nat) (Option.some Jvm.ClassFile.FieldType.float)) ∈ lw_all := lw_g (lw_at lw_m4 55 rfl) rfl
theorem q800 : (Jvm.Cond.constant "java/lang/Math" (137 : Nat) (-2147483648 : Int32)) ∈ lw_all := lw_g (lw_at lw_m4 56 rfl) rfl
theorem q801 : (Jvm.Cond.constant "java/lang/Math" (134 : Nat) (2147483647 : Int32)) ∈ lw_all := lw_g (lw_at lw_m4 57 rfl) rfl
theorem q802 : (Jvm.Cond.methodLink "java/lang/Math" (162 : Nat) ({ cls := "java/lang/Float", name := "intBitsToFloat", desc := "(I)F" } : Jvm.MethodName)) ∈ lw_all := lw_g (lw_at lw_m4 58 rfl) rfl
theorem q804 : (Jvm.Cond.static ({ cls := "java/lang/Math", name := "abs", desc := "(F)F" } : Jvm.MethodName)) ∈ lw_all := lw_g (lw_at lw_m4 60 rfl) rfl
theorem q805 : (Jvm.Cond.code ({ cls := "java/lang/Math", name := "abs", desc := "(F)F" } : Jvm.MethodName) prog_20_method_63_code (1 : Nat) (Option.some Jvm.ClassFile.FieldType.float)) ∈ lw_all := lw_g (lw_at lw_m4 61 rfl) rfl
theorem q807 : (Jvm.Cond.static ({ cls := "java/lang/Math", name := "signum", desc := "(F)F" } : Jvm.MethodName)) ∈ lw_all := lw_g (lw_at lw_m4 63 rfl) rfl
theorem q808 : (Jvm.Cond.code ({ cls := "java/lang/Math", name := "signum", desc := "(F)F" } : Jvm.MethodName) prog_20_method_82_code (1 : Nat) (Option.some Jvm.ClassFile.FieldType.float)) ∈ lw_all := lw_g (lw_at lw_m4 64 rfl) rfl
theorem q809 : (Jvm.Cond.methodLink "java/lang/Math" (224 : Nat) ({ cls := "java/lang/Float", name := "isNaN", desc := "(F)Z" } : Jvm.MethodName)) ∈ lw_all := lw_g (lw_at lw_m4 65 rfl) rfl
theorem q810 : (Jvm.Cond.methodLink "java/lang/Math" (302 : Nat) ({ cls := "java/lang/Math", name := "copySign", desc := "(FF)F" } : Jvm.MethodName)) ∈ lw_all := lw_g (lw_at lw_m4 66 rfl) rfl
theorem q812 : (Jvm.Cond.static ({ cls := "java/lang/Math", name := "nextUp", desc := "(F)F" } : Jvm.MethodName)) ∈ lw_all := lw_g (lw_at lw_m4 68 rfl) rfl
theorem q813 : (Jvm.Cond.code ({ cls := "java/lang/Math", name := "nextUp", desc := "(F)F" } : Jvm.MethodName) prog_20_method_96_code (2 : Nat) (Option.some Jvm.ClassFile.FieldType.float)) ∈ lw_all := lw_g (lw_at lw_m4 69 rfl) rfl
theorem q814 : (Jvm.Cond.constantFloat "java/lang/Math" (329 : Nat) (2139095040 : UInt32)) ∈ lw_all := lw_g (lw_at lw_m4 70 rfl) rfl
/-! java/lang/Throwable -/
set_option maxRecDepth 100000
def RJ1 : String := "java/lang/Throwable"
def TJ1 : u_T := fun k => match k with
  | 0 => ("java/lang/Throwable", "cause", "Ljava/lang/Throwable;", false)
  | 1 => ("java/lang/Throwable", "stackTrace", "[Ljava/lang/StackTraceElement;", false)
  | 2 => ("java/lang/Throwable", "suppressedExceptions", "Ljava/util/List;", false)
  | 3 => ("java/lang/Throwable", "detailMessage", "Ljava/lang/String;", false)
  | _ => ("java/lang/Throwable", "backtrace", "Ljava/lang/Object;", false)
def tyJ1 : Nat → FieldType := fun k => match k with
  | 0 => .object "java/lang/Throwable"
  | 1 => .array (.object "java/lang/StackTraceElement")
  | 2 => .object "java/util/List"
  | 3 => .object "java/lang/String"
  | _ => .object "java/lang/Object"
abbrev wsJ10 : List Cond := u_ws RJ1 TJ1 5
theorem nmJ1 : ∀ a, a < 5 → ∀ b, b < 5 → a ≠ b → (TJ1 a).2.1 ≠ (TJ1 b).2.1 := by decide +kernel
theorem tyJ1_ok : ∀ k, k < 5 → parseFieldDescriptor (TJ1 k).2.2.1 = some (tyJ1 k) := by decide +kernel
abbrev cJ1_init : ByteArray := prog_28_method_2_code
def yJ1_init : MethodName := ⟨RJ1, "<init>", "(Ljava/lang/String;)V"⟩
def dkwJ1_init_1 : List UInt8 := [182, 0, 27, 87, 42, 43, 181, 0, 31, 177]
abbrev dktJ1_init_1 : List UInt8 := dkwJ1_init_1 ++ []
def dkwJ1_init_0 : List UInt8 := [42, 183, 0, 1, 42, 42, 181, 0, 7, 42, 178, 0, 13, 181, 0, 17, 42, 178, 0, 20, 181, 0, 24, 42]
abbrev dktJ1_init_0 : List UInt8 := dkwJ1_init_0 ++ dktJ1_init_1
theorem dksJ1_init_0 : cJ1_init.data.toList.drop 0 = dktJ1_init_0 := by decide +kernel
theorem dksJ1_init_1 : cJ1_init.data.toList.drop 24 = dktJ1_init_1 := dk_seg dksJ1_init_0 24 rfl rfl
theorem dJ1_init_0 : decode cJ1_init 0 = .ok (.aload_n 0, 1) := dk_42 (dk_at dksJ1_init_0 0 rfl rfl)
theorem dJ1_init_1 : decode cJ1_init 1 = .ok (.invokespecial 1, 3) := dk_183 0 1 (dk_at dksJ1_init_0 1 rfl rfl)
theorem dJ1_init_4 : decode cJ1_init 4 = .ok (.aload_n 0, 1) := dk_42 (dk_at dksJ1_init_0 4 rfl rfl)
theorem dJ1_init_5 : decode cJ1_init 5 = .ok (.aload_n 0, 1) := dk_42 (dk_at dksJ1_init_0 5 rfl rfl)
theorem dJ1_init_6 : decode cJ1_init 6 = .ok (.putfield 7, 3) := dk_181 0 7 (dk_at dksJ1_init_0 6 rfl rfl)
theorem dJ1_init_9 : decode cJ1_init 9 = .ok (.aload_n 0, 1) := dk_42 (dk_at dksJ1_init_0 9 rfl rfl)
theorem dJ1_init_10 : decode cJ1_init 10 = .ok (.getstatic 13, 3) := dk_178 0 13 (dk_at dksJ1_init_0 10 rfl rfl)
theorem dJ1_init_13 : decode cJ1_init 13 = .ok (.putfield 17, 3) := dk_181 0 17 (dk_at dksJ1_init_0 13 rfl rfl)
theorem dJ1_init_16 : decode cJ1_init 16 = .ok (.aload_n 0, 1) := dk_42 (dk_at dksJ1_init_0 16 rfl rfl)
theorem dJ1_init_17 : decode cJ1_init 17 = .ok (.getstatic 20, 3) := dk_178 0 20 (dk_at dksJ1_init_0 17 rfl rfl)
theorem dJ1_init_20 : decode cJ1_init 20 = .ok (.putfield 24, 3) := dk_181 0 24 (dk_at dksJ1_init_0 20 rfl rfl)
theorem dJ1_init_23 : decode cJ1_init 23 = .ok (.aload_n 0, 1) := dk_42 (dk_at dksJ1_init_0 23 rfl rfl)
theorem dJ1_init_24 : decode cJ1_init 24 = .ok (.invokevirtual 27, 3) := dk_182 0 27 (dk_at dksJ1_init_1 0 rfl rfl)
theorem dJ1_init_27 : decode cJ1_init 27 = .ok (.pop, 1) := dk_87 (dk_at dksJ1_init_1 3 rfl rfl)
theorem dJ1_init_28 : decode cJ1_init 28 = .ok (.aload_n 0, 1) := dk_42 (dk_at dksJ1_init_1 4 rfl rfl)
theorem dJ1_init_29 : decode cJ1_init 29 = .ok (.aload_n 1, 1) := dk_43 (dk_at dksJ1_init_1 5 rfl rfl)
theorem dJ1_init_30 : decode cJ1_init 30 = .ok (.putfield 31, 3) := dk_181 0 31 (dk_at dksJ1_init_1 6 rfl rfl)
theorem dJ1_init_33 : decode cJ1_init 33 = .ok (.return_, 1) := dk_177 (dk_at dksJ1_init_1 9 rfl rfl)
abbrev cJ1_init_2 : ByteArray := prog_28_method_1_code
def yJ1_init_2 : MethodName := ⟨RJ1, "<init>", "()V"⟩
def dkwJ1_init_2_1 : List UInt8 := [182, 0, 27, 87, 177]
abbrev dktJ1_init_2_1 : List UInt8 := dkwJ1_init_2_1 ++ []
def dkwJ1_init_2_0 : List UInt8 := [42, 183, 0, 1, 42, 42, 181, 0, 7, 42, 178, 0, 13, 181, 0, 17, 42, 178, 0, 20, 181, 0, 24, 42]
abbrev dktJ1_init_2_0 : List UInt8 := dkwJ1_init_2_0 ++ dktJ1_init_2_1
theorem dksJ1_init_2_0 : cJ1_init_2.data.toList.drop 0 = dktJ1_init_2_0 := by decide +kernel
theorem dksJ1_init_2_1 : cJ1_init_2.data.toList.drop 24 = dktJ1_init_2_1 := dk_seg dksJ1_init_2_0 24 rfl rfl
theorem dJ1_init_2_0 : decode cJ1_init_2 0 = .ok (.aload_n 0, 1) := dk_42 (dk_at dksJ1_init_2_0 0 rfl rfl)
theorem dJ1_init_2_1 : decode cJ1_init_2 1 = .ok (.invokespecial 1, 3) := dk_183 0 1 (dk_at dksJ1_init_2_0 1 rfl rfl)
theorem dJ1_init_2_4 : decode cJ1_init_2 4 = .ok (.aload_n 0, 1) := dk_42 (dk_at dksJ1_init_2_0 4 rfl rfl)
theorem dJ1_init_2_5 : decode cJ1_init_2 5 = .ok (.aload_n 0, 1) := dk_42 (dk_at dksJ1_init_2_0 5 rfl rfl)
theorem dJ1_init_2_6 : decode cJ1_init_2 6 = .ok (.putfield 7, 3) := dk_181 0 7 (dk_at dksJ1_init_2_0 6 rfl rfl)
theorem dJ1_init_2_9 : decode cJ1_init_2 9 = .ok (.aload_n 0, 1) := dk_42 (dk_at dksJ1_init_2_0 9 rfl rfl)
theorem dJ1_init_2_10 : decode cJ1_init_2 10 = .ok (.getstatic 13, 3) := dk_178 0 13 (dk_at dksJ1_init_2_0 10 rfl rfl)
theorem dJ1_init_2_13 : decode cJ1_init_2 13 = .ok (.putfield 17, 3) := dk_181 0 17 (dk_at dksJ1_init_2_0 13 rfl rfl)
theorem dJ1_init_2_16 : decode cJ1_init_2 16 = .ok (.aload_n 0, 1) := dk_42 (dk_at dksJ1_init_2_0 16 rfl rfl)
theorem dJ1_init_2_17 : decode cJ1_init_2 17 = .ok (.getstatic 20, 3) := dk_178 0 20 (dk_at dksJ1_init_2_0 17 rfl rfl)
theorem dJ1_init_2_20 : decode cJ1_init_2 20 = .ok (.putfield 24, 3) := dk_181 0 24 (dk_at dksJ1_init_2_0 20 rfl rfl)
theorem dJ1_init_2_23 : decode cJ1_init_2 23 = .ok (.aload_n 0, 1) := dk_42 (dk_at dksJ1_init_2_0 23 rfl rfl)
theorem dJ1_init_2_24 : decode cJ1_init_2 24 = .ok (.invokevirtual 27, 3) := dk_182 0 27 (dk_at dksJ1_init_2_1 0 rfl rfl)
theorem dJ1_init_2_27 : decode cJ1_init_2 27 = .ok (.pop, 1) := dk_87 (dk_at dksJ1_init_2_1 3 rfl rfl)
theorem dJ1_init_2_28 : decode cJ1_init_2 28 = .ok (.return_, 1) := dk_177 (dk_at dksJ1_init_2_1 4 rfl rfl)
abbrev cJ1_init_3 : ByteArray := prog_28_method_5_code
def yJ1_init_3 : MethodName := ⟨RJ1, "<init>", "(Ljava/lang/String;Ljava/lang/Throwable;ZZ)V"⟩
def dkwJ1_init_3_2 : List UInt8 := [44, 181, 0, 7, 29, 154, 0, 8, 42, 1, 181, 0, 24, 177]
abbrev dktJ1_init_3_2 : List UInt8 := dkwJ1_init_3_2 ++ []
def dkwJ1_init_3_1 : List UInt8 := [21, 4, 153, 0, 11, 42, 182, 0, 27, 87, 167, 0, 8, 42, 1, 181, 0, 17, 42, 43, 181, 0, 31, 42]
abbrev dktJ1_init_3_1 : List UInt8 := dkwJ1_init_3_1 ++ dktJ1_init_3_2
def dkwJ1_init_3_0 : List UInt8 := [42, 183, 0, 1, 42, 42, 181, 0, 7, 42, 178, 0, 13, 181, 0, 17, 42, 178, 0, 20, 181, 0, 24]
abbrev dktJ1_init_3_0 : List UInt8 := dkwJ1_init_3_0 ++ dktJ1_init_3_1
theorem dksJ1_init_3_0 : cJ1_init_3.data.toList.drop 0 = dktJ1_init_3_0 := by decide +kernel
theorem dksJ1_init_3_1 : cJ1_init_3.data.toList.drop 23 = dktJ1_init_3_1 := dk_seg dksJ1_init_3_0 23 rfl rfl
theorem dksJ1_init_3_2 : cJ1_init_3.data.toList.drop 47 = dktJ1_init_3_2 := dk_seg dksJ1_init_3_1 24 rfl rfl
theorem dJ1_init_3_0 : decode cJ1_init_3 0 = .ok (.aload_n 0, 1) := dk_42 (dk_at dksJ1_init_3_0 0 rfl rfl)
theorem dJ1_init_3_1 : decode cJ1_init_3 1 = .ok (.invokespecial 1, 3) := dk_183 0 1 (dk_at dksJ1_init_3_0 1 rfl rfl)
theorem dJ1_init_3_4 : decode cJ1_init_3 4 = .ok (.aload_n 0, 1) := dk_42 (dk_at dksJ1_init_3_0 4 rfl rfl)
theorem dJ1_init_3_5 : decode cJ1_init_3 5 = .ok (.aload_n 0, 1) := dk_42 (dk_at dksJ1_init_3_0 5 rfl rfl)
theorem dJ1_init_3_6 : decode cJ1_init_3 6 = .ok (.putfield 7, 3) := dk_181 0 7 (dk_at dksJ1_init_3_0 6 rfl rfl)
theorem dJ1_init_3_9 : decode cJ1_init_3 9 = .ok (.aload_n 0, 1) := dk_42 (dk_at dksJ1_init_3_0 9 rfl rfl)
theorem dJ1_init_3_10 : decode cJ1_init_3 10 = .ok (.getstatic 13, 3) := dk_178 0 13 (dk_at dksJ1_init_3_0 10 rfl rfl)
theorem dJ1_init_3_13 : decode cJ1_init_3 13 = .ok (.putfield 17, 3) := dk_181 0 17 (dk_at dksJ1_init_3_0 13 rfl rfl)
theorem dJ1_init_3_16 : decode cJ1_init_3 16 = .ok (.aload_n 0, 1) := dk_42 (dk_at dksJ1_init_3_0 16 rfl rfl)
theorem dJ1_init_3_17 : decode cJ1_init_3 17 = .ok (.getstatic 20, 3) := dk_178 0 20 (dk_at dksJ1_init_3_0 17 rfl rfl)
theorem dJ1_init_3_20 : decode cJ1_init_3 20 = .ok (.putfield 24, 3) := dk_181 0 24 (dk_at dksJ1_init_3_0 20 rfl rfl)
theorem dJ1_init_3_23 : decode cJ1_init_3 23 = .ok (.iload 4, 2) := dk_21 4 (dk_at dksJ1_init_3_1 0 rfl rfl)
theorem dJ1_init_3_25 : decode cJ1_init_3 25 = .ok (.ifCond .eq 11, 3) := dk_153 0 11 (dk_at dksJ1_init_3_1 2 rfl rfl)
theorem dJ1_init_3_28 : decode cJ1_init_3 28 = .ok (.aload_n 0, 1) := dk_42 (dk_at dksJ1_init_3_1 5 rfl rfl)
theorem dJ1_init_3_29 : decode cJ1_init_3 29 = .ok (.invokevirtual 27, 3) := dk_182 0 27 (dk_at dksJ1_init_3_1 6 rfl rfl)
theorem dJ1_init_3_32 : decode cJ1_init_3 32 = .ok (.pop, 1) := dk_87 (dk_at dksJ1_init_3_1 9 rfl rfl)
theorem dJ1_init_3_33 : decode cJ1_init_3 33 = .ok (.goto 8, 3) := dk_167 0 8 (dk_at dksJ1_init_3_1 10 rfl rfl)
theorem dJ1_init_3_36 : decode cJ1_init_3 36 = .ok (.aload_n 0, 1) := dk_42 (dk_at dksJ1_init_3_1 13 rfl rfl)
theorem dJ1_init_3_37 : decode cJ1_init_3 37 = .ok (.aconst_null, 1) := dk_1 (dk_at dksJ1_init_3_1 14 rfl rfl)
theorem dJ1_init_3_38 : decode cJ1_init_3 38 = .ok (.putfield 17, 3) := dk_181 0 17 (dk_at dksJ1_init_3_1 15 rfl rfl)
theorem dJ1_init_3_41 : decode cJ1_init_3 41 = .ok (.aload_n 0, 1) := dk_42 (dk_at dksJ1_init_3_1 18 rfl rfl)
theorem dJ1_init_3_42 : decode cJ1_init_3 42 = .ok (.aload_n 1, 1) := dk_43 (dk_at dksJ1_init_3_1 19 rfl rfl)
theorem dJ1_init_3_43 : decode cJ1_init_3 43 = .ok (.putfield 31, 3) := dk_181 0 31 (dk_at dksJ1_init_3_1 20 rfl rfl)
theorem dJ1_init_3_46 : decode cJ1_init_3 46 = .ok (.aload_n 0, 1) := dk_42 (dk_at dksJ1_init_3_1 23 rfl rfl)
theorem dJ1_init_3_47 : decode cJ1_init_3 47 = .ok (.aload_n 2, 1) := dk_44 (dk_at dksJ1_init_3_2 0 rfl rfl)
theorem dJ1_init_3_48 : decode cJ1_init_3 48 = .ok (.putfield 7, 3) := dk_181 0 7 (dk_at dksJ1_init_3_2 1 rfl rfl)
theorem dJ1_init_3_51 : decode cJ1_init_3 51 = .ok (.iload_n 3, 1) := dk_29 (dk_at dksJ1_init_3_2 4 rfl rfl)
theorem dJ1_init_3_52 : decode cJ1_init_3 52 = .ok (.ifCond .ne 8, 3) := dk_154 0 8 (dk_at dksJ1_init_3_2 5 rfl rfl)
theorem dJ1_init_3_55 : decode cJ1_init_3 55 = .ok (.aload_n 0, 1) := dk_42 (dk_at dksJ1_init_3_2 8 rfl rfl)
theorem dJ1_init_3_56 : decode cJ1_init_3 56 = .ok (.aconst_null, 1) := dk_1 (dk_at dksJ1_init_3_2 9 rfl rfl)
theorem dJ1_init_3_57 : decode cJ1_init_3 57 = .ok (.putfield 24, 3) := dk_181 0 24 (dk_at dksJ1_init_3_2 10 rfl rfl)
theorem dJ1_init_3_60 : decode cJ1_init_3 60 = .ok (.return_, 1) := dk_177 (dk_at dksJ1_init_3_2 13 rfl rfl)
theorem q29 : (Jvm.Cond.initialized "java/lang/Throwable") ∈ lw_all := lw_g (lw_at lw_m1 5 rfl) rfl
theorem q128 : (Jvm.Cond.instanceMethod ({ cls := "java/lang/Throwable", name := "<init>", desc := "(Ljava/lang/String;)V" } : Jvm.MethodName)) ∈ lw_all := lw_g (lw_at lw_m1 104 rfl) rfl
theorem q129 : (Jvm.Cond.code ({ cls := "java/lang/Throwable", name := "<init>", desc := "(Ljava/lang/String;)V" } : Jvm.MethodName) prog_28_method_2_code (2 : Nat) (Option.none : Option Jvm.ClassFile.FieldType)) ∈ lw_all := lw_g (lw_at lw_m1 105 rfl) rfl
theorem q130 : (Jvm.Cond.methodLink "java/lang/Throwable" (1 : Nat) ({ cls := "java/lang/Object", name := "<init>", desc := "()V" } : Jvm.MethodName)) ∈ lw_all := lw_g (lw_at lw_m1 106 rfl) rfl
theorem q131 : (Jvm.Cond.fieldLink "java/lang/Throwable" (13 : Nat) "java/lang/Throwable" "UNASSIGNED_STACK" "[Ljava/lang/StackTraceElement;") ∈ lw_all := lw_g (lw_at lw_m1 107 rfl) rfl
theorem q132 : (Jvm.Cond.laysStatic "java/lang/Throwable" "UNASSIGNED_STACK" "[Ljava/lang/StackTraceElement;") ∈ lw_tbl := lw_at lw_m1 108 rfl
theorem q133 : (Jvm.Cond.fieldLink "java/lang/Throwable" (20 : Nat) "java/lang/Throwable" "SUPPRESSED_SENTINEL" "Ljava/util/List;") ∈ lw_all := lw_g (lw_at lw_m1 109 rfl) rfl
theorem q134 : (Jvm.Cond.laysStatic "java/lang/Throwable" "SUPPRESSED_SENTINEL" "Ljava/util/List;") ∈ lw_tbl := lw_at lw_m1 110 rfl
theorem q135 : (Jvm.Cond.methodLink "java/lang/Throwable" (27 : Nat) ({ cls := "java/lang/Throwable", name := "fillInStackTrace", desc := "()Ljava/lang/Throwable;" } : Jvm.MethodName)) ∈ lw_all := lw_g (lw_at lw_m1 111 rfl) rfl
theorem q136 : (Jvm.Cond.instanceMethod ({ cls := "java/lang/Throwable", name := "fillInStackTrace", desc := "()Ljava/lang/Throwable;" } : Jvm.MethodName)) ∈ lw_all := lw_g (lw_at lw_m1 112 rfl) rfl
theorem q137 : (Jvm.Cond.sameMethod "java/lang/Throwable" "java/lang/Throwable" "fillInStackTrace" "()Ljava/lang/Throwable;") ∈ lw_all := lw_g (lw_at lw_m1 113 rfl) rfl
theorem q154 : (Jvm.Cond.declares ({ cls := "java/lang/Throwable", name := "fillInStackTrace", desc := "()Ljava/lang/Throwable;" } : Jvm.MethodName)) ∈ lw_tbl := lw_at lw_m1 130 rfl
theorem q158 : (Jvm.Cond.codeSync ({ cls := "java/lang/Throwable", name := "fillInStackTrace", desc := "()Ljava/lang/Throwable;" } : Jvm.MethodName) prog_28_method_18_code (1 : Nat) (Option.some (Jvm.ClassFile.FieldType.object "java/lang/Throwable"))) ∈ lw_all := lw_g (lw_at lw_m1 134 rfl) rfl
theorem q159 : (Jvm.Cond.methodLink "java/lang/Throwable" (202 : Nat) ({ cls := "java/lang/Throwable", name := "fillInStackTrace", desc := "(I)Ljava/lang/Throwable;" } : Jvm.MethodName)) ∈ lw_all := lw_g (lw_at lw_m1 135 rfl) rfl
theorem q160 : (Jvm.Cond.privateMethod ({ cls := "java/lang/Throwable", name := "fillInStackTrace", desc := "(I)Ljava/lang/Throwable;" } : Jvm.MethodName)) ∈ lw_tbl := lw_at lw_m1 136 rfl
theorem q161 : (Jvm.Cond.instanceMethod ({ cls := "java/lang/Throwable", name := "fillInStackTrace", desc := "(I)Ljava/lang/Throwable;" } : Jvm.MethodName)) ∈ lw_all := lw_g (lw_at lw_m1 137 rfl) rfl
theorem q162 : (Jvm.Cond.instantiable "java/lang/Throwable" (6 : Nat)) ∈ lw_all := lw_g (lw_at lw_m1 138 rfl) rfl
theorem q163 : (Jvm.Cond.native ({ cls := "java/lang/Throwable", name := "fillInStackTrace", desc := "(I)Ljava/lang/Throwable;" } : Jvm.MethodName)) ∈ lw_all := lw_g (lw_at lw_m1 139 rfl) rfl
theorem q164 : (Jvm.Cond.fieldLink "java/lang/Throwable" (198 : Nat) "java/lang/Throwable" "backtrace" "Ljava/lang/Object;") ∈ lw_all := lw_g (lw_at lw_m1 140 rfl) rfl
theorem q165 : (Jvm.Cond.fieldLink "java/lang/Throwable" (31 : Nat) "java/lang/Throwable" "detailMessage" "Ljava/lang/String;") ∈ lw_all := lw_g (lw_at lw_m1 141 rfl) rfl
theorem q166 : (Jvm.Cond.fieldLink "java/lang/Throwable" (7 : Nat) "java/lang/Throwable" "cause" "Ljava/lang/Throwable;") ∈ lw_all := lw_g (lw_at lw_m1 142 rfl) rfl
theorem q167 : (Jvm.Cond.fieldLink "java/lang/Throwable" (17 : Nat) "java/lang/Throwable" "stackTrace" "[Ljava/lang/StackTraceElement;") ∈ lw_all := lw_g (lw_at lw_m1 143 rfl) rfl
theorem q168 : (Jvm.Cond.fieldLink "java/lang/Throwable" (24 : Nat) "java/lang/Throwable" "suppressedExceptions" "Ljava/util/List;") ∈ lw_all := lw_g (lw_at lw_m1 144 rfl) rfl
theorem q170 : (Jvm.Cond.soleField "java/lang/Throwable" "backtrace") ∈ lw_all := lw_g (lw_at lw_m1 146 rfl) rfl
theorem q172 : (Jvm.Cond.soleField "java/lang/Throwable" "detailMessage") ∈ lw_all := lw_g (lw_at lw_m1 148 rfl) rfl
theorem q174 : (Jvm.Cond.soleField "java/lang/Throwable" "cause") ∈ lw_all := lw_g (lw_at lw_m1 150 rfl) rfl
theorem q176 : (Jvm.Cond.soleField "java/lang/Throwable" "stackTrace") ∈ lw_all := lw_g (lw_at lw_m1 152 rfl) rfl
theorem q178 : (Jvm.Cond.soleField "java/lang/Throwable" "depth") ∈ lw_all := lw_g (lw_at lw_m1 154 rfl) rfl
theorem q180 : (Jvm.Cond.soleField "java/lang/Throwable" "suppressedExceptions") ∈ lw_all := lw_g (lw_at lw_m1 156 rfl) rfl
theorem q187 : (Jvm.Cond.declares ({ cls := "java/lang/Throwable", name := "<init>", desc := "()V" } : Jvm.MethodName)) ∈ lw_tbl := lw_at lw_m1 163 rfl
theorem q188 : (Jvm.Cond.declares ({ cls := "java/lang/Throwable", name := "<init>", desc := "(Ljava/lang/String;)V" } : Jvm.MethodName)) ∈ lw_tbl := lw_at lw_m1 164 rfl
theorem q190 : (Jvm.Cond.lays "java/lang/Throwable" "java/lang/Throwable" "cause" "Ljava/lang/Throwable;") ∈ lw_all := lw_g (lw_at lw_m1 166 rfl) rfl
theorem q191 : (Jvm.Cond.lays "java/lang/Throwable" "java/lang/Throwable" "stackTrace" "[Ljava/lang/StackTraceElement;") ∈ lw_all := lw_g (lw_at lw_m1 167 rfl) rfl
theorem q192 : (Jvm.Cond.lays "java/lang/Throwable" "java/lang/Throwable" "suppressedExceptions" "Ljava/util/List;") ∈ lw_all := lw_g (lw_at lw_m1 168 rfl) rfl
theorem q193 : (Jvm.Cond.lays "java/lang/Throwable" "java/lang/Throwable" "detailMessage" "Ljava/lang/String;") ∈ lw_all := lw_g (lw_at lw_m1 169 rfl) rfl
theorem q194 : (Jvm.Cond.lays "java/lang/Throwable" "java/lang/Throwable" "backtrace" "Ljava/lang/Object;") ∈ lw_all := lw_g (lw_at lw_m1 170 rfl) rfl
theorem q195 : (Jvm.Cond.fieldLink "java/lang/Throwable" (198 : Nat) "java/lang/Throwable" "backtrace" "Ljava/lang/Object;") ∈ lw_all := lw_g (lw_at lw_m1 171 rfl) rfl
theorem q196 : (Jvm.Cond.superclass "java/lang/Throwable" "java/lang/Object") ∈ lw_all := lw_g (lw_at lw_m1 172 rfl) rfl
theorem q197 : (Jvm.Cond.instanceMethod ({ cls := "java/lang/Throwable", name := "<init>", desc := "()V" } : Jvm.MethodName)) ∈ lw_all := lw_g (lw_at lw_m1 173 rfl) rfl
theorem q198 : (Jvm.Cond.code ({ cls := "java/lang/Throwable", name := "<init>", desc := "()V" } : Jvm.MethodName) prog_28_method_1_code (1 : Nat) (Option.none : Option Jvm.ClassFile.FieldType)) ∈ lw_all := lw_g (lw_at lw_m1 174 rfl) rfl
theorem q299 : (Jvm.Cond.instanceMethod ({ cls := "java/lang/Throwable", name := "<init>", desc := "(Ljava/lang/String;Ljava/lang/Throwable;ZZ)V" } : Jvm.MethodName)) ∈ lw_all := lw_g (lw_at lw_m2 35 rfl) rfl
theorem q300 : (Jvm.Cond.code ({ cls := "java/lang/Throwable", name := "<init>", desc := "(Ljava/lang/String;Ljava/lang/Throwable;ZZ)V" } : Jvm.MethodName) prog_28_method_5_code (5 : Nat) (Option.none : Option Jvm.ClassFile.FieldType)) ∈ lw_all := lw_g (lw_at lw_m2 36 rfl) rfl
theorem q1201 : (Jvm.Cond.sameMethod "java/lang/Throwable" "java/lang/Throwable" "fillInStackTrace" "(I)Ljava/lang/Throwable;") ∈ lw_all := lw_g (lw_at lw_m5 217 rfl) rfl
theorem in_J1 : ∀ w ∈ wsJ10, w ∈ lw_all := lw_in wsJ10 [190, 191, 192, 193, 194] (by decide +kernel) (by decide +kernel)
/-! java/lang/Float -/
set_option maxRecDepth 100000
def RJ10 : String := "java/lang/Float"
abbrev cJ10_floatToIntBits : ByteArray := prog_18_method_24_code
def yJ10_floatToIntBits : MethodName := ⟨RJ10, "floatToIntBits", "(F)I"⟩
def dkwJ10_floatToIntBits_0 : List UInt8 := [34, 184, 0, 59, 154, 0, 8, 34, 184, 0, 74, 172, 18, 77, 172]
abbrev dktJ10_floatToIntBits_0 : List UInt8 := dkwJ10_floatToIntBits_0 ++ []
theorem dksJ10_floatToIntBits_0 : cJ10_floatToIntBits.data.toList.drop 0 = dktJ10_floatToIntBits_0 := by decide +kernel
theorem dJ10_floatToIntBits_0 : decode cJ10_floatToIntBits 0 = .ok (.fload_n 0, 1) := dk_34 (dk_at dksJ10_floatToIntBits_0 0 rfl rfl)
theorem dJ10_floatToIntBits_1 : decode cJ10_floatToIntBits 1 = .ok (.invokestatic 59, 3) := dk_184 0 59 (dk_at dksJ10_floatToIntBits_0 1 rfl rfl)
theorem dJ10_floatToIntBits_4 : decode cJ10_floatToIntBits 4 = .ok (.ifCond .ne 8, 3) := dk_154 0 8 (dk_at dksJ10_floatToIntBits_0 4 rfl rfl)
theorem dJ10_floatToIntBits_7 : decode cJ10_floatToIntBits 7 = .ok (.fload_n 0, 1) := dk_34 (dk_at dksJ10_floatToIntBits_0 7 rfl rfl)
theorem dJ10_floatToIntBits_8 : decode cJ10_floatToIntBits 8 = .ok (.invokestatic 74, 3) := dk_184 0 74 (dk_at dksJ10_floatToIntBits_0 8 rfl rfl)
theorem dJ10_floatToIntBits_11 : decode cJ10_floatToIntBits 11 = .ok (.ireturn, 1) := dk_172 (dk_at dksJ10_floatToIntBits_0 11 rfl rfl)
theorem dJ10_floatToIntBits_12 : decode cJ10_floatToIntBits 12 = .ok (.ldc 77, 2) := dk_18 77 (dk_at dksJ10_floatToIntBits_0 12 rfl rfl)
theorem dJ10_floatToIntBits_14 : decode cJ10_floatToIntBits 14 = .ok (.ireturn, 1) := dk_172 (dk_at dksJ10_floatToIntBits_0 14 rfl rfl)
abbrev cJ10_isNaN : ByteArray := prog_18_method_6_code
def yJ10_isNaN : MethodName := ⟨RJ10, "isNaN", "(F)Z"⟩
def dkwJ10_isNaN_0 : List UInt8 := [34, 34, 149, 153, 0, 7, 4, 167, 0, 4, 3, 172]
abbrev dktJ10_isNaN_0 : List UInt8 := dkwJ10_isNaN_0 ++ []
theorem dksJ10_isNaN_0 : cJ10_isNaN.data.toList.drop 0 = dktJ10_isNaN_0 := by decide +kernel
theorem dJ10_isNaN_0 : decode cJ10_isNaN 0 = .ok (.fload_n 0, 1) := dk_34 (dk_at dksJ10_isNaN_0 0 rfl rfl)
theorem dJ10_isNaN_1 : decode cJ10_isNaN 1 = .ok (.fload_n 0, 1) := dk_34 (dk_at dksJ10_isNaN_0 1 rfl rfl)
theorem dJ10_isNaN_2 : decode cJ10_isNaN 2 = .ok (.fcmp .l, 1) := dk_149 (dk_at dksJ10_isNaN_0 2 rfl rfl)
theorem dJ10_isNaN_3 : decode cJ10_isNaN 3 = .ok (.ifCond .eq 7, 3) := dk_153 0 7 (dk_at dksJ10_isNaN_0 3 rfl rfl)
theorem dJ10_isNaN_6 : decode cJ10_isNaN 6 = .ok (.iconst 1, 1) := dk_4 (dk_at dksJ10_isNaN_0 6 rfl rfl)
theorem dJ10_isNaN_7 : decode cJ10_isNaN 7 = .ok (.goto 4, 3) := dk_167 0 4 (dk_at dksJ10_isNaN_0 7 rfl rfl)
theorem dJ10_isNaN_10 : decode cJ10_isNaN 10 = .ok (.iconst 0, 1) := dk_3 (dk_at dksJ10_isNaN_0 10 rfl rfl)
theorem dJ10_isNaN_11 : decode cJ10_isNaN 11 = .ok (.ireturn, 1) := dk_172 (dk_at dksJ10_isNaN_0 11 rfl rfl)
theorem q44 : (Jvm.Cond.initialized "java/lang/Float") ∈ lw_all := lw_g (lw_at lw_m1 20 rfl) rfl
theorem q436 : (Jvm.Cond.static ({ cls := "java/lang/Float", name := "floatToIntBits", desc := "(F)I" } : Jvm.MethodName)) ∈ lw_all := lw_g (lw_at lw_m2 172 rfl) rfl
theorem q437 : (Jvm.Cond.code ({ cls := "java/lang/Float", name := "floatToIntBits", desc := "(F)I" } : Jvm.MethodName) prog_18_method_24_code (1 : Nat) (Option.some Jvm.ClassFile.FieldType.int)) ∈ lw_all := lw_g (lw_at lw_m2 173 rfl) rfl
theorem q438 : (Jvm.Cond.methodLink "java/lang/Float" (59 : Nat) ({ cls := "java/lang/Float", name := "isNaN", desc := "(F)Z" } : Jvm.MethodName)) ∈ lw_all := lw_g (lw_at lw_m2 174 rfl) rfl
theorem q439 : (Jvm.Cond.static ({ cls := "java/lang/Float", name := "isNaN", desc := "(F)Z" } : Jvm.MethodName)) ∈ lw_all := lw_g (lw_at lw_m2 175 rfl) rfl
theorem q440 : (Jvm.Cond.code ({ cls := "java/lang/Float", name := "isNaN", desc := "(F)Z" } : Jvm.MethodName) prog_18_method_6_code (1 : Nat) (Option.some Jvm.ClassFile.FieldType.boolean)) ∈ lw_all := lw_g (lw_at lw_m2 176 rfl) rfl
theorem q441 : (Jvm.Cond.methodLink "java/lang/Float" (74 : Nat) ({ cls := "java/lang/Float", name := "floatToRawIntBits", desc := "(F)I" } : Jvm.MethodName)) ∈ lw_all := lw_g (lw_at lw_m2 177 rfl) rfl
theorem q442 : (Jvm.Cond.static ({ cls := "java/lang/Float", name := "floatToRawIntBits", desc := "(F)I" } : Jvm.MethodName)) ∈ lw_all := lw_g (lw_at lw_m2 178 rfl) rfl
theorem q443 : (Jvm.Cond.native ({ cls := "java/lang/Float", name := "floatToRawIntBits", desc := "(F)I" } : Jvm.MethodName)) ∈ lw_all := lw_g (lw_at lw_m2 179 rfl) rfl
theorem q444 : (Jvm.Cond.constant "java/lang/Float" (77 : Nat) (2143289344 : Int32)) ∈ lw_all := lw_g (lw_at lw_m2 180 rfl) rfl
theorem q479 : (Jvm.Cond.static ({ cls := "java/lang/Float", name := "intBitsToFloat", desc := "(I)F" } : Jvm.MethodName)) ∈ lw_all := lw_g (lw_at lw_m2 215 rfl) rfl
theorem q480 : (Jvm.Cond.native ({ cls := "java/lang/Float", name := "intBitsToFloat", desc := "(I)F" } : Jvm.MethodName)) ∈ lw_all := lw_g (lw_at lw_m2 216 rfl) rfl
/-! java/lang/Double -/
set_option maxRecDepth 100000
def RJ11 : String := "java/lang/Double"
abbrev cJ11_doubleToLongBits : ByteArray := prog_16_method_23_code
def yJ11_doubleToLongBits : MethodName := ⟨RJ11, "doubleToLongBits", "(D)J"⟩
def dkwJ11_doubleToLongBits_0 : List UInt8 := [38, 184, 0, 122, 154, 0, 8, 38, 184, 0, 134, 173, 20, 0, 137, 173]
abbrev dktJ11_doubleToLongBits_0 : List UInt8 := dkwJ11_doubleToLongBits_0 ++ []
theorem dksJ11_doubleToLongBits_0 : cJ11_doubleToLongBits.data.toList.drop 0 = dktJ11_doubleToLongBits_0 := by decide +kernel
theorem dJ11_doubleToLongBits_0 : decode cJ11_doubleToLongBits 0 = .ok (.dload_n 0, 1) := dk_38 (dk_at dksJ11_doubleToLongBits_0 0 rfl rfl)
theorem dJ11_doubleToLongBits_1 : decode cJ11_doubleToLongBits 1 = .ok (.invokestatic 122, 3) := dk_184 0 122 (dk_at dksJ11_doubleToLongBits_0 1 rfl rfl)
theorem dJ11_doubleToLongBits_4 : decode cJ11_doubleToLongBits 4 = .ok (.ifCond .ne 8, 3) := dk_154 0 8 (dk_at dksJ11_doubleToLongBits_0 4 rfl rfl)
theorem dJ11_doubleToLongBits_7 : decode cJ11_doubleToLongBits 7 = .ok (.dload_n 0, 1) := dk_38 (dk_at dksJ11_doubleToLongBits_0 7 rfl rfl)
theorem dJ11_doubleToLongBits_8 : decode cJ11_doubleToLongBits 8 = .ok (.invokestatic 134, 3) := dk_184 0 134 (dk_at dksJ11_doubleToLongBits_0 8 rfl rfl)
theorem dJ11_doubleToLongBits_11 : decode cJ11_doubleToLongBits 11 = .ok (.lreturn, 1) := dk_173 (dk_at dksJ11_doubleToLongBits_0 11 rfl rfl)
theorem dJ11_doubleToLongBits_12 : decode cJ11_doubleToLongBits 12 = .ok (.ldc2_w 137, 3) := dk_20 0 137 (dk_at dksJ11_doubleToLongBits_0 12 rfl rfl)
theorem dJ11_doubleToLongBits_15 : decode cJ11_doubleToLongBits 15 = .ok (.lreturn, 1) := dk_173 (dk_at dksJ11_doubleToLongBits_0 15 rfl rfl)
abbrev cJ11_isNaN : ByteArray := prog_16_method_6_code
def yJ11_isNaN : MethodName := ⟨RJ11, "isNaN", "(D)Z"⟩
def dkwJ11_isNaN_0 : List UInt8 := [38, 38, 151, 153, 0, 7, 4, 167, 0, 4, 3, 172]
abbrev dktJ11_isNaN_0 : List UInt8 := dkwJ11_isNaN_0 ++ []
theorem dksJ11_isNaN_0 : cJ11_isNaN.data.toList.drop 0 = dktJ11_isNaN_0 := by decide +kernel
theorem dJ11_isNaN_0 : decode cJ11_isNaN 0 = .ok (.dload_n 0, 1) := dk_38 (dk_at dksJ11_isNaN_0 0 rfl rfl)
theorem dJ11_isNaN_1 : decode cJ11_isNaN 1 = .ok (.dload_n 0, 1) := dk_38 (dk_at dksJ11_isNaN_0 1 rfl rfl)
theorem dJ11_isNaN_2 : decode cJ11_isNaN 2 = .ok (.dcmp .l, 1) := dk_151 (dk_at dksJ11_isNaN_0 2 rfl rfl)
theorem dJ11_isNaN_3 : decode cJ11_isNaN 3 = .ok (.ifCond .eq 7, 3) := dk_153 0 7 (dk_at dksJ11_isNaN_0 3 rfl rfl)
theorem dJ11_isNaN_6 : decode cJ11_isNaN 6 = .ok (.iconst 1, 1) := dk_4 (dk_at dksJ11_isNaN_0 6 rfl rfl)
theorem dJ11_isNaN_7 : decode cJ11_isNaN 7 = .ok (.goto 4, 3) := dk_167 0 4 (dk_at dksJ11_isNaN_0 7 rfl rfl)
theorem dJ11_isNaN_10 : decode cJ11_isNaN 10 = .ok (.iconst 0, 1) := dk_3 (dk_at dksJ11_isNaN_0 10 rfl rfl)
theorem dJ11_isNaN_11 : decode cJ11_isNaN 11 = .ok (.ireturn, 1) := dk_172 (dk_at dksJ11_isNaN_0 11 rfl rfl)
theorem q45 : (Jvm.Cond.initialized "java/lang/Double") ∈ lw_all := lw_g (lw_at lw_m1 21 rfl) rfl
theorem q446 : (Jvm.Cond.static ({ cls := "java/lang/Double", name := "doubleToLongBits", desc := "(D)J" } : Jvm.MethodName)) ∈ lw_all := lw_g (lw_at lw_m2 182 rfl) rfl
theorem q447 : (Jvm.Cond.code ({ cls := "java/lang/Double", name := "doubleToLongBits", desc := "(D)J" } : Jvm.MethodName) prog_16_method_23_code (2 : Nat) (Option.some Jvm.ClassFile.FieldType.long)) ∈ lw_all := lw_g (lw_at lw_m2 183 rfl) rfl
theorem q448 : (Jvm.Cond.methodLink "java/lang/Double" (122 : Nat) ({ cls := "java/lang/Double", name := "isNaN", desc := "(D)Z" } : Jvm.MethodName)) ∈ lw_all := lw_g (lw_at lw_m2 184 rfl) rfl
theorem q449 : (Jvm.Cond.static ({ cls := "java/lang/Double", name := "isNaN", desc := "(D)Z" } : Jvm.MethodName)) ∈ lw_all := lw_g (lw_at lw_m2 185 rfl) rfl
theorem q450 : (Jvm.Cond.code ({ cls := "java/lang/Double", name := "isNaN", desc := "(D)Z" } : Jvm.MethodName) prog_16_method_6_code (2 : Nat) (Option.some Jvm.ClassFile.FieldType.boolean)) ∈ lw_all := lw_g (lw_at lw_m2 186 rfl) rfl
theorem q451 : (Jvm.Cond.methodLink "java/lang/Double" (134 : Nat) ({ cls := "java/lang/Double", name := "doubleToRawLongBits", desc := "(D)J" } : Jvm.MethodName)) ∈ lw_all := lw_g (lw_at lw_m2 187 rfl) rfl
theorem q452 : (Jvm.Cond.static ({ cls := "java/lang/Double", name := "doubleToRawLongBits", desc := "(D)J" } : Jvm.MethodName)) ∈ lw_all := lw_g (lw_at lw_m2 188 rfl) rfl
theorem q453 : (Jvm.Cond.native ({ cls := "java/lang/Double", name := "doubleToRawLongBits", desc := "(D)J" } : Jvm.MethodName)) ∈ lw_all := lw_g (lw_at lw_m2 189 rfl) rfl
theorem q454 : (Jvm.Cond.constantLong "java/lang/Double" (137 : Nat) (9221120237041090560 : Int64)) ∈ lw_all := lw_g (lw_at lw_m2 190 rfl) rfl
theorem q490 : (Jvm.Cond.static ({ cls := "java/lang/Double", name := "longBitsToDouble", desc := "(J)D" } : Jvm.MethodName)) ∈ lw_all := lw_g (lw_at lw_m2 226 rfl) rfl
theorem q491 : (Jvm.Cond.native ({ cls := "java/lang/Double", name := "longBitsToDouble", desc := "(J)D" } : Jvm.MethodName)) ∈ lw_all := lw_g (lw_at lw_m2 227 rfl) rfl
/-! java/lang/ArrayStoreException -/
set_option maxRecDepth 100000
def RJ12 : String := "java/lang/ArrayStoreException"
def TJ12 : u_T := fun k => match k with
  | 0 => ("java/lang/Throwable", "backtrace", "Ljava/lang/Object;", false)
  | 1 => ("java/lang/Throwable", "detailMessage", "Ljava/lang/String;", false)
  | 2 => ("java/lang/Throwable", "cause", "Ljava/lang/Throwable;", false)
  | 3 => ("java/lang/Throwable", "stackTrace", "[Ljava/lang/StackTraceElement;", false)
  | 4 => ("java/lang/Throwable", "depth", "I", false)
  | _ => ("java/lang/Throwable", "suppressedExceptions", "Ljava/util/List;", false)
def tyJ12 : Nat → FieldType := fun k => match k with
  | 0 => .object "java/lang/Object"
  | 1 => .object "java/lang/String"
  | 2 => .object "java/lang/Throwable"
  | 3 => .array (.object "java/lang/StackTraceElement")
  | 4 => .int
  | _ => .object "java/util/List"
abbrev wsJ120 : List Cond := u_ws RJ12 TJ12 6
theorem nmJ12 : ∀ a, a < 6 → ∀ b, b < 6 → a ≠ b → (TJ12 a).2.1 ≠ (TJ12 b).2.1 := by decide +kernel
theorem tyJ12_ok : ∀ k, k < 6 → parseFieldDescriptor (TJ12 k).2.2.1 = some (tyJ12 k) := by decide +kernel
abbrev cJ12_init : ByteArray := prog_14_method_2_code
def yJ12_init : MethodName := ⟨RJ12, "<init>", "(Ljava/lang/String;)V"⟩
def dkwJ12_init_0 : List UInt8 := [42, 43, 183, 0, 7, 177]
abbrev dktJ12_init_0 : List UInt8 := dkwJ12_init_0 ++ []
theorem dksJ12_init_0 : cJ12_init.data.toList.drop 0 = dktJ12_init_0 := by decide +kernel
theorem dJ12_init_0 : decode cJ12_init 0 = .ok (.aload_n 0, 1) := dk_42 (dk_at dksJ12_init_0 0 rfl rfl)
theorem dJ12_init_1 : decode cJ12_init 1 = .ok (.aload_n 1, 1) := dk_43 (dk_at dksJ12_init_0 1 rfl rfl)
theorem dJ12_init_2 : decode cJ12_init 2 = .ok (.invokespecial 7, 3) := dk_183 0 7 (dk_at dksJ12_init_0 2 rfl rfl)
theorem dJ12_init_5 : decode cJ12_init 5 = .ok (.return_, 1) := dk_177 (dk_at dksJ12_init_0 5 rfl rfl)
theorem q46 : (Jvm.Cond.initialized "java/lang/ArrayStoreException") ∈ lw_all := lw_g (lw_at lw_m1 22 rfl) rfl
theorem q141 : (Jvm.Cond.selects "java/lang/ArrayStoreException" ({ cls := "java/lang/Throwable", name := "fillInStackTrace", desc := "()Ljava/lang/Throwable;" } : Jvm.MethodName) ({ cls := "java/lang/Throwable", name := "fillInStackTrace", desc := "()Ljava/lang/Throwable;" } : Jvm.MethodName)) ∈ lw_all := lw_g (lw_at lw_m1 117 rfl) rfl
theorem q501 : (Jvm.Cond.instantiable "java/lang/ArrayStoreException" (6 : Nat)) ∈ lw_all := lw_g (lw_at lw_m2 237 rfl) rfl
theorem q502 : (Jvm.Cond.instanceMethod ({ cls := "java/lang/ArrayStoreException", name := "<init>", desc := "(Ljava/lang/String;)V" } : Jvm.MethodName)) ∈ lw_all := lw_g (lw_at lw_m2 238 rfl) rfl
theorem q503 : (Jvm.Cond.code ({ cls := "java/lang/ArrayStoreException", name := "<init>", desc := "(Ljava/lang/String;)V" } : Jvm.MethodName) prog_14_method_2_code (2 : Nat) (Option.none : Option Jvm.ClassFile.FieldType)) ∈ lw_all := lw_g (lw_at lw_m2 239 rfl) rfl
theorem q504 : (Jvm.Cond.methodLink "java/lang/ArrayStoreException" (7 : Nat) ({ cls := "java/lang/RuntimeException", name := "<init>", desc := "(Ljava/lang/String;)V" } : Jvm.MethodName)) ∈ lw_all := lw_g (lw_at lw_m3 0 rfl) rfl
theorem q505 : (Jvm.Cond.lays "java/lang/ArrayStoreException" "java/lang/Throwable" "backtrace" "Ljava/lang/Object;") ∈ lw_all := lw_g (lw_at lw_m3 1 rfl) rfl
theorem q506 : (Jvm.Cond.lays "java/lang/ArrayStoreException" "java/lang/Throwable" "detailMessage" "Ljava/lang/String;") ∈ lw_all := lw_g (lw_at lw_m3 2 rfl) rfl
theorem q507 : (Jvm.Cond.lays "java/lang/ArrayStoreException" "java/lang/Throwable" "cause" "Ljava/lang/Throwable;") ∈ lw_all := lw_g (lw_at lw_m3 3 rfl) rfl
theorem q508 : (Jvm.Cond.lays "java/lang/ArrayStoreException" "java/lang/Throwable" "stackTrace" "[Ljava/lang/StackTraceElement;") ∈ lw_all := lw_g (lw_at lw_m3 4 rfl) rfl
theorem q509 : (Jvm.Cond.lays "java/lang/ArrayStoreException" "java/lang/Throwable" "depth" "I") ∈ lw_all := lw_g (lw_at lw_m3 5 rfl) rfl
theorem q510 : (Jvm.Cond.lays "java/lang/ArrayStoreException" "java/lang/Throwable" "suppressedExceptions" "Ljava/util/List;") ∈ lw_all := lw_g (lw_at lw_m3 6 rfl) rfl
theorem q511 : (Jvm.Cond.superclass "java/lang/ArrayStoreException" "java/lang/RuntimeException") ∈ lw_all := lw_g (lw_at lw_m3 7 rfl) rfl
theorem q512 : (Jvm.Cond.castable "java/lang/ArrayStoreException" "java/lang/ArrayStoreException") ∈ lw_tbl := lw_at lw_m3 8 rfl
theorem q513 : (Jvm.Cond.selects "java/lang/ArrayStoreException" ({ cls := "java/lang/Throwable", name := "fillInStackTrace", desc := "(I)Ljava/lang/Throwable;" } : Jvm.MethodName) ({ cls := "java/lang/Throwable", name := "fillInStackTrace", desc := "(I)Ljava/lang/Throwable;" } : Jvm.MethodName)) ∈ lw_all := lw_g (lw_at lw_m3 9 rfl) rfl
theorem in_J12 : ∀ w ∈ wsJ120, w ∈ lw_all := lw_in wsJ120 [505, 506, 507, 508, 509, 510] (by decide +kernel) (by decide +kernel)
/-! java/lang/ArithmeticException -/
set_option maxRecDepth 100000
def RJ13 : String := "java/lang/ArithmeticException"
def TJ13 : u_T := fun k => match k with
  | 0 => ("java/lang/Throwable", "backtrace", "Ljava/lang/Object;", false)
  | 1 => ("java/lang/Throwable", "detailMessage", "Ljava/lang/String;", false)
  | 2 => ("java/lang/Throwable", "cause", "Ljava/lang/Throwable;", false)
  | 3 => ("java/lang/Throwable", "stackTrace", "[Ljava/lang/StackTraceElement;", false)
  | 4 => ("java/lang/Throwable", "depth", "I", false)
  | _ => ("java/lang/Throwable", "suppressedExceptions", "Ljava/util/List;", false)
def tyJ13 : Nat → FieldType := fun k => match k with
  | 0 => .object "java/lang/Object"
  | 1 => .object "java/lang/String"
  | 2 => .object "java/lang/Throwable"
  | 3 => .array (.object "java/lang/StackTraceElement")
  | 4 => .int
  | _ => .object "java/util/List"
abbrev wsJ130 : List Cond := u_ws RJ13 TJ13 6
theorem nmJ13 : ∀ a, a < 6 → ∀ b, b < 6 → a ≠ b → (TJ13 a).2.1 ≠ (TJ13 b).2.1 := by decide +kernel
theorem tyJ13_ok : ∀ k, k < 6 → parseFieldDescriptor (TJ13 k).2.2.1 = some (tyJ13 k) := by decide +kernel
abbrev cJ13_init : ByteArray := prog_12_method_2_code
def yJ13_init : MethodName := ⟨RJ13, "<init>", "(Ljava/lang/String;)V"⟩
def dkwJ13_init_0 : List UInt8 := [42, 43, 183, 0, 7, 177]
abbrev dktJ13_init_0 : List UInt8 := dkwJ13_init_0 ++ []
theorem dksJ13_init_0 : cJ13_init.data.toList.drop 0 = dktJ13_init_0 := by decide +kernel
theorem dJ13_init_0 : decode cJ13_init 0 = .ok (.aload_n 0, 1) := dk_42 (dk_at dksJ13_init_0 0 rfl rfl)
theorem dJ13_init_1 : decode cJ13_init 1 = .ok (.aload_n 1, 1) := dk_43 (dk_at dksJ13_init_0 1 rfl rfl)
theorem dJ13_init_2 : decode cJ13_init 2 = .ok (.invokespecial 7, 3) := dk_183 0 7 (dk_at dksJ13_init_0 2 rfl rfl)
theorem dJ13_init_5 : decode cJ13_init 5 = .ok (.return_, 1) := dk_177 (dk_at dksJ13_init_0 5 rfl rfl)
theorem q48 : (Jvm.Cond.initialized "java/lang/ArithmeticException") ∈ lw_all := lw_g (lw_at lw_m1 24 rfl) rfl
theorem q139 : (Jvm.Cond.selects "java/lang/ArithmeticException" ({ cls := "java/lang/Throwable", name := "fillInStackTrace", desc := "()Ljava/lang/Throwable;" } : Jvm.MethodName) ({ cls := "java/lang/Throwable", name := "fillInStackTrace", desc := "()Ljava/lang/Throwable;" } : Jvm.MethodName)) ∈ lw_all := lw_g (lw_at lw_m1 115 rfl) rfl
theorem q680 : (Jvm.Cond.instantiable "java/lang/ArithmeticException" (6 : Nat)) ∈ lw_all := lw_g (lw_at lw_m3 176 rfl) rfl
theorem q681 : (Jvm.Cond.instanceMethod ({ cls := "java/lang/ArithmeticException", name := "<init>", desc := "(Ljava/lang/String;)V" } : Jvm.MethodName)) ∈ lw_all := lw_g (lw_at lw_m3 177 rfl) rfl
theorem q682 : (Jvm.Cond.code ({ cls := "java/lang/ArithmeticException", name := "<init>", desc := "(Ljava/lang/String;)V" } : Jvm.MethodName) prog_12_method_2_code (2 : Nat) (Option.none : Option Jvm.ClassFile.FieldType)) ∈ lw_all := lw_g (lw_at lw_m3 178 rfl) rfl
theorem q683 : (Jvm.Cond.methodLink "java/lang/ArithmeticException" (7 : Nat) ({ cls := "java/lang/RuntimeException", name := "<init>", desc := "(Ljava/lang/String;)V" } : Jvm.MethodName)) ∈ lw_all := lw_g (lw_at lw_m3 179 rfl) rfl
theorem q684 : (Jvm.Cond.lays "java/lang/ArithmeticException" "java/lang/Throwable" "backtrace" "Ljava/lang/Object;") ∈ lw_all := lw_g (lw_at lw_m3 180 rfl) rfl
theorem q685 : (Jvm.Cond.lays "java/lang/ArithmeticException" "java/lang/Throwable" "detailMessage" "Ljava/lang/String;") ∈ lw_all := lw_g (lw_at lw_m3 181 rfl) rfl
theorem q686 : (Jvm.Cond.lays "java/lang/ArithmeticException" "java/lang/Throwable" "cause" "Ljava/lang/Throwable;") ∈ lw_all := lw_g (lw_at lw_m3 182 rfl) rfl
theorem q687 : (Jvm.Cond.lays "java/lang/ArithmeticException" "java/lang/Throwable" "stackTrace" "[Ljava/lang/StackTraceElement;") ∈ lw_all := lw_g (lw_at lw_m3 183 rfl) rfl
theorem q688 : (Jvm.Cond.lays "java/lang/ArithmeticException" "java/lang/Throwable" "depth" "I") ∈ lw_all := lw_g (lw_at lw_m3 184 rfl) rfl
theorem q689 : (Jvm.Cond.lays "java/lang/ArithmeticException" "java/lang/Throwable" "suppressedExceptions" "Ljava/util/List;") ∈ lw_all := lw_g (lw_at lw_m3 185 rfl) rfl
theorem q690 : (Jvm.Cond.superclass "java/lang/ArithmeticException" "java/lang/RuntimeException") ∈ lw_all := lw_g (lw_at lw_m3 186 rfl) rfl
theorem q691 : (Jvm.Cond.castable "java/lang/ArithmeticException" "java/lang/ArithmeticException") ∈ lw_tbl := lw_at lw_m3 187 rfl
theorem q692 : (Jvm.Cond.selects "java/lang/ArithmeticException" ({ cls := "java/lang/Throwable", name := "fillInStackTrace", desc := "(I)Ljava/lang/Throwable;" } : Jvm.MethodName) ({ cls := "java/lang/Throwable", name := "fillInStackTrace", desc := "(I)Ljava/lang/Throwable;" } : Jvm.MethodName)) ∈ lw_all := lw_g (lw_at lw_m3 188 rfl) rfl
theorem in_J13 : ∀ w ∈ wsJ130, w ∈ lw_all := lw_in wsJ130 [684, 685, 686, 687, 688, 689] (by decide +kernel) (by decide +kernel)
/-! java/lang/StrictMath -/
set_option maxRecDepth 100000
def RJ14 : String := "java/lang/StrictMath"
abbrev cJ14_floor : ByteArray := prog_25_method_17_code
def yJ14_floor : MethodName := ⟨RJ14, "floor", "(D)D"⟩
def dkwJ14_floor_0 : List UInt8 := [38, 20, 0, 64, 14, 20, 0, 64, 184, 0, 60, 175]
abbrev dktJ14_floor_0 : List UInt8 := dkwJ14_floor_0 ++ []
theorem dksJ14_floor_0 : cJ14_floor.data.toList.drop 0 = dktJ14_floor_0 := by decide +kernel
theorem dJ14_floor_0 : decode cJ14_floor 0 = .ok (.dload_n 0, 1) := dk_38 (dk_at dksJ14_floor_0 0 rfl rfl)
theorem dJ14_floor_1 : decode cJ14_floor 1 = .ok (.ldc2_w 64, 3) := dk_20 0 64 (dk_at dksJ14_floor_0 1 rfl rfl)
theorem dJ14_floor_4 : decode cJ14_floor 4 = .ok (.dconst 0, 1) := dk_14 (dk_at dksJ14_floor_0 4 rfl rfl)
theorem dJ14_floor_5 : decode cJ14_floor 5 = .ok (.ldc2_w 64, 3) := dk_20 0 64 (dk_at dksJ14_floor_0 5 rfl rfl)
theorem dJ14_floor_8 : decode cJ14_floor 8 = .ok (.invokestatic 60, 3) := dk_184 0 60 (dk_at dksJ14_floor_0 8 rfl rfl)
theorem dJ14_floor_11 : decode cJ14_floor 11 = .ok (.dreturn, 1) := dk_175 (dk_at dksJ14_floor_0 11 rfl rfl)
abbrev cJ14_floorOrCeil : ByteArray := prog_25_method_18_code
def yJ14_floorOrCeil : MethodName := ⟨RJ14, "floorOrCeil", "(DDDD)D"⟩
def dkwJ14_floorOrCeil_5 : List UInt8 := [24, 13, 24, 6, 99, 57, 13, 24, 13, 175]
abbrev dktJ14_floorOrCeil_5 : List UInt8 := dkwJ14_floorOrCeil_5 ++ []
def dkwJ14_floorOrCeil_4 : List UInt8 := [175, 22, 9, 22, 11, 20, 0, 87, 131, 127, 184, 0, 89, 57, 13, 24, 6, 38, 107, 14, 151, 158, 0, 10]
abbrev dktJ14_floorOrCeil_4 : List UInt8 := dkwJ14_floorOrCeil_4 ++ dktJ14_floorOrCeil_5
def dkwJ14_floorOrCeil_3 : List UInt8 := [184, 0, 77, 55, 9, 20, 0, 85, 21, 8, 123, 55, 11, 22, 11, 22, 9, 127, 9, 148, 154, 0, 5, 38]
abbrev dktJ14_floorOrCeil_3 : List UInt8 := dkwJ14_floorOrCeil_3 ++ dktJ14_floorOrCeil_4
def dkwJ14_floorOrCeil_2 : List UInt8 := [154, 0, 23, 21, 8, 155, 0, 10, 21, 8, 16, 51, 164, 0, 11, 187, 0, 74, 89, 183, 0, 76, 191, 38]
abbrev dktJ14_floorOrCeil_2 : List UInt8 := dkwJ14_floorOrCeil_2 ++ dktJ14_floorOrCeil_3
def dkwJ14_floorOrCeil_1 : List UInt8 := [156, 0, 7, 40, 167, 0, 5, 24, 4, 175, 21, 8, 16, 52, 161, 0, 5, 38, 175, 178, 0, 70]
abbrev dktJ14_floorOrCeil_1 : List UInt8 := dkwJ14_floorOrCeil_1 ++ dktJ14_floorOrCeil_2
def dkwJ14_floorOrCeil_0 : List UInt8 := [38, 184, 0, 66, 54, 8, 21, 8, 156, 0, 26, 38, 14, 151, 154, 0, 7, 38, 167, 0, 15, 38, 14, 152]
abbrev dktJ14_floorOrCeil_0 : List UInt8 := dkwJ14_floorOrCeil_0 ++ dktJ14_floorOrCeil_1
theorem dksJ14_floorOrCeil_0 : cJ14_floorOrCeil.data.toList.drop 0 = dktJ14_floorOrCeil_0 := by decide +kernel
theorem dksJ14_floorOrCeil_1 : cJ14_floorOrCeil.data.toList.drop 24 = dktJ14_floorOrCeil_1 := dk_seg dksJ14_floorOrCeil_0 24 rfl rfl
theorem dksJ14_floorOrCeil_2 : cJ14_floorOrCeil.data.toList.drop 46 = dktJ14_floorOrCeil_2 := dk_seg dksJ14_floorOrCeil_1 22 rfl rfl
theorem dksJ14_floorOrCeil_3 : cJ14_floorOrCeil.data.toList.drop 70 = dktJ14_floorOrCeil_3 := dk_seg dksJ14_floorOrCeil_2 24 rfl rfl
theorem dksJ14_floorOrCeil_4 : cJ14_floorOrCeil.data.toList.drop 94 = dktJ14_floorOrCeil_4 := dk_seg dksJ14_floorOrCeil_3 24 rfl rfl
theorem dksJ14_floorOrCeil_5 : cJ14_floorOrCeil.data.toList.drop 118 = dktJ14_floorOrCeil_5 := dk_seg dksJ14_floorOrCeil_4 24 rfl rfl
theorem dJ14_floorOrCeil_0 : decode cJ14_floorOrCeil 0 = .ok (.dload_n 0, 1) := dk_38 (dk_at dksJ14_floorOrCeil_0 0 rfl rfl)
theorem dJ14_floorOrCeil_1 : decode cJ14_floorOrCeil 1 = .ok (.invokestatic 66, 3) := dk_184 0 66 (dk_at dksJ14_floorOrCeil_0 1 rfl rfl)
theorem dJ14_floorOrCeil_4 : decode cJ14_floorOrCeil 4 = .ok (.istore 8, 2) := dk_54 8 (dk_at dksJ14_floorOrCeil_0 4 rfl rfl)
theorem dJ14_floorOrCeil_6 : decode cJ14_floorOrCeil 6 = .ok (.iload 8, 2) := dk_21 8 (dk_at dksJ14_floorOrCeil_0 6 rfl rfl)
theorem dJ14_floorOrCeil_8 : decode cJ14_floorOrCeil 8 = .ok (.ifCond .ge 26, 3) := dk_156 0 26 (dk_at dksJ14_floorOrCeil_0 8 rfl rfl)
theorem dJ14_floorOrCeil_11 : decode cJ14_floorOrCeil 11 = .ok (.dload_n 0, 1) := dk_38 (dk_at dksJ14_floorOrCeil_0 11 rfl rfl)
theorem dJ14_floorOrCeil_12 : decode cJ14_floorOrCeil 12 = .ok (.dconst 0, 1) := dk_14 (dk_at dksJ14_floorOrCeil_0 12 rfl rfl)
theorem dJ14_floorOrCeil_13 : decode cJ14_floorOrCeil 13 = .ok (.dcmp .l, 1) := dk_151 (dk_at dksJ14_floorOrCeil_0 13 rfl rfl)
theorem dJ14_floorOrCeil_14 : decode cJ14_floorOrCeil 14 = .ok (.ifCond .ne 7, 3) := dk_154 0 7 (dk_at dksJ14_floorOrCeil_0 14 rfl rfl)
theorem dJ14_floorOrCeil_17 : decode cJ14_floorOrCeil 17 = .ok (.dload_n 0, 1) := dk_38 (dk_at dksJ14_floorOrCeil_0 17 rfl rfl)
theorem dJ14_floorOrCeil_18 : decode cJ14_floorOrCeil 18 = .ok (.goto 15, 3) := dk_167 0 15 (dk_at dksJ14_floorOrCeil_0 18 rfl rfl)
theorem dJ14_floorOrCeil_21 : decode cJ14_floorOrCeil 21 = .ok (.dload_n 0, 1) := dk_38 (dk_at dksJ14_floorOrCeil_0 21 rfl rfl)
theorem dJ14_floorOrCeil_22 : decode cJ14_floorOrCeil 22 = .ok (.dconst 0, 1) := dk_14 (dk_at dksJ14_floorOrCeil_0 22 rfl rfl)
theorem dJ14_floorOrCeil_23 : decode cJ14_floorOrCeil 23 = .ok (.dcmp .g, 1) := dk_152 (dk_at dksJ14_floorOrCeil_0 23 rfl rfl)
theorem dJ14_floorOrCeil_24 : decode cJ14_floorOrCeil 24 = .ok (.ifCond .ge 7, 3) := dk_156 0 7 (dk_at dksJ14_floorOrCeil_1 0 rfl rfl)
theorem dJ14_floorOrCeil_27 : decode cJ14_floorOrCeil 27 = .ok (.dload_n 2, 1) := dk_40 (dk_at dksJ14_floorOrCeil_1 3 rfl rfl)
theorem dJ14_floorOrCeil_28 : decode cJ14_floorOrCeil 28 = .ok (.goto 5, 3) := dk_167 0 5 (dk_at dksJ14_floorOrCeil_1 4 rfl rfl)
theorem dJ14_floorOrCeil_31 : decode cJ14_floorOrCeil 31 = .ok (.dload 4, 2) := dk_24 4 (dk_at dksJ14_floorOrCeil_1 7 rfl rfl)
theorem dJ14_floorOrCeil_33 : decode cJ14_floorOrCeil 33 = .ok (.dreturn, 1) := dk_175 (dk_at dksJ14_floorOrCeil_1 9 rfl rfl)
theorem dJ14_floorOrCeil_34 : decode cJ14_floorOrCeil 34 = .ok (.iload 8, 2) := dk_21 8 (dk_at dksJ14_floorOrCeil_1 10 rfl rfl)
theorem dJ14_floorOrCeil_36 : decode cJ14_floorOrCeil 36 = .ok (.bipush 52, 2) := dk_16 52 (dk_at dksJ14_floorOrCeil_1 12 rfl rfl)
theorem dJ14_floorOrCeil_38 : decode cJ14_floorOrCeil 38 = .ok (.if_icmp .lt 5, 3) := dk_161 0 5 (dk_at dksJ14_floorOrCeil_1 14 rfl rfl)
theorem dJ14_floorOrCeil_41 : decode cJ14_floorOrCeil 41 = .ok (.dload_n 0, 1) := dk_38 (dk_at dksJ14_floorOrCeil_1 17 rfl rfl)
theorem dJ14_floorOrCeil_42 : decode cJ14_floorOrCeil 42 = .ok (.dreturn, 1) := dk_175 (dk_at dksJ14_floorOrCeil_1 18 rfl rfl)
theorem dJ14_floorOrCeil_43 : decode cJ14_floorOrCeil 43 = .ok (.getstatic 70, 3) := dk_178 0 70 (dk_at dksJ14_floorOrCeil_1 19 rfl rfl)
theorem dJ14_floorOrCeil_46 : decode cJ14_floorOrCeil 46 = .ok (.ifCond .ne 23, 3) := dk_154 0 23 (dk_at dksJ14_floorOrCeil_2 0 rfl rfl)
theorem dJ14_floorOrCeil_49 : decode cJ14_floorOrCeil 49 = .ok (.iload 8, 2) := dk_21 8 (dk_at dksJ14_floorOrCeil_2 3 rfl rfl)
theorem dJ14_floorOrCeil_51 : decode cJ14_floorOrCeil 51 = .ok (.ifCond .lt 10, 3) := dk_155 0 10 (dk_at dksJ14_floorOrCeil_2 5 rfl rfl)
theorem dJ14_floorOrCeil_54 : decode cJ14_floorOrCeil 54 = .ok (.iload 8, 2) := dk_21 8 (dk_at dksJ14_floorOrCeil_2 8 rfl rfl)
theorem dJ14_floorOrCeil_56 : decode cJ14_floorOrCeil 56 = .ok (.bipush 51, 2) := dk_16 51 (dk_at dksJ14_floorOrCeil_2 10 rfl rfl)
theorem dJ14_floorOrCeil_58 : decode cJ14_floorOrCeil 58 = .ok (.if_icmp .le 11, 3) := dk_164 0 11 (dk_at dksJ14_floorOrCeil_2 12 rfl rfl)
theorem dJ14_floorOrCeil_61 : decode cJ14_floorOrCeil 61 = .ok (.new 74, 3) := dk_187 0 74 (dk_at dksJ14_floorOrCeil_2 15 rfl rfl)
theorem dJ14_floorOrCeil_64 : decode cJ14_floorOrCeil 64 = .ok (.dup, 1) := dk_89 (dk_at dksJ14_floorOrCeil_2 18 rfl rfl)
theorem dJ14_floorOrCeil_65 : decode cJ14_floorOrCeil 65 = .ok (.invokespecial 76, 3) := dk_183 0 76 (dk_at dksJ14_floorOrCeil_2 19 rfl rfl)
theorem dJ14_floorOrCeil_68 : decode cJ14_floorOrCeil 68 = .ok (.athrow, 1) := dk_191 (dk_at dksJ14_floorOrCeil_2 22 rfl rfl)
theorem dJ14_floorOrCeil_69 : decode cJ14_floorOrCeil 69 = .ok (.dload_n 0, 1) := dk_38 (dk_at dksJ14_floorOrCeil_2 23 rfl rfl)
theorem dJ14_floorOrCeil_70 : decode cJ14_floorOrCeil 70 = .ok (.invokestatic 77, 3) := dk_184 0 77 (dk_at dksJ14_floorOrCeil_3 0 rfl rfl)
theorem dJ14_floorOrCeil_73 : decode cJ14_floorOrCeil 73 = .ok (.lstore 9, 2) := dk_55 9 (dk_at dksJ14_floorOrCeil_3 3 rfl rfl)
theorem dJ14_floorOrCeil_75 : decode cJ14_floorOrCeil 75 = .ok (.ldc2_w 85, 3) := dk_20 0 85 (dk_at dksJ14_floorOrCeil_3 5 rfl rfl)
theorem dJ14_floorOrCeil_78 : decode cJ14_floorOrCeil 78 = .ok (.iload 8, 2) := dk_21 8 (dk_at dksJ14_floorOrCeil_3 8 rfl rfl)
theorem dJ14_floorOrCeil_80 : decode cJ14_floorOrCeil 80 = .ok (.lshr, 1) := dk_123 (dk_at dksJ14_floorOrCeil_3 10 rfl rfl)
theorem dJ14_floorOrCeil_81 : decode cJ14_floorOrCeil 81 = .ok (.lstore 11, 2) := dk_55 11 (dk_at dksJ14_floorOrCeil_3 11 rfl rfl)
theorem dJ14_floorOrCeil_83 : decode cJ14_floorOrCeil 83 = .ok (.lload 11, 2) := dk_22 11 (dk_at dksJ14_floorOrCeil_3 13 rfl rfl)
theorem dJ14_floorOrCeil_85 : decode cJ14_floorOrCeil 85 = .ok (.lload 9, 2) := dk_22 9 (dk_at dksJ14_floorOrCeil_3 15 rfl rfl)
theorem dJ14_floorOrCeil_87 : decode cJ14_floorOrCeil 87 = .ok (.land, 1) := dk_127 (dk_at dksJ14_floorOrCeil_3 17 rfl rfl)
theorem dJ14_floorOrCeil_88 : decode cJ14_floorOrCeil 88 = .ok (.lconst 0, 1) := dk_9 (dk_at dksJ14_floorOrCeil_3 18 rfl rfl)
theorem dJ14_floorOrCeil_89 : decode cJ14_floorOrCeil 89 = .ok (.lcmp, 1) := dk_148 (dk_at dksJ14_floorOrCeil_3 19 rfl rfl)
theorem dJ14_floorOrCeil_90 : decode cJ14_floorOrCeil 90 = .ok (.ifCond .ne 5, 3) := dk_154 0 5 (dk_at dksJ14_floorOrCeil_3 20 rfl rfl)
theorem dJ14_floorOrCeil_93 : decode cJ14_floorOrCeil 93 = .ok (.dload_n 0, 1) := dk_38 (dk_at dksJ14_floorOrCeil_3 23 rfl rfl)
theorem dJ14_floorOrCeil_94 : decode cJ14_floorOrCeil 94 = .ok (.dreturn, 1) := dk_175 (dk_at dksJ14_floorOrCeil_4 0 rfl rfl)
theorem dJ14_floorOrCeil_95 : decode cJ14_floorOrCeil 95 = .ok (.lload 9, 2) := dk_22 9 (dk_at dksJ14_floorOrCeil_4 1 rfl rfl)
theorem dJ14_floorOrCeil_97 : decode cJ14_floorOrCeil 97 = .ok (.lload 11, 2) := dk_22 11 (dk_at dksJ14_floorOrCeil_4 3 rfl rfl)
theorem dJ14_floorOrCeil_99 : decode cJ14_floorOrCeil 99 = .ok (.ldc2_w 87, 3) := dk_20 0 87 (dk_at dksJ14_floorOrCeil_4 5 rfl rfl)
theorem dJ14_floorOrCeil_102 : decode cJ14_floorOrCeil 102 = .ok (.lxor, 1) := dk_131 (dk_at dksJ14_floorOrCeil_4 8 rfl rfl)
theorem dJ14_floorOrCeil_103 : decode cJ14_floorOrCeil 103 = .ok (.land, 1) := dk_127 (dk_at dksJ14_floorOrCeil_4 9 rfl rfl)
theorem dJ14_floorOrCeil_104 : decode cJ14_floorOrCeil 104 = .ok (.invokestatic 89, 3) := dk_184 0 89 (dk_at dksJ14_floorOrCeil_4 10 rfl rfl)
theorem dJ14_floorOrCeil_107 : decode cJ14_floorOrCeil 107 = .ok (.dstore 13, 2) := dk_57 13 (dk_at dksJ14_floorOrCeil_4 13 rfl rfl)
theorem dJ14_floorOrCeil_109 : decode cJ14_floorOrCeil 109 = .ok (.dload 6, 2) := dk_24 6 (dk_at dksJ14_floorOrCeil_4 15 rfl rfl)
theorem dJ14_floorOrCeil_111 : decode cJ14_floorOrCeil 111 = .ok (.dload_n 0, 1) := dk_38 (dk_at dksJ14_floorOrCeil_4 17 rfl rfl)
theorem dJ14_floorOrCeil_112 : decode cJ14_floorOrCeil 112 = .ok (.dmul, 1) := dk_107 (dk_at dksJ14_floorOrCeil_4 18 rfl rfl)
theorem dJ14_floorOrCeil_113 : decode cJ14_floorOrCeil 113 = .ok (.dconst 0, 1) := dk_14 (dk_at dksJ14_floorOrCeil_4 19 rfl rfl)
theorem dJ14_floorOrCeil_114 : decode cJ14_floorOrCeil 114 = .ok (.dcmp .l, 1) := dk_151 (dk_at dksJ14_floorOrCeil_4 20 rfl rfl)
theorem dJ14_floorOrCeil_115 : decode cJ14_floorOrCeil 115 = .ok (.ifCond .le 10, 3) := dk_158 0 10 (dk_at dksJ14_floorOrCeil_4 21 rfl rfl)
theorem dJ14_floorOrCeil_118 : decode cJ14_floorOrCeil 118 = .ok (.dload 13, 2) := dk_24 13 (dk_at dksJ14_floorOrCeil_5 0 rfl rfl)
theorem dJ14_floorOrCeil_120 : decode cJ14_floorOrCeil 120 = .ok (.dload 6, 2) := dk_24 6 (dk_at dksJ14_floorOrCeil_5 2 rfl rfl)
theorem dJ14_floorOrCeil_122 : decode cJ14_floorOrCeil 122 = .ok (.dadd, 1) := dk_99 (dk_at dksJ14_floorOrCeil_5 4 rfl rfl)
theorem dJ14_floorOrCeil_123 : decode cJ14_floorOrCeil 123 = .ok (.dstore 13, 2) := dk_57 13 (dk_at dksJ14_floorOrCeil_5 5 rfl rfl)
theorem dJ14_floorOrCeil_125 : decode cJ14_floorOrCeil 125 = .ok (.dload 13, 2) := dk_24 13 (dk_at dksJ14_floorOrCeil_5 7 rfl rfl)
theorem dJ14_floorOrCeil_127 : decode cJ14_floorOrCeil 127 = .ok (.dreturn, 1) := dk_175 (dk_at dksJ14_floorOrCeil_5 9 rfl rfl)
abbrev cJ14_ceil : ByteArray := prog_25_method_16_code
def yJ14_ceil : MethodName := ⟨RJ14, "ceil", "(D)D"⟩
def dkwJ14_ceil_0 : List UInt8 := [38, 20, 0, 58, 15, 15, 184, 0, 60, 175]
abbrev dktJ14_ceil_0 : List UInt8 := dkwJ14_ceil_0 ++ []
theorem dksJ14_ceil_0 : cJ14_ceil.data.toList.drop 0 = dktJ14_ceil_0 := by decide +kernel
theorem dJ14_ceil_0 : decode cJ14_ceil 0 = .ok (.dload_n 0, 1) := dk_38 (dk_at dksJ14_ceil_0 0 rfl rfl)
theorem dJ14_ceil_1 : decode cJ14_ceil 1 = .ok (.ldc2_w 58, 3) := dk_20 0 58 (dk_at dksJ14_ceil_0 1 rfl rfl)
theorem dJ14_ceil_4 : decode cJ14_ceil 4 = .ok (.dconst 1, 1) := dk_15 (dk_at dksJ14_ceil_0 4 rfl rfl)
theorem dJ14_ceil_5 : decode cJ14_ceil 5 = .ok (.dconst 1, 1) := dk_15 (dk_at dksJ14_ceil_0 5 rfl rfl)
theorem dJ14_ceil_6 : decode cJ14_ceil 6 = .ok (.invokestatic 60, 3) := dk_184 0 60 (dk_at dksJ14_ceil_0 6 rfl rfl)
theorem dJ14_ceil_9 : decode cJ14_ceil 9 = .ok (.dreturn, 1) := dk_175 (dk_at dksJ14_ceil_0 9 rfl rfl)
abbrev cJ14_rint : ByteArray := prog_25_method_19_code
def yJ14_rint : MethodName := ⟨RJ14, "rint", "(D)D"⟩
def dkwJ14_rint_1 : List UInt8 := [99, 40, 103, 71, 24, 4, 38, 107, 175]
abbrev dktJ14_rint_1 : List UInt8 := dkwJ14_rint_1 ++ []
def dkwJ14_rint_0 : List UInt8 := [20, 0, 93, 73, 15, 38, 184, 0, 95, 57, 4, 38, 184, 0, 98, 71, 38, 40, 152, 156, 0, 9, 40, 38]
abbrev dktJ14_rint_0 : List UInt8 := dkwJ14_rint_0 ++ dktJ14_rint_1
theorem dksJ14_rint_0 : cJ14_rint.data.toList.drop 0 = dktJ14_rint_0 := by decide +kernel
theorem dksJ14_rint_1 : cJ14_rint.data.toList.drop 24 = dktJ14_rint_1 := dk_seg dksJ14_rint_0 24 rfl rfl
theorem dJ14_rint_0 : decode cJ14_rint 0 = .ok (.ldc2_w 93, 3) := dk_20 0 93 (dk_at dksJ14_rint_0 0 rfl rfl)
theorem dJ14_rint_3 : decode cJ14_rint 3 = .ok (.dstore_n 2, 1) := dk_73 (dk_at dksJ14_rint_0 3 rfl rfl)
theorem dJ14_rint_4 : decode cJ14_rint 4 = .ok (.dconst 1, 1) := dk_15 (dk_at dksJ14_rint_0 4 rfl rfl)
theorem dJ14_rint_5 : decode cJ14_rint 5 = .ok (.dload_n 0, 1) := dk_38 (dk_at dksJ14_rint_0 5 rfl rfl)
theorem dJ14_rint_6 : decode cJ14_rint 6 = .ok (.invokestatic 95, 3) := dk_184 0 95 (dk_at dksJ14_rint_0 6 rfl rfl)
theorem dJ14_rint_9 : decode cJ14_rint 9 = .ok (.dstore 4, 2) := dk_57 4 (dk_at dksJ14_rint_0 9 rfl rfl)
theorem dJ14_rint_11 : decode cJ14_rint 11 = .ok (.dload_n 0, 1) := dk_38 (dk_at dksJ14_rint_0 11 rfl rfl)
theorem dJ14_rint_12 : decode cJ14_rint 12 = .ok (.invokestatic 98, 3) := dk_184 0 98 (dk_at dksJ14_rint_0 12 rfl rfl)
theorem dJ14_rint_15 : decode cJ14_rint 15 = .ok (.dstore_n 0, 1) := dk_71 (dk_at dksJ14_rint_0 15 rfl rfl)
theorem dJ14_rint_16 : decode cJ14_rint 16 = .ok (.dload_n 0, 1) := dk_38 (dk_at dksJ14_rint_0 16 rfl rfl)
theorem dJ14_rint_17 : decode cJ14_rint 17 = .ok (.dload_n 2, 1) := dk_40 (dk_at dksJ14_rint_0 17 rfl rfl)
theorem dJ14_rint_18 : decode cJ14_rint 18 = .ok (.dcmp .g, 1) := dk_152 (dk_at dksJ14_rint_0 18 rfl rfl)
theorem dJ14_rint_19 : decode cJ14_rint 19 = .ok (.ifCond .ge 9, 3) := dk_156 0 9 (dk_at dksJ14_rint_0 19 rfl rfl)
theorem dJ14_rint_22 : decode cJ14_rint 22 = .ok (.dload_n 2, 1) := dk_40 (dk_at dksJ14_rint_0 22 rfl rfl)
theorem dJ14_rint_23 : decode cJ14_rint 23 = .ok (.dload_n 0, 1) := dk_38 (dk_at dksJ14_rint_0 23 rfl rfl)
theorem dJ14_rint_24 : decode cJ14_rint 24 = .ok (.dadd, 1) := dk_99 (dk_at dksJ14_rint_1 0 rfl rfl)
theorem dJ14_rint_25 : decode cJ14_rint 25 = .ok (.dload_n 2, 1) := dk_40 (dk_at dksJ14_rint_1 1 rfl rfl)
theorem dJ14_rint_26 : decode cJ14_rint 26 = .ok (.dsub, 1) := dk_103 (dk_at dksJ14_rint_1 2 rfl rfl)
theorem dJ14_rint_27 : decode cJ14_rint 27 = .ok (.dstore_n 0, 1) := dk_71 (dk_at dksJ14_rint_1 3 rfl rfl)
theorem dJ14_rint_28 : decode cJ14_rint 28 = .ok (.dload 4, 2) := dk_24 4 (dk_at dksJ14_rint_1 4 rfl rfl)
theorem dJ14_rint_30 : decode cJ14_rint 30 = .ok (.dload_n 0, 1) := dk_38 (dk_at dksJ14_rint_1 6 rfl rfl)
theorem dJ14_rint_31 : decode cJ14_rint 31 = .ok (.dmul, 1) := dk_107 (dk_at dksJ14_rint_1 7 rfl rfl)
theorem dJ14_rint_32 : decode cJ14_rint 32 = .ok (.dreturn, 1) := dk_175 (dk_at dksJ14_rint_1 8 rfl rfl)
theorem q49 : (Jvm.Cond.initialized "java/lang/StrictMath") ∈ lw_all := lw_g (lw_at lw_m1 25 rfl) rfl
theorem q730 : (Jvm.Cond.static ({ cls := "java/lang/StrictMath", name := "floor", desc := "(D)D" } : Jvm.MethodName)) ∈ lw_all := lw_g (lw_at lw_m3 226 rfl) rfl
theorem q731 : (Jvm.Cond.code ({ cls := "java/lang/StrictMath", name := "floor", desc := "(D)D" } : Jvm.MethodName) prog_25_method_17_code (2 : Nat) (Option.some Jvm.ClassFile.FieldType.double)) ∈ lw_all := lw_g (lw_at lw_m3 227 rfl) rfl
theorem q732 : (Jvm.Cond.constantDouble "java/lang/StrictMath" (64 : Nat) (13830554455654793216 : UInt64)) ∈ lw_all := lw_g (lw_at lw_m3 228 rfl) rfl
theorem q733 : (Jvm.Cond.methodLink "java/lang/StrictMath" (60 : Nat) ({ cls := "java/lang/StrictMath", name := "floorOrCeil", desc := "(DDDD)D" } : Jvm.MethodName)) ∈ lw_all := lw_g (lw_at lw_m3 229 rfl) rfl
theorem q734 : (Jvm.Cond.static ({ cls := "java/lang/StrictMath", name := "floorOrCeil", desc := "(DDDD)D" } : Jvm.MethodName)) ∈ lw_all := lw_g (lw_at lw_m3 230 rfl) rfl
theorem q735 : (Jvm.Cond.code ({ cls := "java/lang/StrictMath", name := "floorOrCeil", desc := "(DDDD)D" } : Jvm.MethodName) prog_25_method_18_code (15 : Nat) (Option.some Jvm.ClassFile.FieldType.double)) ∈ lw_all := lw_g (lw_at lw_m3 231 rfl) rfl
theorem q736 : (Jvm.Cond.methodLink "java/lang/StrictMath" (66 : Nat) ({ cls := "java/lang/Math", name := "getExponent", desc := "(D)I" } : Jvm.MethodName)) ∈ lw_all := lw_g (lw_at lw_m3 232 rfl) rfl
theorem q741 : (Jvm.Cond.fieldLink "java/lang/StrictMath" (70 : Nat) "java/lang/StrictMath" "$assertionsDisabled" "Z") ∈ lw_all := lw_g (lw_at lw_m3 237 rfl) rfl
theorem q742 : (Jvm.Cond.laysStatic "java/lang/StrictMath" "$assertionsDisabled" "Z") ∈ lw_tbl := lw_at lw_m3 238 rfl
theorem q743 : (Jvm.Cond.methodLink "java/lang/StrictMath" (77 : Nat) ({ cls := "java/lang/Double", name := "doubleToRawLongBits", desc := "(D)J" } : Jvm.MethodName)) ∈ lw_all := lw_g (lw_at lw_m3 239 rfl) rfl
theorem q744 : (Jvm.Cond.constantLong "java/lang/StrictMath" (85 : Nat) (4503599627370495 : Int64)) ∈ lw_all := lw_g (lw_at lw_m4 0 rfl) rfl
theorem q745 : (Jvm.Cond.constantLong "java/lang/StrictMath" (87 : Nat) (-1 : Int64)) ∈ lw_all := lw_g (lw_at lw_m4 1 rfl) rfl
theorem q746 : (Jvm.Cond.methodLink "java/lang/StrictMath" (89 : Nat) ({ cls := "java/lang/Double", name := "longBitsToDouble", desc := "(J)D" } : Jvm.MethodName)) ∈ lw_all := lw_g (lw_at lw_m4 2 rfl) rfl
theorem q751 : (Jvm.Cond.static ({ cls := "java/lang/StrictMath", name := "ceil", desc := "(D)D" } : Jvm.MethodName)) ∈ lw_all := lw_g (lw_at lw_m4 7 rfl) rfl
theorem q752 : (Jvm.Cond.code ({ cls := "java/lang/StrictMath", name := "ceil", desc := "(D)D" } : Jvm.MethodName) prog_25_method_16_code (2 : Nat) (Option.some Jvm.ClassFile.FieldType.double)) ∈ lw_all := lw_g (lw_at lw_m4 8 rfl) rfl
theorem q753 : (Jvm.Cond.constantDouble "java/lang/StrictMath" (58 : Nat) (9223372036854775808 : UInt64)) ∈ lw_all := lw_g (lw_at lw_m4 9 rfl) rfl
theorem q758 : (Jvm.Cond.static ({ cls := "java/lang/StrictMath", name := "rint", desc := "(D)D" } : Jvm.MethodName)) ∈ lw_all := lw_g (lw_at lw_m4 14 rfl) rfl
theorem q759 : (Jvm.Cond.code ({ cls := "java/lang/StrictMath", name := "rint", desc := "(D)D" } : Jvm.MethodName) prog_25_method_19_code (6 : Nat) (Option.some Jvm.ClassFile.FieldType.double)) ∈ lw_all := lw_g (lw_at lw_m4 15 rfl) rfl
theorem q760 : (Jvm.Cond.constantDouble "java/lang/StrictMath" (93 : Nat) (4841369599423283200 : UInt64)) ∈ lw_all := lw_g (lw_at lw_m4 16 rfl) rfl
theorem q761 : (Jvm.Cond.methodLink "java/lang/StrictMath" (95 : Nat) ({ cls := "java/lang/Math", name := "copySign", desc := "(DD)D" } : Jvm.MethodName)) ∈ lw_all := lw_g (lw_at lw_m4 17 rfl) rfl
theorem q762 : (Jvm.Cond.methodLink "java/lang/StrictMath" (98 : Nat) ({ cls := "java/lang/Math", name := "abs", desc := "(D)D" } : Jvm.MethodName)) ∈ lw_all := lw_g (lw_at lw_m4 18 rfl) rfl
/-! java/lang/Object -/
set_option maxRecDepth 100000
def RJ15 : String := "java/lang/Object"
abbrev cJ15_init : ByteArray := object_method_1_code
def yJ15_init : MethodName := ⟨RJ15, "<init>", "()V"⟩
theorem dJ15_init_0 : decode cJ15_init 0 = .ok (.return_, 1) := by decide +kernel
theorem q56 : (Jvm.Cond.instanceMethod ({ cls := "java/lang/Object", name := "<init>", desc := "()V" } : Jvm.MethodName)) ∈ lw_all := lw_g (lw_at lw_m1 32 rfl) rfl
theorem q57 : (Jvm.Cond.code ({ cls := "java/lang/Object", name := "<init>", desc := "()V" } : Jvm.MethodName) object_method_1_code (1 : Nat) (Option.none : Option Jvm.ClassFile.FieldType)) ∈ lw_all := lw_g (lw_at lw_m1 33 rfl) rfl
/-! java/lang/Exception -/
set_option maxRecDepth 100000
def RJ2 : String := "java/lang/Exception"
abbrev cJ2_init : ByteArray := prog_17_method_2_code
def yJ2_init : MethodName := ⟨RJ2, "<init>", "(Ljava/lang/String;)V"⟩
def dkwJ2_init_0 : List UInt8 := [42, 43, 183, 0, 7, 177]
abbrev dktJ2_init_0 : List UInt8 := dkwJ2_init_0 ++ []
theorem dksJ2_init_0 : cJ2_init.data.toList.drop 0 = dktJ2_init_0 := by decide +kernel
theorem dJ2_init_0 : decode cJ2_init 0 = .ok (.aload_n 0, 1) := dk_42 (dk_at dksJ2_init_0 0 rfl rfl)
theorem dJ2_init_1 : decode cJ2_init 1 = .ok (.aload_n 1, 1) := dk_43 (dk_at dksJ2_init_0 1 rfl rfl)
theorem dJ2_init_2 : decode cJ2_init 2 = .ok (.invokespecial 7, 3) := dk_183 0 7 (dk_at dksJ2_init_0 2 rfl rfl)
theorem dJ2_init_5 : decode cJ2_init 5 = .ok (.return_, 1) := dk_177 (dk_at dksJ2_init_0 5 rfl rfl)
abbrev cJ2_init_2 : ByteArray := prog_17_method_5_code
def yJ2_init_2 : MethodName := ⟨RJ2, "<init>", "(Ljava/lang/String;Ljava/lang/Throwable;ZZ)V"⟩
def dkwJ2_init_2_0 : List UInt8 := [42, 43, 44, 29, 21, 4, 183, 0, 16, 177]
abbrev dktJ2_init_2_0 : List UInt8 := dkwJ2_init_2_0 ++ []
theorem dksJ2_init_2_0 : cJ2_init_2.data.toList.drop 0 = dktJ2_init_2_0 := by decide +kernel
theorem dJ2_init_2_0 : decode cJ2_init_2 0 = .ok (.aload_n 0, 1) := dk_42 (dk_at dksJ2_init_2_0 0 rfl rfl)
theorem dJ2_init_2_1 : decode cJ2_init_2 1 = .ok (.aload_n 1, 1) := dk_43 (dk_at dksJ2_init_2_0 1 rfl rfl)
theorem dJ2_init_2_2 : decode cJ2_init_2 2 = .ok (.aload_n 2, 1) := dk_44 (dk_at dksJ2_init_2_0 2 rfl rfl)
theorem dJ2_init_2_3 : decode cJ2_init_2 3 = .ok (.iload_n 3, 1) := dk_29 (dk_at dksJ2_init_2_0 3 rfl rfl)
theorem dJ2_init_2_4 : decode cJ2_init_2 4 = .ok (.iload 4, 2) := dk_21 4 (dk_at dksJ2_init_2_0 4 rfl rfl)
theorem dJ2_init_2_6 : decode cJ2_init_2 6 = .ok (.invokespecial 16, 3) := dk_183 0 16 (dk_at dksJ2_init_2_0 6 rfl rfl)
theorem dJ2_init_2_9 : decode cJ2_init_2 9 = .ok (.return_, 1) := dk_177 (dk_at dksJ2_init_2_0 9 rfl rfl)
abbrev cJ2_init_3 : ByteArray := prog_17_method_1_code
def yJ2_init_3 : MethodName := ⟨RJ2, "<init>", "()V"⟩
theorem dJ2_init_3_0 : decode cJ2_init_3 0 = .ok (.aload_n 0, 1) := by decide +kernel
theorem dJ2_init_3_1 : decode cJ2_init_3 1 = .ok (.invokespecial 1, 3) := by decide +kernel
theorem dJ2_init_3_4 : decode cJ2_init_3 4 = .ok (.return_, 1) := by decide +kernel
theorem q30 : (Jvm.Cond.initialized "java/lang/Exception") ∈ lw_all := lw_g (lw_at lw_m1 6 rfl) rfl
theorem q125 : (Jvm.Cond.instanceMethod ({ cls := "java/lang/Exception", name := "<init>", desc := "(Ljava/lang/String;)V" } : Jvm.MethodName)) ∈ lw_all := lw_g (lw_at lw_m1 101 rfl) rfl
theorem q126 : (Jvm.Cond.code ({ cls := "java/lang/Exception", name := "<init>", desc := "(Ljava/lang/String;)V" } : Jvm.MethodName) prog_17_method_2_code (2 : Nat) (Option.none : Option Jvm.ClassFile.FieldType)) ∈ lw_all := lw_g (lw_at lw_m1 102 rfl) rfl
theorem q127 : (Jvm.Cond.methodLink "java/lang/Exception" (7 : Nat) ({ cls := "java/lang/Throwable", name := "<init>", desc := "(Ljava/lang/String;)V" } : Jvm.MethodName)) ∈ lw_all := lw_g (lw_at lw_m1 103 rfl) rfl
theorem q157 : (Jvm.Cond.superclass "java/lang/Exception" "java/lang/Throwable") ∈ lw_all := lw_g (lw_at lw_m1 133 rfl) rfl
theorem q185 : (Jvm.Cond.declares ({ cls := "java/lang/Exception", name := "<init>", desc := "()V" } : Jvm.MethodName)) ∈ lw_tbl := lw_at lw_m1 161 rfl
theorem q186 : (Jvm.Cond.declares ({ cls := "java/lang/Exception", name := "<init>", desc := "(Ljava/lang/String;)V" } : Jvm.MethodName)) ∈ lw_tbl := lw_at lw_m1 162 rfl
theorem q296 : (Jvm.Cond.instanceMethod ({ cls := "java/lang/Exception", name := "<init>", desc := "(Ljava/lang/String;Ljava/lang/Throwable;ZZ)V" } : Jvm.MethodName)) ∈ lw_all := lw_g (lw_at lw_m2 32 rfl) rfl
theorem q297 : (Jvm.Cond.code ({ cls := "java/lang/Exception", name := "<init>", desc := "(Ljava/lang/String;Ljava/lang/Throwable;ZZ)V" } : Jvm.MethodName) prog_17_method_5_code (5 : Nat) (Option.none : Option Jvm.ClassFile.FieldType)) ∈ lw_all := lw_g (lw_at lw_m2 33 rfl) rfl
theorem q298 : (Jvm.Cond.methodLink "java/lang/Exception" (16 : Nat) ({ cls := "java/lang/Throwable", name := "<init>", desc := "(Ljava/lang/String;Ljava/lang/Throwable;ZZ)V" } : Jvm.MethodName)) ∈ lw_all := lw_g (lw_at lw_m2 34 rfl) rfl
theorem q376 : (Jvm.Cond.instanceMethod ({ cls := "java/lang/Exception", name := "<init>", desc := "()V" } : Jvm.MethodName)) ∈ lw_all := lw_g (lw_at lw_m2 112 rfl) rfl
theorem q377 : (Jvm.Cond.code ({ cls := "java/lang/Exception", name := "<init>", desc := "()V" } : Jvm.MethodName) prog_17_method_1_code (1 : Nat) (Option.none : Option Jvm.ClassFile.FieldType)) ∈ lw_all := lw_g (lw_at lw_m2 113 rfl) rfl
theorem q378 : (Jvm.Cond.methodLink "java/lang/Exception" (1 : Nat) ({ cls := "java/lang/Throwable", name := "<init>", desc := "()V" } : Jvm.MethodName)) ∈ lw_all := lw_g (lw_at lw_m2 114 rfl) rfl
/-! java/lang/RuntimeException -/
set_option maxRecDepth 100000
def RJ3 : String := "java/lang/RuntimeException"
abbrev cJ3_init : ByteArray := prog_24_method_2_code
def yJ3_init : MethodName := ⟨RJ3, "<init>", "(Ljava/lang/String;)V"⟩
def dkwJ3_init_0 : List UInt8 := [42, 43, 183, 0, 7, 177]
abbrev dktJ3_init_0 : List UInt8 := dkwJ3_init_0 ++ []
theorem dksJ3_init_0 : cJ3_init.data.toList.drop 0 = dktJ3_init_0 := by decide +kernel
theorem dJ3_init_0 : decode cJ3_init 0 = .ok (.aload_n 0, 1) := dk_42 (dk_at dksJ3_init_0 0 rfl rfl)
theorem dJ3_init_1 : decode cJ3_init 1 = .ok (.aload_n 1, 1) := dk_43 (dk_at dksJ3_init_0 1 rfl rfl)
theorem dJ3_init_2 : decode cJ3_init 2 = .ok (.invokespecial 7, 3) := dk_183 0 7 (dk_at dksJ3_init_0 2 rfl rfl)
theorem dJ3_init_5 : decode cJ3_init 5 = .ok (.return_, 1) := dk_177 (dk_at dksJ3_init_0 5 rfl rfl)
abbrev cJ3_init_2 : ByteArray := prog_24_method_5_code
def yJ3_init_2 : MethodName := ⟨RJ3, "<init>", "(Ljava/lang/String;Ljava/lang/Throwable;ZZ)V"⟩
def dkwJ3_init_2_0 : List UInt8 := [42, 43, 44, 29, 21, 4, 183, 0, 16, 177]
abbrev dktJ3_init_2_0 : List UInt8 := dkwJ3_init_2_0 ++ []
theorem dksJ3_init_2_0 : cJ3_init_2.data.toList.drop 0 = dktJ3_init_2_0 := by decide +kernel
theorem dJ3_init_2_0 : decode cJ3_init_2 0 = .ok (.aload_n 0, 1) := dk_42 (dk_at dksJ3_init_2_0 0 rfl rfl)
theorem dJ3_init_2_1 : decode cJ3_init_2 1 = .ok (.aload_n 1, 1) := dk_43 (dk_at dksJ3_init_2_0 1 rfl rfl)
theorem dJ3_init_2_2 : decode cJ3_init_2 2 = .ok (.aload_n 2, 1) := dk_44 (dk_at dksJ3_init_2_0 2 rfl rfl)
theorem dJ3_init_2_3 : decode cJ3_init_2 3 = .ok (.iload_n 3, 1) := dk_29 (dk_at dksJ3_init_2_0 3 rfl rfl)
theorem dJ3_init_2_4 : decode cJ3_init_2 4 = .ok (.iload 4, 2) := dk_21 4 (dk_at dksJ3_init_2_0 4 rfl rfl)
theorem dJ3_init_2_6 : decode cJ3_init_2 6 = .ok (.invokespecial 16, 3) := dk_183 0 16 (dk_at dksJ3_init_2_0 6 rfl rfl)
theorem dJ3_init_2_9 : decode cJ3_init_2 9 = .ok (.return_, 1) := dk_177 (dk_at dksJ3_init_2_0 9 rfl rfl)
abbrev cJ3_init_3 : ByteArray := prog_24_method_1_code
def yJ3_init_3 : MethodName := ⟨RJ3, "<init>", "()V"⟩
theorem dJ3_init_3_0 : decode cJ3_init_3 0 = .ok (.aload_n 0, 1) := by decide +kernel
theorem dJ3_init_3_1 : decode cJ3_init_3 1 = .ok (.invokespecial 1, 3) := by decide +kernel
theorem dJ3_init_3_4 : decode cJ3_init_3 4 = .ok (.return_, 1) := by decide +kernel
theorem q31 : (Jvm.Cond.initialized "java/lang/RuntimeException") ∈ lw_all := lw_g (lw_at lw_m1 7 rfl) rfl
theorem q122 : (Jvm.Cond.instanceMethod ({ cls := "java/lang/RuntimeException", name := "<init>", desc := "(Ljava/lang/String;)V" } : Jvm.MethodName)) ∈ lw_all := lw_g (lw_at lw_m1 98 rfl) rfl
theorem q123 : (Jvm.Cond.code ({ cls := "java/lang/RuntimeException", name := "<init>", desc := "(Ljava/lang/String;)V" } : Jvm.MethodName) prog_24_method_2_code (2 : Nat) (Option.none : Option Jvm.ClassFile.FieldType)) ∈ lw_all := lw_g (lw_at lw_m1 99 rfl) rfl
theorem q124 : (Jvm.Cond.methodLink "java/lang/RuntimeException" (7 : Nat) ({ cls := "java/lang/Exception", name := "<init>", desc := "(Ljava/lang/String;)V" } : Jvm.MethodName)) ∈ lw_all := lw_g (lw_at lw_m1 100 rfl) rfl
theorem q153 : (Jvm.Cond.sameMethod "java/lang/RuntimeException" "java/lang/Throwable" "fillInStackTrace" "()Ljava/lang/Throwable;") ∈ lw_all := lw_g (lw_at lw_m1 129 rfl) rfl
theorem q156 : (Jvm.Cond.superclass "java/lang/RuntimeException" "java/lang/Exception") ∈ lw_all := lw_g (lw_at lw_m1 132 rfl) rfl
theorem q183 : (Jvm.Cond.declares ({ cls := "java/lang/RuntimeException", name := "<init>", desc := "()V" } : Jvm.MethodName)) ∈ lw_tbl := lw_at lw_m1 159 rfl
theorem q184 : (Jvm.Cond.declares ({ cls := "java/lang/RuntimeException", name := "<init>", desc := "(Ljava/lang/String;)V" } : Jvm.MethodName)) ∈ lw_tbl := lw_at lw_m1 160 rfl
theorem q293 : (Jvm.Cond.instanceMethod ({ cls := "java/lang/RuntimeException", name := "<init>", desc := "(Ljava/lang/String;Ljava/lang/Throwable;ZZ)V" } : Jvm.MethodName)) ∈ lw_all := lw_g (lw_at lw_m2 29 rfl) rfl
theorem q294 : (Jvm.Cond.code ({ cls := "java/lang/RuntimeException", name := "<init>", desc := "(Ljava/lang/String;Ljava/lang/Throwable;ZZ)V" } : Jvm.MethodName) prog_24_method_5_code (5 : Nat) (Option.none : Option Jvm.ClassFile.FieldType)) ∈ lw_all := lw_g (lw_at lw_m2 30 rfl) rfl
theorem q295 : (Jvm.Cond.methodLink "java/lang/RuntimeException" (16 : Nat) ({ cls := "java/lang/Exception", name := "<init>", desc := "(Ljava/lang/String;Ljava/lang/Throwable;ZZ)V" } : Jvm.MethodName)) ∈ lw_all := lw_g (lw_at lw_m2 31 rfl) rfl
theorem q373 : (Jvm.Cond.instanceMethod ({ cls := "java/lang/RuntimeException", name := "<init>", desc := "()V" } : Jvm.MethodName)) ∈ lw_all := lw_g (lw_at lw_m2 109 rfl) rfl
theorem q374 : (Jvm.Cond.code ({ cls := "java/lang/RuntimeException", name := "<init>", desc := "()V" } : Jvm.MethodName) prog_24_method_1_code (1 : Nat) (Option.none : Option Jvm.ClassFile.FieldType)) ∈ lw_all := lw_g (lw_at lw_m2 110 rfl) rfl
theorem q375 : (Jvm.Cond.methodLink "java/lang/RuntimeException" (1 : Nat) ({ cls := "java/lang/Exception", name := "<init>", desc := "()V" } : Jvm.MethodName)) ∈ lw_all := lw_g (lw_at lw_m2 111 rfl) rfl
theorem q393 : (Jvm.Cond.castable "java/lang/RuntimeException" "java/lang/Throwable") ∈ lw_tbl := lw_at lw_m2 129 rfl
/-! java/lang/NegativeArraySizeException -/
set_option maxRecDepth 100000
def RJ4 : String := "java/lang/NegativeArraySizeException"
def TJ4 : u_T := fun k => match k with
  | 0 => ("java/lang/Throwable", "backtrace", "Ljava/lang/Object;", false)
  | 1 => ("java/lang/Throwable", "detailMessage", "Ljava/lang/String;", false)
  | 2 => ("java/lang/Throwable", "cause", "Ljava/lang/Throwable;", false)
  | 3 => ("java/lang/Throwable", "stackTrace", "[Ljava/lang/StackTraceElement;", false)
  | 4 => ("java/lang/Throwable", "depth", "I", false)
  | _ => ("java/lang/Throwable", "suppressedExceptions", "Ljava/util/List;", false)
def tyJ4 : Nat → FieldType := fun k => match k with
  | 0 => .object "java/lang/Object"
  | 1 => .object "java/lang/String"
  | 2 => .object "java/lang/Throwable"
  | 3 => .array (.object "java/lang/StackTraceElement")
  | 4 => .int
  | _ => .object "java/util/List"
abbrev wsJ40 : List Cond := u_ws RJ4 TJ4 6
theorem nmJ4 : ∀ a, a < 6 → ∀ b, b < 6 → a ≠ b → (TJ4 a).2.1 ≠ (TJ4 b).2.1 := by decide +kernel
theorem tyJ4_ok : ∀ k, k < 6 → parseFieldDescriptor (TJ4 k).2.2.1 = some (tyJ4 k) := by decide +kernel
abbrev cJ4_init : ByteArray := prog_21_method_2_code
def yJ4_init : MethodName := ⟨RJ4, "<init>", "(Ljava/lang/String;)V"⟩
def dkwJ4_init_0 : List UInt8 := [42, 43, 183, 0, 7, 177]
abbrev dktJ4_init_0 : List UInt8 := dkwJ4_init_0 ++ []
theorem dksJ4_init_0 : cJ4_init.data.toList.drop 0 = dktJ4_init_0 := by decide +kernel
theorem dJ4_init_0 : decode cJ4_init 0 = .ok (.aload_n 0, 1) := dk_42 (dk_at dksJ4_init_0 0 rfl rfl)
theorem dJ4_init_1 : decode cJ4_init 1 = .ok (.aload_n 1, 1) := dk_43 (dk_at dksJ4_init_0 1 rfl rfl)
theorem dJ4_init_2 : decode cJ4_init 2 = .ok (.invokespecial 7, 3) := dk_183 0 7 (dk_at dksJ4_init_0 2 rfl rfl)
theorem dJ4_init_5 : decode cJ4_init 5 = .ok (.return_, 1) := dk_177 (dk_at dksJ4_init_0 5 rfl rfl)
theorem q32 : (Jvm.Cond.initialized "java/lang/NegativeArraySizeException") ∈ lw_all := lw_g (lw_at lw_m1 8 rfl) rfl
theorem q118 : (Jvm.Cond.instantiable "java/lang/NegativeArraySizeException" (6 : Nat)) ∈ lw_all := lw_g (lw_at lw_m1 94 rfl) rfl
theorem q119 : (Jvm.Cond.instanceMethod ({ cls := "java/lang/NegativeArraySizeException", name := "<init>", desc := "(Ljava/lang/String;)V" } : Jvm.MethodName)) ∈ lw_all := lw_g (lw_at lw_m1 95 rfl) rfl
theorem q120 : (Jvm.Cond.code ({ cls := "java/lang/NegativeArraySizeException", name := "<init>", desc := "(Ljava/lang/String;)V" } : Jvm.MethodName) prog_21_method_2_code (2 : Nat) (Option.none : Option Jvm.ClassFile.FieldType)) ∈ lw_all := lw_g (lw_at lw_m1 96 rfl) rfl
theorem q121 : (Jvm.Cond.methodLink "java/lang/NegativeArraySizeException" (7 : Nat) ({ cls := "java/lang/RuntimeException", name := "<init>", desc := "(Ljava/lang/String;)V" } : Jvm.MethodName)) ∈ lw_all := lw_g (lw_at lw_m1 97 rfl) rfl
theorem q143 : (Jvm.Cond.selects "java/lang/NegativeArraySizeException" ({ cls := "java/lang/Throwable", name := "fillInStackTrace", desc := "()Ljava/lang/Throwable;" } : Jvm.MethodName) ({ cls := "java/lang/Throwable", name := "fillInStackTrace", desc := "()Ljava/lang/Throwable;" } : Jvm.MethodName)) ∈ lw_all := lw_g (lw_at lw_m1 119 rfl) rfl
theorem q169 : (Jvm.Cond.lays "java/lang/NegativeArraySizeException" "java/lang/Throwable" "backtrace" "Ljava/lang/Object;") ∈ lw_all := lw_g (lw_at lw_m1 145 rfl) rfl
theorem q171 : (Jvm.Cond.lays "java/lang/NegativeArraySizeException" "java/lang/Throwable" "detailMessage" "Ljava/lang/String;") ∈ lw_all := lw_g (lw_at lw_m1 147 rfl) rfl
theorem q173 : (Jvm.Cond.lays "java/lang/NegativeArraySizeException" "java/lang/Throwable" "cause" "Ljava/lang/Throwable;") ∈ lw_all := lw_g (lw_at lw_m1 149 rfl) rfl
theorem q175 : (Jvm.Cond.lays "java/lang/NegativeArraySizeException" "java/lang/Throwable" "stackTrace" "[Ljava/lang/StackTraceElement;") ∈ lw_all := lw_g (lw_at lw_m1 151 rfl) rfl
theorem q177 : (Jvm.Cond.lays "java/lang/NegativeArraySizeException" "java/lang/Throwable" "depth" "I") ∈ lw_all := lw_g (lw_at lw_m1 153 rfl) rfl
theorem q179 : (Jvm.Cond.lays "java/lang/NegativeArraySizeException" "java/lang/Throwable" "suppressedExceptions" "Ljava/util/List;") ∈ lw_all := lw_g (lw_at lw_m1 155 rfl) rfl
theorem q181 : (Jvm.Cond.superclass "java/lang/NegativeArraySizeException" "java/lang/RuntimeException") ∈ lw_all := lw_g (lw_at lw_m1 157 rfl) rfl
theorem q182 : (Jvm.Cond.castable "java/lang/NegativeArraySizeException" "java/lang/NegativeArraySizeException") ∈ lw_tbl := lw_at lw_m1 158 rfl
theorem q189 : (Jvm.Cond.selects "java/lang/NegativeArraySizeException" ({ cls := "java/lang/Throwable", name := "fillInStackTrace", desc := "(I)Ljava/lang/Throwable;" } : Jvm.MethodName) ({ cls := "java/lang/Throwable", name := "fillInStackTrace", desc := "(I)Ljava/lang/Throwable;" } : Jvm.MethodName)) ∈ lw_all := lw_g (lw_at lw_m1 165 rfl) rfl
theorem in_J4 : ∀ w ∈ wsJ40, w ∈ lw_all := lw_in wsJ40 [169, 171, 173, 175, 177, 179] (by decide +kernel) (by decide +kernel)
/-! java/lang/String -/
set_option maxRecDepth 100000
def RJ5 : String := "java/lang/String"
def TJ5 : u_T := fun k => match k with
  | 0 => ("java/lang/String", "value", "[B", true)
  | _ => ("java/lang/String", "coder", "B", true)
def tyJ5 : Nat → FieldType := fun k => match k with
  | 0 => .array .byte
  | _ => .byte
abbrev wsJ50 : List Cond := u_ws RJ5 TJ5 2
theorem nmJ5 : ∀ a, a < 2 → ∀ b, b < 2 → a ≠ b → (TJ5 a).2.1 ≠ (TJ5 b).2.1 := by decide +kernel
theorem tyJ5_ok : ∀ k, k < 2 → parseFieldDescriptor (TJ5 k).2.2.1 = some (tyJ5 k) := by decide +kernel
theorem q33 : (Jvm.Cond.initialized "java/lang/String") ∈ lw_all := lw_g (lw_at lw_m1 9 rfl) rfl
theorem q199 : (Jvm.Cond.instantiable "java/lang/String" (4 : Nat)) ∈ lw_all := lw_g (lw_at lw_m1 175 rfl) rfl
theorem q201 : (Jvm.Cond.laysFinal "java/lang/String" "java/lang/String" "value" "[B") ∈ lw_all := lw_g (lw_at lw_m1 177 rfl) rfl
theorem q202 : (Jvm.Cond.soleField "java/lang/String" "value") ∈ lw_all := lw_g (lw_at lw_m1 178 rfl) rfl
theorem q203 : (Jvm.Cond.laysFinal "java/lang/String" "java/lang/String" "coder" "B") ∈ lw_all := lw_g (lw_at lw_m1 179 rfl) rfl
theorem q204 : (Jvm.Cond.soleField "java/lang/String" "coder") ∈ lw_all := lw_g (lw_at lw_m1 180 rfl) rfl
theorem in_J5 : ∀ w ∈ wsJ50, w ∈ lw_all := lw_in wsJ50 [201, 203] (by decide +kernel) (by decide +kernel)
/-! java/lang/ClassCastException -/
set_option maxRecDepth 100000
def RJ6 : String := "java/lang/ClassCastException"
def TJ6 : u_T := fun k => match k with
  | 0 => ("java/lang/Throwable", "backtrace", "Ljava/lang/Object;", false)
  | 1 => ("java/lang/Throwable", "detailMessage", "Ljava/lang/String;", false)
  | 2 => ("java/lang/Throwable", "cause", "Ljava/lang/Throwable;", false)
  | 3 => ("java/lang/Throwable", "stackTrace", "[Ljava/lang/StackTraceElement;", false)
  | 4 => ("java/lang/Throwable", "depth", "I", false)
  | _ => ("java/lang/Throwable", "suppressedExceptions", "Ljava/util/List;", false)
def tyJ6 : Nat → FieldType := fun k => match k with
  | 0 => .object "java/lang/Object"
  | 1 => .object "java/lang/String"
  | 2 => .object "java/lang/Throwable"
  | 3 => .array (.object "java/lang/StackTraceElement")
  | 4 => .int
  | _ => .object "java/util/List"
abbrev wsJ60 : List Cond := u_ws RJ6 TJ6 6
theorem nmJ6 : ∀ a, a < 6 → ∀ b, b < 6 → a ≠ b → (TJ6 a).2.1 ≠ (TJ6 b).2.1 := by decide +kernel
theorem tyJ6_ok : ∀ k, k < 6 → parseFieldDescriptor (TJ6 k).2.2.1 = some (tyJ6 k) := by decide +kernel
abbrev cJ6_init : ByteArray := prog_15_method_2_code
def yJ6_init : MethodName := ⟨RJ6, "<init>", "(Ljava/lang/String;)V"⟩
def dkwJ6_init_0 : List UInt8 := [42, 43, 183, 0, 7, 177]
abbrev dktJ6_init_0 : List UInt8 := dkwJ6_init_0 ++ []
theorem dksJ6_init_0 : cJ6_init.data.toList.drop 0 = dktJ6_init_0 := by decide +kernel
theorem dJ6_init_0 : decode cJ6_init 0 = .ok (.aload_n 0, 1) := dk_42 (dk_at dksJ6_init_0 0 rfl rfl)
theorem dJ6_init_1 : decode cJ6_init 1 = .ok (.aload_n 1, 1) := dk_43 (dk_at dksJ6_init_0 1 rfl rfl)
theorem dJ6_init_2 : decode cJ6_init 2 = .ok (.invokespecial 7, 3) := dk_183 0 7 (dk_at dksJ6_init_0 2 rfl rfl)
theorem dJ6_init_5 : decode cJ6_init 5 = .ok (.return_, 1) := dk_177 (dk_at dksJ6_init_0 5 rfl rfl)
theorem q39 : (Jvm.Cond.initialized "java/lang/ClassCastException") ∈ lw_all := lw_g (lw_at lw_m1 15 rfl) rfl
theorem q142 : (Jvm.Cond.selects "java/lang/ClassCastException" ({ cls := "java/lang/Throwable", name := "fillInStackTrace", desc := "()Ljava/lang/Throwable;" } : Jvm.MethodName) ({ cls := "java/lang/Throwable", name := "fillInStackTrace", desc := "()Ljava/lang/Throwable;" } : Jvm.MethodName)) ∈ lw_all := lw_g (lw_at lw_m1 118 rfl) rfl
theorem q349 : (Jvm.Cond.instantiable "java/lang/ClassCastException" (6 : Nat)) ∈ lw_all := lw_g (lw_at lw_m2 85 rfl) rfl
theorem q350 : (Jvm.Cond.instanceMethod ({ cls := "java/lang/ClassCastException", name := "<init>", desc := "(Ljava/lang/String;)V" } : Jvm.MethodName)) ∈ lw_all := lw_g (lw_at lw_m2 86 rfl) rfl
theorem q351 : (Jvm.Cond.code ({ cls := "java/lang/ClassCastException", name := "<init>", desc := "(Ljava/lang/String;)V" } : Jvm.MethodName) prog_15_method_2_code (2 : Nat) (Option.none : Option Jvm.ClassFile.FieldType)) ∈ lw_all := lw_g (lw_at lw_m2 87 rfl) rfl
theorem q352 : (Jvm.Cond.methodLink "java/lang/ClassCastException" (7 : Nat) ({ cls := "java/lang/RuntimeException", name := "<init>", desc := "(Ljava/lang/String;)V" } : Jvm.MethodName)) ∈ lw_all := lw_g (lw_at lw_m2 88 rfl) rfl
theorem q353 : (Jvm.Cond.lays "java/lang/ClassCastException" "java/lang/Throwable" "backtrace" "Ljava/lang/Object;") ∈ lw_all := lw_g (lw_at lw_m2 89 rfl) rfl
theorem q354 : (Jvm.Cond.lays "java/lang/ClassCastException" "java/lang/Throwable" "detailMessage" "Ljava/lang/String;") ∈ lw_all := lw_g (lw_at lw_m2 90 rfl) rfl
theorem q355 : (Jvm.Cond.lays "java/lang/ClassCastException" "java/lang/Throwable" "cause" "Ljava/lang/Throwable;") ∈ lw_all := lw_g (lw_at lw_m2 91 rfl) rfl
theorem q356 : (Jvm.Cond.lays "java/lang/ClassCastException" "java/lang/Throwable" "stackTrace" "[Ljava/lang/StackTraceElement;") ∈ lw_all := lw_g (lw_at lw_m2 92 rfl) rfl
theorem q357 : (Jvm.Cond.lays "java/lang/ClassCastException" "java/lang/Throwable" "depth" "I") ∈ lw_all := lw_g (lw_at lw_m2 93 rfl) rfl
theorem q358 : (Jvm.Cond.lays "java/lang/ClassCastException" "java/lang/Throwable" "suppressedExceptions" "Ljava/util/List;") ∈ lw_all := lw_g (lw_at lw_m2 94 rfl) rfl
theorem q359 : (Jvm.Cond.superclass "java/lang/ClassCastException" "java/lang/RuntimeException") ∈ lw_all := lw_g (lw_at lw_m2 95 rfl) rfl
theorem q360 : (Jvm.Cond.castable "java/lang/ClassCastException" "java/lang/ClassCastException") ∈ lw_tbl := lw_at lw_m2 96 rfl
theorem q361 : (Jvm.Cond.selects "java/lang/ClassCastException" ({ cls := "java/lang/Throwable", name := "fillInStackTrace", desc := "(I)Ljava/lang/Throwable;" } : Jvm.MethodName) ({ cls := "java/lang/Throwable", name := "fillInStackTrace", desc := "(I)Ljava/lang/Throwable;" } : Jvm.MethodName)) ∈ lw_all := lw_g (lw_at lw_m2 97 rfl) rfl
theorem in_J6 : ∀ w ∈ wsJ60, w ∈ lw_all := lw_in wsJ60 [353, 354, 355, 356, 357, 358] (by decide +kernel) (by decide +kernel)
/-! java/lang/NullPointerException -/
set_option maxRecDepth 100000
def RJ7 : String := "java/lang/NullPointerException"
def TJ7 : u_T := fun k => match k with
  | 0 => ("java/lang/Throwable", "backtrace", "Ljava/lang/Object;", false)
  | 1 => ("java/lang/Throwable", "detailMessage", "Ljava/lang/String;", false)
  | 2 => ("java/lang/Throwable", "cause", "Ljava/lang/Throwable;", false)
  | 3 => ("java/lang/Throwable", "stackTrace", "[Ljava/lang/StackTraceElement;", false)
  | 4 => ("java/lang/Throwable", "depth", "I", false)
  | 5 => ("java/lang/Throwable", "suppressedExceptions", "Ljava/util/List;", false)
  | 6 => ("java/lang/NullPointerException", "extendedMessageState", "I", false)
  | _ => ("java/lang/NullPointerException", "extendedMessage", "Ljava/lang/String;", false)
def tyJ7 : Nat → FieldType := fun k => match k with
  | 0 => .object "java/lang/Object"
  | 1 => .object "java/lang/String"
  | 2 => .object "java/lang/Throwable"
  | 3 => .array (.object "java/lang/StackTraceElement")
  | 4 => .int
  | 5 => .object "java/util/List"
  | 6 => .int
  | _ => .object "java/lang/String"
abbrev wsJ70 : List Cond := u_ws RJ7 TJ7 8
theorem nmJ7 : ∀ a, a < 8 → ∀ b, b < 8 → a ≠ b → (TJ7 a).2.1 ≠ (TJ7 b).2.1 := by decide +kernel
theorem tyJ7_ok : ∀ k, k < 8 → parseFieldDescriptor (TJ7 k).2.2.1 = some (tyJ7 k) := by decide +kernel
abbrev cJ7_init : ByteArray := prog_22_method_1_code
def yJ7_init : MethodName := ⟨RJ7, "<init>", "()V"⟩
theorem dJ7_init_0 : decode cJ7_init 0 = .ok (.aload_n 0, 1) := by decide +kernel
theorem dJ7_init_1 : decode cJ7_init 1 = .ok (.invokespecial 1, 3) := by decide +kernel
theorem dJ7_init_4 : decode cJ7_init 4 = .ok (.return_, 1) := by decide +kernel
theorem q40 : (Jvm.Cond.initialized "java/lang/NullPointerException") ∈ lw_all := lw_g (lw_at lw_m1 16 rfl) rfl
theorem q144 : (Jvm.Cond.selects "java/lang/NullPointerException" ({ cls := "java/lang/Throwable", name := "fillInStackTrace", desc := "()Ljava/lang/Throwable;" } : Jvm.MethodName) ({ cls := "java/lang/NullPointerException", name := "fillInStackTrace", desc := "()Ljava/lang/Throwable;" } : Jvm.MethodName)) ∈ lw_all := lw_g (lw_at lw_m1 120 rfl) rfl
theorem q145 : (Jvm.Cond.instanceMethod ({ cls := "java/lang/NullPointerException", name := "fillInStackTrace", desc := "()Ljava/lang/Throwable;" } : Jvm.MethodName)) ∈ lw_all := lw_g (lw_at lw_m1 121 rfl) rfl
theorem q146 : (Jvm.Cond.codeSync ({ cls := "java/lang/NullPointerException", name := "fillInStackTrace", desc := "()Ljava/lang/Throwable;" } : Jvm.MethodName) prog_22_method_3_code (1 : Nat) (Option.some (Jvm.ClassFile.FieldType.object "java/lang/Throwable"))) ∈ lw_all := lw_g (lw_at lw_m1 122 rfl) rfl
theorem q147 : (Jvm.Cond.methodLink "java/lang/NullPointerException" (16 : Nat) ({ cls := "java/lang/NullPointerException", name := "getExtendedNPEMessage", desc := "()Ljava/lang/String;" } : Jvm.MethodName)) ∈ lw_all := lw_g (lw_at lw_m1 123 rfl) rfl
theorem q148 : (Jvm.Cond.privateMethod ({ cls := "java/lang/NullPointerException", name := "getExtendedNPEMessage", desc := "()Ljava/lang/String;" } : Jvm.MethodName)) ∈ lw_tbl := lw_at lw_m1 124 rfl
theorem q149 : (Jvm.Cond.instanceMethod ({ cls := "java/lang/NullPointerException", name := "getExtendedNPEMessage", desc := "()Ljava/lang/String;" } : Jvm.MethodName)) ∈ lw_all := lw_g (lw_at lw_m1 125 rfl) rfl
theorem q150 : (Jvm.Cond.instantiable "java/lang/NullPointerException" (8 : Nat)) ∈ lw_all := lw_g (lw_at lw_m1 126 rfl) rfl
theorem q151 : (Jvm.Cond.native ({ cls := "java/lang/NullPointerException", name := "getExtendedNPEMessage", desc := "()Ljava/lang/String;" } : Jvm.MethodName)) ∈ lw_all := lw_g (lw_at lw_m1 127 rfl) rfl
theorem q152 : (Jvm.Cond.methodLink "java/lang/NullPointerException" (24 : Nat) ({ cls := "java/lang/RuntimeException", name := "fillInStackTrace", desc := "()Ljava/lang/Throwable;" } : Jvm.MethodName)) ∈ lw_all := lw_g (lw_at lw_m1 128 rfl) rfl
theorem q155 : (Jvm.Cond.superclass "java/lang/NullPointerException" "java/lang/RuntimeException") ∈ lw_all := lw_g (lw_at lw_m1 131 rfl) rfl
theorem q370 : (Jvm.Cond.instanceMethod ({ cls := "java/lang/NullPointerException", name := "<init>", desc := "()V" } : Jvm.MethodName)) ∈ lw_all := lw_g (lw_at lw_m2 106 rfl) rfl
theorem q371 : (Jvm.Cond.code ({ cls := "java/lang/NullPointerException", name := "<init>", desc := "()V" } : Jvm.MethodName) prog_22_method_1_code (1 : Nat) (Option.none : Option Jvm.ClassFile.FieldType)) ∈ lw_all := lw_g (lw_at lw_m2 107 rfl) rfl
theorem q372 : (Jvm.Cond.methodLink "java/lang/NullPointerException" (1 : Nat) ({ cls := "java/lang/RuntimeException", name := "<init>", desc := "()V" } : Jvm.MethodName)) ∈ lw_all := lw_g (lw_at lw_m2 108 rfl) rfl
theorem q379 : (Jvm.Cond.fieldLink "java/lang/NullPointerException" (10 : Nat) "java/lang/NullPointerException" "extendedMessageState" "I") ∈ lw_all := lw_g (lw_at lw_m2 115 rfl) rfl
theorem q380 : (Jvm.Cond.fieldLink "java/lang/NullPointerException" (20 : Nat) "java/lang/NullPointerException" "extendedMessage" "Ljava/lang/String;") ∈ lw_all := lw_g (lw_at lw_m2 116 rfl) rfl
theorem q381 : (Jvm.Cond.lays "java/lang/NullPointerException" "java/lang/NullPointerException" "extendedMessageState" "I") ∈ lw_all := lw_g (lw_at lw_m2 117 rfl) rfl
theorem q382 : (Jvm.Cond.soleField "java/lang/NullPointerException" "extendedMessageState") ∈ lw_all := lw_g (lw_at lw_m2 118 rfl) rfl
theorem q383 : (Jvm.Cond.lays "java/lang/NullPointerException" "java/lang/NullPointerException" "extendedMessage" "Ljava/lang/String;") ∈ lw_all := lw_g (lw_at lw_m2 119 rfl) rfl
theorem q384 : (Jvm.Cond.soleField "java/lang/NullPointerException" "extendedMessage") ∈ lw_all := lw_g (lw_at lw_m2 120 rfl) rfl
theorem q385 : (Jvm.Cond.lays "java/lang/NullPointerException" "java/lang/Throwable" "backtrace" "Ljava/lang/Object;") ∈ lw_all := lw_g (lw_at lw_m2 121 rfl) rfl
theorem q386 : (Jvm.Cond.lays "java/lang/NullPointerException" "java/lang/Throwable" "detailMessage" "Ljava/lang/String;") ∈ lw_all := lw_g (lw_at lw_m2 122 rfl) rfl
theorem q387 : (Jvm.Cond.lays "java/lang/NullPointerException" "java/lang/Throwable" "cause" "Ljava/lang/Throwable;") ∈ lw_all := lw_g (lw_at lw_m2 123 rfl) rfl
theorem q388 : (Jvm.Cond.lays "java/lang/NullPointerException" "java/lang/Throwable" "stackTrace" "[Ljava/lang/StackTraceElement;") ∈ lw_all := lw_g (lw_at lw_m2 124 rfl) rfl
theorem q389 : (Jvm.Cond.lays "java/lang/NullPointerException" "java/lang/Throwable" "depth" "I") ∈ lw_all := lw_g (lw_at lw_m2 125 rfl) rfl
theorem q390 : (Jvm.Cond.lays "java/lang/NullPointerException" "java/lang/Throwable" "suppressedExceptions" "Ljava/util/List;") ∈ lw_all := lw_g (lw_at lw_m2 126 rfl) rfl
theorem q391 : (Jvm.Cond.castable "java/lang/NullPointerException" "java/lang/NullPointerException") ∈ lw_tbl := lw_at lw_m2 127 rfl
theorem q392 : (Jvm.Cond.selects "java/lang/NullPointerException" ({ cls := "java/lang/Throwable", name := "fillInStackTrace", desc := "(I)Ljava/lang/Throwable;" } : Jvm.MethodName) ({ cls := "java/lang/Throwable", name := "fillInStackTrace", desc := "(I)Ljava/lang/Throwable;" } : Jvm.MethodName)) ∈ lw_all := lw_g (lw_at lw_m2 128 rfl) rfl
theorem in_J7 : ∀ w ∈ wsJ70, w ∈ lw_all := lw_in wsJ70 [385, 386, 387, 388, 389, 390, 381, 383] (by decide +kernel) (by decide +kernel)
/-! java/lang/IndexOutOfBoundsException -/
set_option maxRecDepth 100000
def RJ8 : String := "java/lang/IndexOutOfBoundsException"
abbrev cJ8_init : ByteArray := prog_19_method_2_code
def yJ8_init : MethodName := ⟨RJ8, "<init>", "(Ljava/lang/String;)V"⟩
def dkwJ8_init_0 : List UInt8 := [42, 43, 183, 0, 7, 177]
abbrev dktJ8_init_0 : List UInt8 := dkwJ8_init_0 ++ []
theorem dksJ8_init_0 : cJ8_init.data.toList.drop 0 = dktJ8_init_0 := by decide +kernel
theorem dJ8_init_0 : decode cJ8_init 0 = .ok (.aload_n 0, 1) := dk_42 (dk_at dksJ8_init_0 0 rfl rfl)
theorem dJ8_init_1 : decode cJ8_init 1 = .ok (.aload_n 1, 1) := dk_43 (dk_at dksJ8_init_0 1 rfl rfl)
theorem dJ8_init_2 : decode cJ8_init 2 = .ok (.invokespecial 7, 3) := dk_183 0 7 (dk_at dksJ8_init_0 2 rfl rfl)
theorem dJ8_init_5 : decode cJ8_init 5 = .ok (.return_, 1) := dk_177 (dk_at dksJ8_init_0 5 rfl rfl)
theorem q41 : (Jvm.Cond.initialized "java/lang/IndexOutOfBoundsException") ∈ lw_all := lw_g (lw_at lw_m1 17 rfl) rfl
theorem q409 : (Jvm.Cond.instanceMethod ({ cls := "java/lang/IndexOutOfBoundsException", name := "<init>", desc := "(Ljava/lang/String;)V" } : Jvm.MethodName)) ∈ lw_all := lw_g (lw_at lw_m2 145 rfl) rfl
theorem q410 : (Jvm.Cond.code ({ cls := "java/lang/IndexOutOfBoundsException", name := "<init>", desc := "(Ljava/lang/String;)V" } : Jvm.MethodName) prog_19_method_2_code (2 : Nat) (Option.none : Option Jvm.ClassFile.FieldType)) ∈ lw_all := lw_g (lw_at lw_m2 146 rfl) rfl
theorem q411 : (Jvm.Cond.methodLink "java/lang/IndexOutOfBoundsException" (7 : Nat) ({ cls := "java/lang/RuntimeException", name := "<init>", desc := "(Ljava/lang/String;)V" } : Jvm.MethodName)) ∈ lw_all := lw_g (lw_at lw_m2 147 rfl) rfl
theorem q420 : (Jvm.Cond.declares ({ cls := "java/lang/IndexOutOfBoundsException", name := "<init>", desc := "()V" } : Jvm.MethodName)) ∈ lw_tbl := lw_at lw_m2 156 rfl
theorem q421 : (Jvm.Cond.declares ({ cls := "java/lang/IndexOutOfBoundsException", name := "<init>", desc := "(Ljava/lang/String;)V" } : Jvm.MethodName)) ∈ lw_tbl := lw_at lw_m2 157 rfl
/-! java/lang/ArrayIndexOutOfBoundsException -/
set_option maxRecDepth 100000
def RJ9 : String := "java/lang/ArrayIndexOutOfBoundsException"
def TJ9 : u_T := fun k => match k with
  | 0 => ("java/lang/Throwable", "backtrace", "Ljava/lang/Object;", false)
  | 1 => ("java/lang/Throwable", "detailMessage", "Ljava/lang/String;", false)
  | 2 => ("java/lang/Throwable", "cause", "Ljava/lang/Throwable;", false)
  | 3 => ("java/lang/Throwable", "stackTrace", "[Ljava/lang/StackTraceElement;", false)
  | 4 => ("java/lang/Throwable", "depth", "I", false)
  | _ => ("java/lang/Throwable", "suppressedExceptions", "Ljava/util/List;", false)
def tyJ9 : Nat → FieldType := fun k => match k with
  | 0 => .object "java/lang/Object"
  | 1 => .object "java/lang/String"
  | 2 => .object "java/lang/Throwable"
  | 3 => .array (.object "java/lang/StackTraceElement")
  | 4 => .int
  | _ => .object "java/util/List"
abbrev wsJ90 : List Cond := u_ws RJ9 TJ9 6
theorem nmJ9 : ∀ a, a < 6 → ∀ b, b < 6 → a ≠ b → (TJ9 a).2.1 ≠ (TJ9 b).2.1 := by decide +kernel
theorem tyJ9_ok : ∀ k, k < 6 → parseFieldDescriptor (TJ9 k).2.2.1 = some (tyJ9 k) := by decide +kernel
abbrev cJ9_init : ByteArray := prog_13_method_2_code
def yJ9_init : MethodName := ⟨RJ9, "<init>", "(Ljava/lang/String;)V"⟩
def dkwJ9_init_0 : List UInt8 := [42, 43, 183, 0, 7, 177]
abbrev dktJ9_init_0 : List UInt8 := dkwJ9_init_0 ++ []
theorem dksJ9_init_0 : cJ9_init.data.toList.drop 0 = dktJ9_init_0 := by decide +kernel
theorem dJ9_init_0 : decode cJ9_init 0 = .ok (.aload_n 0, 1) := dk_42 (dk_at dksJ9_init_0 0 rfl rfl)
theorem dJ9_init_1 : decode cJ9_init 1 = .ok (.aload_n 1, 1) := dk_43 (dk_at dksJ9_init_0 1 rfl rfl)
theorem dJ9_init_2 : decode cJ9_init 2 = .ok (.invokespecial 7, 3) := dk_183 0 7 (dk_at dksJ9_init_0 2 rfl rfl)
theorem dJ9_init_5 : decode cJ9_init 5 = .ok (.return_, 1) := dk_177 (dk_at dksJ9_init_0 5 rfl rfl)
theorem q42 : (Jvm.Cond.initialized "java/lang/ArrayIndexOutOfBoundsException") ∈ lw_all := lw_g (lw_at lw_m1 18 rfl) rfl
theorem q140 : (Jvm.Cond.selects "java/lang/ArrayIndexOutOfBoundsException" ({ cls := "java/lang/Throwable", name := "fillInStackTrace", desc := "()Ljava/lang/Throwable;" } : Jvm.MethodName) ({ cls := "java/lang/Throwable", name := "fillInStackTrace", desc := "()Ljava/lang/Throwable;" } : Jvm.MethodName)) ∈ lw_all := lw_g (lw_at lw_m1 116 rfl) rfl
theorem q405 : (Jvm.Cond.instantiable "java/lang/ArrayIndexOutOfBoundsException" (6 : Nat)) ∈ lw_all := lw_g (lw_at lw_m2 141 rfl) rfl
theorem q406 : (Jvm.Cond.instanceMethod ({ cls := "java/lang/ArrayIndexOutOfBoundsException", name := "<init>", desc := "(Ljava/lang/String;)V" } : Jvm.MethodName)) ∈ lw_all := lw_g (lw_at lw_m2 142 rfl) rfl
theorem q407 : (Jvm.Cond.code ({ cls := "java/lang/ArrayIndexOutOfBoundsException", name := "<init>", desc := "(Ljava/lang/String;)V" } : Jvm.MethodName) prog_13_method_2_code (2 : Nat) (Option.none : Option Jvm.ClassFile.FieldType)) ∈ lw_all := lw_g (lw_at lw_m2 143 rfl) rfl
theorem q408 : (Jvm.Cond.methodLink "java/lang/ArrayIndexOutOfBoundsException" (7 : Nat) ({ cls := "java/lang/IndexOutOfBoundsException", name := "<init>", desc := "(Ljava/lang/String;)V" } : Jvm.MethodName)) ∈ lw_all := lw_g (lw_at lw_m2 144 rfl) rfl
theorem q412 : (Jvm.Cond.lays "java/lang/ArrayIndexOutOfBoundsException" "java/lang/Throwable" "backtrace" "Ljava/lang/Object;") ∈ lw_all := lw_g (lw_at lw_m2 148 rfl) rfl
theorem q413 : (Jvm.Cond.lays "java/lang/ArrayIndexOutOfBoundsException" "java/lang/Throwable" "detailMessage" "Ljava/lang/String;") ∈ lw_all := lw_g (lw_at lw_m2 149 rfl) rfl
theorem q414 : (Jvm.Cond.lays "java/lang/ArrayIndexOutOfBoundsException" "java/lang/Throwable" "cause" "Ljava/lang/Throwable;") ∈ lw_all := lw_g (lw_at lw_m2 150 rfl) rfl
theorem q415 : (Jvm.Cond.lays "java/lang/ArrayIndexOutOfBoundsException" "java/lang/Throwable" "stackTrace" "[Ljava/lang/StackTraceElement;") ∈ lw_all := lw_g (lw_at lw_m2 151 rfl) rfl
theorem q416 : (Jvm.Cond.lays "java/lang/ArrayIndexOutOfBoundsException" "java/lang/Throwable" "depth" "I") ∈ lw_all := lw_g (lw_at lw_m2 152 rfl) rfl
theorem q417 : (Jvm.Cond.lays "java/lang/ArrayIndexOutOfBoundsException" "java/lang/Throwable" "suppressedExceptions" "Ljava/util/List;") ∈ lw_all := lw_g (lw_at lw_m2 153 rfl) rfl
theorem q418 : (Jvm.Cond.superclass "java/lang/ArrayIndexOutOfBoundsException" "java/lang/IndexOutOfBoundsException") ∈ lw_all := lw_g (lw_at lw_m2 154 rfl) rfl
theorem q419 : (Jvm.Cond.castable "java/lang/ArrayIndexOutOfBoundsException" "java/lang/ArrayIndexOutOfBoundsException") ∈ lw_tbl := lw_at lw_m2 155 rfl
theorem q422 : (Jvm.Cond.selects "java/lang/ArrayIndexOutOfBoundsException" ({ cls := "java/lang/Throwable", name := "fillInStackTrace", desc := "(I)Ljava/lang/Throwable;" } : Jvm.MethodName) ({ cls := "java/lang/Throwable", name := "fillInStackTrace", desc := "(I)Ljava/lang/Throwable;" } : Jvm.MethodName)) ∈ lw_all := lw_g (lw_at lw_m2 158 rfl) rfl
theorem q1209 : (Jvm.Cond.castable "java/lang/ArrayIndexOutOfBoundsException" "java/lang/IndexOutOfBoundsException") ∈ lw_tbl := lw_at lw_m5 225 rfl
theorem in_J9 : ∀ w ∈ wsJ90, w ∈ lw_all := lw_in wsJ90 [412, 413, 414, 415, 416, 417] (by decide +kernel) (by decide +kernel)
