/-! MixedLeavesModel -/
set_option maxRecDepth 100000
def RX3 : String := "MixedLeavesModel"
def TX3 : u_T := fun k => match k with
  | 0 => ("MixedLeavesModel", "block", "I", true)
  | 1 => ("MixedLeavesModel", "fault", "I", false)
  | 2 => ("MixedLeavesModel", "faults", "[I", true)
  | 3 => ("MixedLeavesModel", "holds", "[I", true)
  | 4 => ("MixedLeavesModel", "kind", "[I", true)
  | 5 => ("MixedLeavesModel", "length", "[I", true)
  | 6 => ("MixedLeavesModel", "used", "[Z", true)
  | 7 => ("MixedLeavesModel", "item", "[J", true)
  | 8 => ("MixedLeavesModel", "free", "I", false)
  | 9 => ("MixedLeavesModel", "at", "I", false)
  | 10 => ("MixedLeavesModel", "middle", "[J", true)
  | 11 => ("MixedLeavesModel", "trail", "I", false)
  | 12 => ("MixedLeavesModel", "hasLeaf", "[Z", true)
  | 13 => ("MixedLeavesModel", "leafKind", "[I", true)
  | 14 => ("MixedLeavesModel", "leafLength", "[I", true)
  | 15 => ("MixedLeavesModel", "leafItem", "[J", true)
  | _ => ("MixedLeavesModel", "written", "[I", true)
def tyX3 : Nat → FieldType := fun k => match k with
  | 0 => .int
  | 1 => .int
  | 2 => .array .int
  | 3 => .array .int
  | 4 => .array .int
  | 5 => .array .int
  | 6 => .array .boolean
  | 7 => .array .long
  | 8 => .int
  | 9 => .int
  | 10 => .array .long
  | 11 => .int
  | 12 => .array .boolean
  | 13 => .array .int
  | 14 => .array .int
  | 15 => .array .long
  | _ => .array .int
abbrev wsX30 : List Cond := u_ws RX3 TX3 17
set_option maxRecDepth 100000 in
theorem nmX3 : ∀ a, a < 17 → ∀ b, b < 17 → a ≠ b → (TX3 a).2.1 ≠ (TX3 b).2.1 := by decide +kernel
set_option maxRecDepth 100000 in
theorem tyX3_ok : ∀ k, k < 17 → parseFieldDescriptor (TX3 k).2.2.1 = some (tyX3 k) := by decide +kernel
abbrev cX3_init : ByteArray := prog_11_method_1_code
def yX3_init : MethodName := ⟨RX3, "<init>", "(I)V"⟩
def dkwX3_init_5 : List UInt8 := [167, 0, 15, 27, 16, 16, 164, 0, 8, 16, 16, 167, 0, 4, 27, 181, 0, 53, 177]
abbrev dktX3_init_5 : List UInt8 := dkwX3_init_5 ++ []
def dkwX3_init_4 : List UInt8 := [17, 2, 128, 188, 11, 181, 0, 47, 42, 16, 16, 188, 10, 181, 0, 50, 42, 27, 4, 162, 0, 7, 4]
abbrev dktX3_init_4 : List UInt8 := dkwX3_init_4 ++ dktX3_init_5
def dkwX3_init_3 : List UInt8 := [16, 16, 188, 4, 181, 0, 38, 42, 16, 16, 188, 10, 181, 0, 41, 42, 16, 16, 188, 10, 181, 0, 44, 42]
abbrev dktX3_init_3 : List UInt8 := dkwX3_init_3 ++ dktX3_init_4
def dkwX3_init_2 : List UInt8 := [18, 26, 188, 11, 181, 0, 27, 42, 17, 5, 219, 181, 0, 31, 42, 16, 40, 188, 11, 181, 0, 35, 42]
abbrev dktX3_init_2 : List UInt8 := dkwX3_init_2 ++ dktX3_init_3
def dkwX3_init_1 : List UInt8 := [188, 10, 181, 0, 16, 42, 17, 5, 220, 188, 10, 181, 0, 19, 42, 17, 5, 220, 188, 4, 181, 0, 22, 42]
abbrev dktX3_init_1 : List UInt8 := dkwX3_init_1 ++ dktX3_init_2
def dkwX3_init_0 : List UInt8 := [42, 183, 0, 1, 42, 16, 8, 188, 10, 181, 0, 7, 42, 16, 16, 188, 10, 181, 0, 13, 42, 17, 5, 220]
abbrev dktX3_init_0 : List UInt8 := dkwX3_init_0 ++ dktX3_init_1
theorem dksX3_init_0 : cX3_init.data.toList.drop 0 = dktX3_init_0 := by decide +kernel
theorem dksX3_init_1 : cX3_init.data.toList.drop 24 = dktX3_init_1 := dk_seg dksX3_init_0 24 rfl rfl
theorem dksX3_init_2 : cX3_init.data.toList.drop 48 = dktX3_init_2 := dk_seg dksX3_init_1 24 rfl rfl
theorem dksX3_init_3 : cX3_init.data.toList.drop 71 = dktX3_init_3 := dk_seg dksX3_init_2 23 rfl rfl
theorem dksX3_init_4 : cX3_init.data.toList.drop 95 = dktX3_init_4 := dk_seg dksX3_init_3 24 rfl rfl
theorem dksX3_init_5 : cX3_init.data.toList.drop 118 = dktX3_init_5 := dk_seg dksX3_init_4 23 rfl rfl
theorem dX3_init_0 : decode cX3_init 0 = .ok (.aload_n 0, 1) := dk_42 (dk_at dksX3_init_0 0 rfl rfl)
theorem dX3_init_1 : decode cX3_init 1 = .ok (.invokespecial 1, 3) := dk_183 0 1 (dk_at dksX3_init_0 1 rfl rfl)
theorem dX3_init_4 : decode cX3_init 4 = .ok (.aload_n 0, 1) := dk_42 (dk_at dksX3_init_0 4 rfl rfl)
theorem dX3_init_5 : decode cX3_init 5 = .ok (.bipush 8, 2) := dk_16 8 (dk_at dksX3_init_0 5 rfl rfl)
theorem dX3_init_7 : decode cX3_init 7 = .ok (.newarray .int, 2) := dk_188_10 (dk_at dksX3_init_0 7 rfl rfl)
theorem dX3_init_9 : decode cX3_init 9 = .ok (.putfield 7, 3) := dk_181 0 7 (dk_at dksX3_init_0 9 rfl rfl)
theorem dX3_init_12 : decode cX3_init 12 = .ok (.aload_n 0, 1) := dk_42 (dk_at dksX3_init_0 12 rfl rfl)
theorem dX3_init_13 : decode cX3_init 13 = .ok (.bipush 16, 2) := dk_16 16 (dk_at dksX3_init_0 13 rfl rfl)
theorem dX3_init_15 : decode cX3_init 15 = .ok (.newarray .int, 2) := dk_188_10 (dk_at dksX3_init_0 15 rfl rfl)
theorem dX3_init_17 : decode cX3_init 17 = .ok (.putfield 13, 3) := dk_181 0 13 (dk_at dksX3_init_0 17 rfl rfl)
theorem dX3_init_20 : decode cX3_init 20 = .ok (.aload_n 0, 1) := dk_42 (dk_at dksX3_init_0 20 rfl rfl)
theorem dX3_init_21 : decode cX3_init 21 = .ok (.sipush 1500, 3) := dk_17 5 220 (dk_at dksX3_init_0 21 rfl rfl)
theorem dX3_init_24 : decode cX3_init 24 = .ok (.newarray .int, 2) := dk_188_10 (dk_at dksX3_init_1 0 rfl rfl)
theorem dX3_init_26 : decode cX3_init 26 = .ok (.putfield 16, 3) := dk_181 0 16 (dk_at dksX3_init_1 2 rfl rfl)
theorem dX3_init_29 : decode cX3_init 29 = .ok (.aload_n 0, 1) := dk_42 (dk_at dksX3_init_1 5 rfl rfl)
theorem dX3_init_30 : decode cX3_init 30 = .ok (.sipush 1500, 3) := dk_17 5 220 (dk_at dksX3_init_1 6 rfl rfl)
theorem dX3_init_33 : decode cX3_init 33 = .ok (.newarray .int, 2) := dk_188_10 (dk_at dksX3_init_1 9 rfl rfl)
theorem dX3_init_35 : decode cX3_init 35 = .ok (.putfield 19, 3) := dk_181 0 19 (dk_at dksX3_init_1 11 rfl rfl)
theorem dX3_init_38 : decode cX3_init 38 = .ok (.aload_n 0, 1) := dk_42 (dk_at dksX3_init_1 14 rfl rfl)
theorem dX3_init_39 : decode cX3_init 39 = .ok (.sipush 1500, 3) := dk_17 5 220 (dk_at dksX3_init_1 15 rfl rfl)
theorem dX3_init_42 : decode cX3_init 42 = .ok (.newarray .boolean, 2) := dk_188_4 (dk_at dksX3_init_1 18 rfl rfl)
theorem dX3_init_44 : decode cX3_init 44 = .ok (.putfield 22, 3) := dk_181 0 22 (dk_at dksX3_init_1 20 rfl rfl)
theorem dX3_init_47 : decode cX3_init 47 = .ok (.aload_n 0, 1) := dk_42 (dk_at dksX3_init_1 23 rfl rfl)
theorem dX3_init_48 : decode cX3_init 48 = .ok (.ldc 26, 2) := dk_18 26 (dk_at dksX3_init_2 0 rfl rfl)
theorem dX3_init_50 : decode cX3_init 50 = .ok (.newarray .long, 2) := dk_188_11 (dk_at dksX3_init_2 2 rfl rfl)
theorem dX3_init_52 : decode cX3_init 52 = .ok (.putfield 27, 3) := dk_181 0 27 (dk_at dksX3_init_2 4 rfl rfl)
theorem dX3_init_55 : decode cX3_init 55 = .ok (.aload_n 0, 1) := dk_42 (dk_at dksX3_init_2 7 rfl rfl)
theorem dX3_init_56 : decode cX3_init 56 = .ok (.sipush 1499, 3) := dk_17 5 219 (dk_at dksX3_init_2 8 rfl rfl)
theorem dX3_init_59 : decode cX3_init 59 = .ok (.putfield 31, 3) := dk_181 0 31 (dk_at dksX3_init_2 11 rfl rfl)
theorem dX3_init_62 : decode cX3_init 62 = .ok (.aload_n 0, 1) := dk_42 (dk_at dksX3_init_2 14 rfl rfl)
theorem dX3_init_63 : decode cX3_init 63 = .ok (.bipush 40, 2) := dk_16 40 (dk_at dksX3_init_2 15 rfl rfl)
theorem dX3_init_65 : decode cX3_init 65 = .ok (.newarray .long, 2) := dk_188_11 (dk_at dksX3_init_2 17 rfl rfl)
theorem dX3_init_67 : decode cX3_init 67 = .ok (.putfield 35, 3) := dk_181 0 35 (dk_at dksX3_init_2 19 rfl rfl)
theorem dX3_init_70 : decode cX3_init 70 = .ok (.aload_n 0, 1) := dk_42 (dk_at dksX3_init_2 22 rfl rfl)
theorem dX3_init_71 : decode cX3_init 71 = .ok (.bipush 16, 2) := dk_16 16 (dk_at dksX3_init_3 0 rfl rfl)
theorem dX3_init_73 : decode cX3_init 73 = .ok (.newarray .boolean, 2) := dk_188_4 (dk_at dksX3_init_3 2 rfl rfl)
theorem dX3_init_75 : decode cX3_init 75 = .ok (.putfield 38, 3) := dk_181 0 38 (dk_at dksX3_init_3 4 rfl rfl)
theorem dX3_init_78 : decode cX3_init 78 = .ok (.aload_n 0, 1) := dk_42 (dk_at dksX3_init_3 7 rfl rfl)
theorem dX3_init_79 : decode cX3_init 79 = .ok (.bipush 16, 2) := dk_16 16 (dk_at dksX3_init_3 8 rfl rfl)
theorem dX3_init_81 : decode cX3_init 81 = .ok (.newarray .int, 2) := dk_188_10 (dk_at dksX3_init_3 10 rfl rfl)
theorem dX3_init_83 : decode cX3_init 83 = .ok (.putfield 41, 3) := dk_181 0 41 (dk_at dksX3_init_3 12 rfl rfl)
theorem dX3_init_86 : decode cX3_init 86 = .ok (.aload_n 0, 1) := dk_42 (dk_at dksX3_init_3 15 rfl rfl)
theorem dX3_init_87 : decode cX3_init 87 = .ok (.bipush 16, 2) := dk_16 16 (dk_at dksX3_init_3 16 rfl rfl)
theorem dX3_init_89 : decode cX3_init 89 = .ok (.newarray .int, 2) := dk_188_10 (dk_at dksX3_init_3 18 rfl rfl)
theorem dX3_init_91 : decode cX3_init 91 = .ok (.putfield 44, 3) := dk_181 0 44 (dk_at dksX3_init_3 20 rfl rfl)
theorem dX3_init_94 : decode cX3_init 94 = .ok (.aload_n 0, 1) := dk_42 (dk_at dksX3_init_3 23 rfl rfl)
theorem dX3_init_95 : decode cX3_init 95 = .ok (.sipush 640, 3) := dk_17 2 128 (dk_at dksX3_init_4 0 rfl rfl)
theorem dX3_init_98 : decode cX3_init 98 = .ok (.newarray .long, 2) := dk_188_11 (dk_at dksX3_init_4 3 rfl rfl)
theorem dX3_init_100 : decode cX3_init 100 = .ok (.putfield 47, 3) := dk_181 0 47 (dk_at dksX3_init_4 5 rfl rfl)
theorem dX3_init_103 : decode cX3_init 103 = .ok (.aload_n 0, 1) := dk_42 (dk_at dksX3_init_4 8 rfl rfl)
theorem dX3_init_104 : decode cX3_init 104 = .ok (.bipush 16, 2) := dk_16 16 (dk_at dksX3_init_4 9 rfl rfl)
theorem dX3_init_106 : decode cX3_init 106 = .ok (.newarray .int, 2) := dk_188_10 (dk_at dksX3_init_4 11 rfl rfl)
theorem dX3_init_108 : decode cX3_init 108 = .ok (.putfield 50, 3) := dk_181 0 50 (dk_at dksX3_init_4 13 rfl rfl)
theorem dX3_init_111 : decode cX3_init 111 = .ok (.aload_n 0, 1) := dk_42 (dk_at dksX3_init_4 16 rfl rfl)
theorem dX3_init_112 : decode cX3_init 112 = .ok (.iload_n 1, 1) := dk_27 (dk_at dksX3_init_4 17 rfl rfl)
theorem dX3_init_113 : decode cX3_init 113 = .ok (.iconst 1, 1) := dk_4 (dk_at dksX3_init_4 18 rfl rfl)
theorem dX3_init_114 : decode cX3_init 114 = .ok (.if_icmp .ge 7, 3) := dk_162 0 7 (dk_at dksX3_init_4 19 rfl rfl)
theorem dX3_init_117 : decode cX3_init 117 = .ok (.iconst 1, 1) := dk_4 (dk_at dksX3_init_4 22 rfl rfl)
theorem dX3_init_118 : decode cX3_init 118 = .ok (.goto 15, 3) := dk_167 0 15 (dk_at dksX3_init_5 0 rfl rfl)
theorem dX3_init_121 : decode cX3_init 121 = .ok (.iload_n 1, 1) := dk_27 (dk_at dksX3_init_5 3 rfl rfl)
theorem dX3_init_122 : decode cX3_init 122 = .ok (.bipush 16, 2) := dk_16 16 (dk_at dksX3_init_5 4 rfl rfl)
theorem dX3_init_124 : decode cX3_init 124 = .ok (.if_icmp .le 8, 3) := dk_164 0 8 (dk_at dksX3_init_5 6 rfl rfl)
theorem dX3_init_127 : decode cX3_init 127 = .ok (.bipush 16, 2) := dk_16 16 (dk_at dksX3_init_5 9 rfl rfl)
theorem dX3_init_129 : decode cX3_init 129 = .ok (.goto 4, 3) := dk_167 0 4 (dk_at dksX3_init_5 11 rfl rfl)
theorem dX3_init_132 : decode cX3_init 132 = .ok (.iload_n 1, 1) := dk_27 (dk_at dksX3_init_5 14 rfl rfl)
theorem dX3_init_133 : decode cX3_init 133 = .ok (.putfield 53, 3) := dk_181 0 53 (dk_at dksX3_init_5 15 rfl rfl)
theorem dX3_init_136 : decode cX3_init 136 = .ok (.return_, 1) := dk_177 (dk_at dksX3_init_5 18 rfl rfl)
abbrev cX3_fault : ByteArray := prog_11_method_3_code
def yX3_fault : MethodName := ⟨RX3, "fault", "()I"⟩
theorem dX3_fault_0 : decode cX3_fault 0 = .ok (.aload_n 0, 1) := by decide +kernel
theorem dX3_fault_1 : decode cX3_fault 1 = .ok (.getfield 56, 3) := by decide +kernel
theorem dX3_fault_4 : decode cX3_fault 4 = .ok (.ireturn, 1) := by decide +kernel
abbrev cX3_faults : ByteArray := prog_11_method_4_code
def yX3_faults : MethodName := ⟨RX3, "faults", "(I)I"⟩
def dkwX3_faults_0 : List UInt8 := [27, 4, 161, 0, 18, 27, 16, 7, 163, 0, 12, 42, 180, 0, 7, 27, 46, 167, 0, 4, 3, 172]
abbrev dktX3_faults_0 : List UInt8 := dkwX3_faults_0 ++ []
theorem dksX3_faults_0 : cX3_faults.data.toList.drop 0 = dktX3_faults_0 := by decide +kernel
theorem dX3_faults_0 : decode cX3_faults 0 = .ok (.iload_n 1, 1) := dk_27 (dk_at dksX3_faults_0 0 rfl rfl)
theorem dX3_faults_1 : decode cX3_faults 1 = .ok (.iconst 1, 1) := dk_4 (dk_at dksX3_faults_0 1 rfl rfl)
theorem dX3_faults_2 : decode cX3_faults 2 = .ok (.if_icmp .lt 18, 3) := dk_161 0 18 (dk_at dksX3_faults_0 2 rfl rfl)
theorem dX3_faults_5 : decode cX3_faults 5 = .ok (.iload_n 1, 1) := dk_27 (dk_at dksX3_faults_0 5 rfl rfl)
theorem dX3_faults_6 : decode cX3_faults 6 = .ok (.bipush 7, 2) := dk_16 7 (dk_at dksX3_faults_0 6 rfl rfl)
theorem dX3_faults_8 : decode cX3_faults 8 = .ok (.if_icmp .gt 12, 3) := dk_163 0 12 (dk_at dksX3_faults_0 8 rfl rfl)
theorem dX3_faults_11 : decode cX3_faults 11 = .ok (.aload_n 0, 1) := dk_42 (dk_at dksX3_faults_0 11 rfl rfl)
theorem dX3_faults_12 : decode cX3_faults 12 = .ok (.getfield 7, 3) := dk_180 0 7 (dk_at dksX3_faults_0 12 rfl rfl)
theorem dX3_faults_15 : decode cX3_faults 15 = .ok (.iload_n 1, 1) := dk_27 (dk_at dksX3_faults_0 15 rfl rfl)
theorem dX3_faults_16 : decode cX3_faults 16 = .ok (.iaload, 1) := dk_46 (dk_at dksX3_faults_0 16 rfl rfl)
theorem dX3_faults_17 : decode cX3_faults 17 = .ok (.goto 4, 3) := dk_167 0 4 (dk_at dksX3_faults_0 17 rfl rfl)
theorem dX3_faults_20 : decode cX3_faults 20 = .ok (.iconst 0, 1) := dk_3 (dk_at dksX3_faults_0 20 rfl rfl)
theorem dX3_faults_21 : decode cX3_faults 21 = .ok (.ireturn, 1) := dk_172 (dk_at dksX3_faults_0 21 rfl rfl)
abbrev cX3_row : ByteArray := prog_11_method_27_code
def yX3_row : MethodName := ⟨RX3, "row", "(III)I"⟩
def dkwX3_row_2 : List UInt8 := [16, 15, 126, 42, 28, 29, 182, 0, 183, 79, 29, 172]
abbrev dktX3_row_2 : List UInt8 := dkwX3_row_2 ++ []
def dkwX3_row_1 : List UInt8 := [182, 0, 177, 172, 29, 156, 0, 9, 42, 7, 182, 0, 177, 172, 42, 182, 0, 180, 42, 180, 0, 13, 27]
abbrev dktX3_row_1 : List UInt8 := dkwX3_row_1 ++ dktX3_row_2
def dkwX3_row_0 : List UInt8 := [42, 182, 0, 174, 28, 3, 16, 10, 184, 0, 67, 153, 0, 9, 29, 16, 40, 164, 0, 9, 42, 4]
abbrev dktX3_row_0 : List UInt8 := dkwX3_row_0 ++ dktX3_row_1
theorem dksX3_row_0 : cX3_row.data.toList.drop 0 = dktX3_row_0 := by decide +kernel
theorem dksX3_row_1 : cX3_row.data.toList.drop 22 = dktX3_row_1 := dk_seg dksX3_row_0 22 rfl rfl
theorem dksX3_row_2 : cX3_row.data.toList.drop 45 = dktX3_row_2 := dk_seg dksX3_row_1 23 rfl rfl
theorem dX3_row_0 : decode cX3_row 0 = .ok (.aload_n 0, 1) := dk_42 (dk_at dksX3_row_0 0 rfl rfl)
theorem dX3_row_1 : decode cX3_row 1 = .ok (.invokevirtual 174, 3) := dk_182 0 174 (dk_at dksX3_row_0 1 rfl rfl)
theorem dX3_row_4 : decode cX3_row 4 = .ok (.iload_n 2, 1) := dk_28 (dk_at dksX3_row_0 4 rfl rfl)
theorem dX3_row_5 : decode cX3_row 5 = .ok (.iconst 0, 1) := dk_3 (dk_at dksX3_row_0 5 rfl rfl)
theorem dX3_row_6 : decode cX3_row 6 = .ok (.bipush 10, 2) := dk_16 10 (dk_at dksX3_row_0 6 rfl rfl)
theorem dX3_row_8 : decode cX3_row 8 = .ok (.invokestatic 67, 3) := dk_184 0 67 (dk_at dksX3_row_0 8 rfl rfl)
theorem dX3_row_11 : decode cX3_row 11 = .ok (.ifCond .eq 9, 3) := dk_153 0 9 (dk_at dksX3_row_0 11 rfl rfl)
theorem dX3_row_14 : decode cX3_row 14 = .ok (.iload_n 3, 1) := dk_29 (dk_at dksX3_row_0 14 rfl rfl)
theorem dX3_row_15 : decode cX3_row 15 = .ok (.bipush 40, 2) := dk_16 40 (dk_at dksX3_row_0 15 rfl rfl)
theorem dX3_row_17 : decode cX3_row 17 = .ok (.if_icmp .le 9, 3) := dk_164 0 9 (dk_at dksX3_row_0 17 rfl rfl)
theorem dX3_row_20 : decode cX3_row 20 = .ok (.aload_n 0, 1) := dk_42 (dk_at dksX3_row_0 20 rfl rfl)
theorem dX3_row_21 : decode cX3_row 21 = .ok (.iconst 1, 1) := dk_4 (dk_at dksX3_row_0 21 rfl rfl)
theorem dX3_row_22 : decode cX3_row 22 = .ok (.invokevirtual 177, 3) := dk_182 0 177 (dk_at dksX3_row_1 0 rfl rfl)
theorem dX3_row_25 : decode cX3_row 25 = .ok (.ireturn, 1) := dk_172 (dk_at dksX3_row_1 3 rfl rfl)
theorem dX3_row_26 : decode cX3_row 26 = .ok (.iload_n 3, 1) := dk_29 (dk_at dksX3_row_1 4 rfl rfl)
theorem dX3_row_27 : decode cX3_row 27 = .ok (.ifCond .ge 9, 3) := dk_156 0 9 (dk_at dksX3_row_1 5 rfl rfl)
theorem dX3_row_30 : decode cX3_row 30 = .ok (.aload_n 0, 1) := dk_42 (dk_at dksX3_row_1 8 rfl rfl)
theorem dX3_row_31 : decode cX3_row 31 = .ok (.iconst 4, 1) := dk_7 (dk_at dksX3_row_1 9 rfl rfl)
theorem dX3_row_32 : decode cX3_row 32 = .ok (.invokevirtual 177, 3) := dk_182 0 177 (dk_at dksX3_row_1 10 rfl rfl)
theorem dX3_row_35 : decode cX3_row 35 = .ok (.ireturn, 1) := dk_172 (dk_at dksX3_row_1 13 rfl rfl)
theorem dX3_row_36 : decode cX3_row 36 = .ok (.aload_n 0, 1) := dk_42 (dk_at dksX3_row_1 14 rfl rfl)
theorem dX3_row_37 : decode cX3_row 37 = .ok (.invokevirtual 180, 3) := dk_182 0 180 (dk_at dksX3_row_1 15 rfl rfl)
theorem dX3_row_40 : decode cX3_row 40 = .ok (.aload_n 0, 1) := dk_42 (dk_at dksX3_row_1 18 rfl rfl)
theorem dX3_row_41 : decode cX3_row 41 = .ok (.getfield 13, 3) := dk_180 0 13 (dk_at dksX3_row_1 19 rfl rfl)
theorem dX3_row_44 : decode cX3_row 44 = .ok (.iload_n 1, 1) := dk_27 (dk_at dksX3_row_1 22 rfl rfl)
theorem dX3_row_45 : decode cX3_row 45 = .ok (.bipush 15, 2) := dk_16 15 (dk_at dksX3_row_2 0 rfl rfl)
theorem dX3_row_47 : decode cX3_row 47 = .ok (.iand, 1) := dk_126 (dk_at dksX3_row_2 2 rfl rfl)
theorem dX3_row_48 : decode cX3_row 48 = .ok (.aload_n 0, 1) := dk_42 (dk_at dksX3_row_2 3 rfl rfl)
theorem dX3_row_49 : decode cX3_row 49 = .ok (.iload_n 2, 1) := dk_28 (dk_at dksX3_row_2 4 rfl rfl)
theorem dX3_row_50 : decode cX3_row 50 = .ok (.iload_n 3, 1) := dk_29 (dk_at dksX3_row_2 5 rfl rfl)
theorem dX3_row_51 : decode cX3_row 51 = .ok (.invokevirtual 183, 3) := dk_182 0 183 (dk_at dksX3_row_2 6 rfl rfl)
theorem dX3_row_54 : decode cX3_row 54 = .ok (.iastore, 1) := dk_79 (dk_at dksX3_row_2 9 rfl rfl)
theorem dX3_row_55 : decode cX3_row 55 = .ok (.iload_n 3, 1) := dk_29 (dk_at dksX3_row_2 10 rfl rfl)
theorem dX3_row_56 : decode cX3_row 56 = .ok (.ireturn, 1) := dk_172 (dk_at dksX3_row_2 11 rfl rfl)
abbrev cX3_begin : ByteArray := prog_11_method_5_code
def yX3_begin : MethodName := ⟨RX3, "begin", "()V"⟩
def dkwX3_begin_0 : List UInt8 := [42, 3, 181, 0, 56, 177]
abbrev dktX3_begin_0 : List UInt8 := dkwX3_begin_0 ++ []
theorem dksX3_begin_0 : cX3_begin.data.toList.drop 0 = dktX3_begin_0 := by decide +kernel
theorem dX3_begin_0 : decode cX3_begin 0 = .ok (.aload_n 0, 1) := dk_42 (dk_at dksX3_begin_0 0 rfl rfl)
theorem dX3_begin_1 : decode cX3_begin 1 = .ok (.iconst 0, 1) := dk_3 (dk_at dksX3_begin_0 1 rfl rfl)
theorem dX3_begin_2 : decode cX3_begin 2 = .ok (.putfield 56, 3) := dk_181 0 56 (dk_at dksX3_begin_0 2 rfl rfl)
theorem dX3_begin_5 : decode cX3_begin 5 = .ok (.return_, 1) := dk_177 (dk_at dksX3_begin_0 5 rfl rfl)
abbrev cX3_isIn : ByteArray := prog_11_method_9_code
def yX3_isIn : MethodName := ⟨RX3, "isIn", "(III)Z"⟩
def dkwX3_isIn_0 : List UInt8 := [26, 27, 161, 0, 12, 26, 28, 163, 0, 7, 4, 167, 0, 4, 3, 172]
abbrev dktX3_isIn_0 : List UInt8 := dkwX3_isIn_0 ++ []
theorem dksX3_isIn_0 : cX3_isIn.data.toList.drop 0 = dktX3_isIn_0 := by decide +kernel
theorem dX3_isIn_0 : decode cX3_isIn 0 = .ok (.iload_n 0, 1) := dk_26 (dk_at dksX3_isIn_0 0 rfl rfl)
theorem dX3_isIn_1 : decode cX3_isIn 1 = .ok (.iload_n 1, 1) := dk_27 (dk_at dksX3_isIn_0 1 rfl rfl)
theorem dX3_isIn_2 : decode cX3_isIn 2 = .ok (.if_icmp .lt 12, 3) := dk_161 0 12 (dk_at dksX3_isIn_0 2 rfl rfl)
theorem dX3_isIn_5 : decode cX3_isIn 5 = .ok (.iload_n 0, 1) := dk_26 (dk_at dksX3_isIn_0 5 rfl rfl)
theorem dX3_isIn_6 : decode cX3_isIn 6 = .ok (.iload_n 2, 1) := dk_28 (dk_at dksX3_isIn_0 6 rfl rfl)
theorem dX3_isIn_7 : decode cX3_isIn 7 = .ok (.if_icmp .gt 7, 3) := dk_163 0 7 (dk_at dksX3_isIn_0 7 rfl rfl)
theorem dX3_isIn_10 : decode cX3_isIn 10 = .ok (.iconst 1, 1) := dk_4 (dk_at dksX3_isIn_0 10 rfl rfl)
theorem dX3_isIn_11 : decode cX3_isIn 11 = .ok (.goto 4, 3) := dk_167 0 4 (dk_at dksX3_isIn_0 11 rfl rfl)
theorem dX3_isIn_14 : decode cX3_isIn 14 = .ok (.iconst 0, 1) := dk_3 (dk_at dksX3_isIn_0 14 rfl rfl)
theorem dX3_isIn_15 : decode cX3_isIn 15 = .ok (.ireturn, 1) := dk_172 (dk_at dksX3_isIn_0 15 rfl rfl)
abbrev cX3_fails : ByteArray := prog_11_method_2_code
def yX3_fails : MethodName := ⟨RX3, "fails", "(I)I"⟩
def dkwX3_fails_0 : List UInt8 := [42, 27, 181, 0, 56, 42, 180, 0, 7, 27, 92, 46, 4, 96, 79, 3, 172]
abbrev dktX3_fails_0 : List UInt8 := dkwX3_fails_0 ++ []
theorem dksX3_fails_0 : cX3_fails.data.toList.drop 0 = dktX3_fails_0 := by decide +kernel
theorem dX3_fails_0 : decode cX3_fails 0 = .ok (.aload_n 0, 1) := dk_42 (dk_at dksX3_fails_0 0 rfl rfl)
theorem dX3_fails_1 : decode cX3_fails 1 = .ok (.iload_n 1, 1) := dk_27 (dk_at dksX3_fails_0 1 rfl rfl)
theorem dX3_fails_2 : decode cX3_fails 2 = .ok (.putfield 56, 3) := dk_181 0 56 (dk_at dksX3_fails_0 2 rfl rfl)
theorem dX3_fails_5 : decode cX3_fails 5 = .ok (.aload_n 0, 1) := dk_42 (dk_at dksX3_fails_0 5 rfl rfl)
theorem dX3_fails_6 : decode cX3_fails 6 = .ok (.getfield 7, 3) := dk_180 0 7 (dk_at dksX3_fails_0 6 rfl rfl)
theorem dX3_fails_9 : decode cX3_fails 9 = .ok (.iload_n 1, 1) := dk_27 (dk_at dksX3_fails_0 9 rfl rfl)
theorem dX3_fails_10 : decode cX3_fails 10 = .ok (.dup2, 1) := dk_92 (dk_at dksX3_fails_0 10 rfl rfl)
theorem dX3_fails_11 : decode cX3_fails 11 = .ok (.iaload, 1) := dk_46 (dk_at dksX3_fails_0 11 rfl rfl)
theorem dX3_fails_12 : decode cX3_fails 12 = .ok (.iconst 1, 1) := dk_4 (dk_at dksX3_fails_0 12 rfl rfl)
theorem dX3_fails_13 : decode cX3_fails 13 = .ok (.iadd, 1) := dk_96 (dk_at dksX3_fails_0 13 rfl rfl)
theorem dX3_fails_14 : decode cX3_fails 14 = .ok (.iastore, 1) := dk_79 (dk_at dksX3_fails_0 14 rfl rfl)
theorem dX3_fails_15 : decode cX3_fails 15 = .ok (.iconst 0, 1) := dk_3 (dk_at dksX3_fails_0 15 rfl rfl)
theorem dX3_fails_16 : decode cX3_fails 16 = .ok (.ireturn, 1) := dk_172 (dk_at dksX3_fails_0 16 rfl rfl)
abbrev cX3_makeRoom : ByteArray := prog_11_method_12_code
def yX3_makeRoom : MethodName := ⟨RX3, "makeRoom", "()V"⟩
def dkwX3_makeRoom_0 : List UInt8 := [42, 180, 0, 31, 16, 12, 162, 0, 7, 42, 182, 0, 75, 177]
abbrev dktX3_makeRoom_0 : List UInt8 := dkwX3_makeRoom_0 ++ []
theorem dksX3_makeRoom_0 : cX3_makeRoom.data.toList.drop 0 = dktX3_makeRoom_0 := by decide +kernel
theorem dX3_makeRoom_0 : decode cX3_makeRoom 0 = .ok (.aload_n 0, 1) := dk_42 (dk_at dksX3_makeRoom_0 0 rfl rfl)
theorem dX3_makeRoom_1 : decode cX3_makeRoom 1 = .ok (.getfield 31, 3) := dk_180 0 31 (dk_at dksX3_makeRoom_0 1 rfl rfl)
theorem dX3_makeRoom_4 : decode cX3_makeRoom 4 = .ok (.bipush 12, 2) := dk_16 12 (dk_at dksX3_makeRoom_0 4 rfl rfl)
theorem dX3_makeRoom_6 : decode cX3_makeRoom 6 = .ok (.if_icmp .ge 7, 3) := dk_162 0 7 (dk_at dksX3_makeRoom_0 6 rfl rfl)
theorem dX3_makeRoom_9 : decode cX3_makeRoom 9 = .ok (.aload_n 0, 1) := dk_42 (dk_at dksX3_makeRoom_0 9 rfl rfl)
theorem dX3_makeRoom_10 : decode cX3_makeRoom 10 = .ok (.invokevirtual 75, 3) := dk_182 0 75 (dk_at dksX3_makeRoom_0 10 rfl rfl)
theorem dX3_makeRoom_13 : decode cX3_makeRoom 13 = .ok (.return_, 1) := dk_177 (dk_at dksX3_makeRoom_0 13 rfl rfl)
abbrev cX3_sweep : ByteArray := prog_11_method_11_code
def yX3_sweep : MethodName := ⟨RX3, "sweep", "()V"⟩
def dkwX3_sweep_4 : List UInt8 := [167, 255, 217, 132, 1, 1, 167, 255, 191, 177]
abbrev dktX3_sweep_4 : List UInt8 := dkwX3_sweep_4 ++ []
def dkwX3_sweep_3 : List UInt8 := [180, 0, 19, 28, 46, 162, 0, 20, 42, 42, 28, 29, 182, 0, 71, 136, 182, 0, 59, 132, 3, 1]
abbrev dktX3_sweep_3 : List UInt8 := dkwX3_sweep_3 ++ dktX3_sweep_4
def dkwX3_sweep_2 : List UInt8 := [182, 0, 59, 3, 62, 42, 28, 182, 0, 63, 16, 8, 16, 10, 184, 0, 67, 153, 0, 30, 29, 42]
abbrev dktX3_sweep_2 : List UInt8 := dkwX3_sweep_2 ++ dktX3_sweep_3
def dkwX3_sweep_1 : List UInt8 := [17, 5, 219, 181, 0, 31, 3, 60, 27, 16, 16, 162, 0, 65, 42, 180, 0, 13, 27, 46, 61, 42, 28]
abbrev dktX3_sweep_1 : List UInt8 := dkwX3_sweep_1 ++ dktX3_sweep_2
def dkwX3_sweep_0 : List UInt8 := [3, 60, 27, 17, 5, 220, 162, 0, 16, 42, 180, 0, 22, 27, 3, 84, 132, 1, 1, 167, 255, 239, 42]
abbrev dktX3_sweep_0 : List UInt8 := dkwX3_sweep_0 ++ dktX3_sweep_1
theorem dksX3_sweep_0 : cX3_sweep.data.toList.drop 0 = dktX3_sweep_0 := by decide +kernel
theorem dksX3_sweep_1 : cX3_sweep.data.toList.drop 23 = dktX3_sweep_1 := dk_seg dksX3_sweep_0 23 rfl rfl
theorem dksX3_sweep_2 : cX3_sweep.data.toList.drop 46 = dktX3_sweep_2 := dk_seg dksX3_sweep_1 23 rfl rfl
theorem dksX3_sweep_3 : cX3_sweep.data.toList.drop 68 = dktX3_sweep_3 := dk_seg dksX3_sweep_2 22 rfl rfl
theorem dksX3_sweep_4 : cX3_sweep.data.toList.drop 90 = dktX3_sweep_4 := dk_seg dksX3_sweep_3 22 rfl rfl
theorem dX3_sweep_0 : decode cX3_sweep 0 = .ok (.iconst 0, 1) := dk_3 (dk_at dksX3_sweep_0 0 rfl rfl)
theorem dX3_sweep_1 : decode cX3_sweep 1 = .ok (.istore_n 1, 1) := dk_60 (dk_at dksX3_sweep_0 1 rfl rfl)
theorem dX3_sweep_2 : decode cX3_sweep 2 = .ok (.iload_n 1, 1) := dk_27 (dk_at dksX3_sweep_0 2 rfl rfl)
theorem dX3_sweep_3 : decode cX3_sweep 3 = .ok (.sipush 1500, 3) := dk_17 5 220 (dk_at dksX3_sweep_0 3 rfl rfl)
theorem dX3_sweep_6 : decode cX3_sweep 6 = .ok (.if_icmp .ge 16, 3) := dk_162 0 16 (dk_at dksX3_sweep_0 6 rfl rfl)
theorem dX3_sweep_9 : decode cX3_sweep 9 = .ok (.aload_n 0, 1) := dk_42 (dk_at dksX3_sweep_0 9 rfl rfl)
theorem dX3_sweep_10 : decode cX3_sweep 10 = .ok (.getfield 22, 3) := dk_180 0 22 (dk_at dksX3_sweep_0 10 rfl rfl)
theorem dX3_sweep_13 : decode cX3_sweep 13 = .ok (.iload_n 1, 1) := dk_27 (dk_at dksX3_sweep_0 13 rfl rfl)
theorem dX3_sweep_14 : decode cX3_sweep 14 = .ok (.iconst 0, 1) := dk_3 (dk_at dksX3_sweep_0 14 rfl rfl)
theorem dX3_sweep_15 : decode cX3_sweep 15 = .ok (.bastore, 1) := dk_84 (dk_at dksX3_sweep_0 15 rfl rfl)
theorem dX3_sweep_16 : decode cX3_sweep 16 = .ok (.iinc 1 1, 3) := dk_132 1 1 (dk_at dksX3_sweep_0 16 rfl rfl)
theorem dX3_sweep_19 : decode cX3_sweep 19 = .ok (.goto (-17), 3) := dk_167 255 239 (dk_at dksX3_sweep_0 19 rfl rfl)
theorem dX3_sweep_22 : decode cX3_sweep 22 = .ok (.aload_n 0, 1) := dk_42 (dk_at dksX3_sweep_0 22 rfl rfl)
theorem dX3_sweep_23 : decode cX3_sweep 23 = .ok (.sipush 1499, 3) := dk_17 5 219 (dk_at dksX3_sweep_1 0 rfl rfl)
theorem dX3_sweep_26 : decode cX3_sweep 26 = .ok (.putfield 31, 3) := dk_181 0 31 (dk_at dksX3_sweep_1 3 rfl rfl)
theorem dX3_sweep_29 : decode cX3_sweep 29 = .ok (.iconst 0, 1) := dk_3 (dk_at dksX3_sweep_1 6 rfl rfl)
theorem dX3_sweep_30 : decode cX3_sweep 30 = .ok (.istore_n 1, 1) := dk_60 (dk_at dksX3_sweep_1 7 rfl rfl)
theorem dX3_sweep_31 : decode cX3_sweep 31 = .ok (.iload_n 1, 1) := dk_27 (dk_at dksX3_sweep_1 8 rfl rfl)
theorem dX3_sweep_32 : decode cX3_sweep 32 = .ok (.bipush 16, 2) := dk_16 16 (dk_at dksX3_sweep_1 9 rfl rfl)
theorem dX3_sweep_34 : decode cX3_sweep 34 = .ok (.if_icmp .ge 65, 3) := dk_162 0 65 (dk_at dksX3_sweep_1 11 rfl rfl)
theorem dX3_sweep_37 : decode cX3_sweep 37 = .ok (.aload_n 0, 1) := dk_42 (dk_at dksX3_sweep_1 14 rfl rfl)
theorem dX3_sweep_38 : decode cX3_sweep 38 = .ok (.getfield 13, 3) := dk_180 0 13 (dk_at dksX3_sweep_1 15 rfl rfl)
theorem dX3_sweep_41 : decode cX3_sweep 41 = .ok (.iload_n 1, 1) := dk_27 (dk_at dksX3_sweep_1 18 rfl rfl)
theorem dX3_sweep_42 : decode cX3_sweep 42 = .ok (.iaload, 1) := dk_46 (dk_at dksX3_sweep_1 19 rfl rfl)
theorem dX3_sweep_43 : decode cX3_sweep 43 = .ok (.istore_n 2, 1) := dk_61 (dk_at dksX3_sweep_1 20 rfl rfl)
theorem dX3_sweep_44 : decode cX3_sweep 44 = .ok (.aload_n 0, 1) := dk_42 (dk_at dksX3_sweep_1 21 rfl rfl)
theorem dX3_sweep_45 : decode cX3_sweep 45 = .ok (.iload_n 2, 1) := dk_28 (dk_at dksX3_sweep_1 22 rfl rfl)
theorem dX3_sweep_46 : decode cX3_sweep 46 = .ok (.invokevirtual 59, 3) := dk_182 0 59 (dk_at dksX3_sweep_2 0 rfl rfl)
theorem dX3_sweep_49 : decode cX3_sweep 49 = .ok (.iconst 0, 1) := dk_3 (dk_at dksX3_sweep_2 3 rfl rfl)
theorem dX3_sweep_50 : decode cX3_sweep 50 = .ok (.istore_n 3, 1) := dk_62 (dk_at dksX3_sweep_2 4 rfl rfl)
theorem dX3_sweep_51 : decode cX3_sweep 51 = .ok (.aload_n 0, 1) := dk_42 (dk_at dksX3_sweep_2 5 rfl rfl)
theorem dX3_sweep_52 : decode cX3_sweep 52 = .ok (.iload_n 2, 1) := dk_28 (dk_at dksX3_sweep_2 6 rfl rfl)
theorem dX3_sweep_53 : decode cX3_sweep 53 = .ok (.invokevirtual 63, 3) := dk_182 0 63 (dk_at dksX3_sweep_2 7 rfl rfl)
theorem dX3_sweep_56 : decode cX3_sweep 56 = .ok (.bipush 8, 2) := dk_16 8 (dk_at dksX3_sweep_2 10 rfl rfl)
theorem dX3_sweep_58 : decode cX3_sweep 58 = .ok (.bipush 10, 2) := dk_16 10 (dk_at dksX3_sweep_2 12 rfl rfl)
theorem dX3_sweep_60 : decode cX3_sweep 60 = .ok (.invokestatic 67, 3) := dk_184 0 67 (dk_at dksX3_sweep_2 14 rfl rfl)
theorem dX3_sweep_63 : decode cX3_sweep 63 = .ok (.ifCond .eq 30, 3) := dk_153 0 30 (dk_at dksX3_sweep_2 17 rfl rfl)
theorem dX3_sweep_66 : decode cX3_sweep 66 = .ok (.iload_n 3, 1) := dk_29 (dk_at dksX3_sweep_2 20 rfl rfl)
theorem dX3_sweep_67 : decode cX3_sweep 67 = .ok (.aload_n 0, 1) := dk_42 (dk_at dksX3_sweep_2 21 rfl rfl)
theorem dX3_sweep_68 : decode cX3_sweep 68 = .ok (.getfield 19, 3) := dk_180 0 19 (dk_at dksX3_sweep_3 0 rfl rfl)
theorem dX3_sweep_71 : decode cX3_sweep 71 = .ok (.iload_n 2, 1) := dk_28 (dk_at dksX3_sweep_3 3 rfl rfl)
theorem dX3_sweep_72 : decode cX3_sweep 72 = .ok (.iaload, 1) := dk_46 (dk_at dksX3_sweep_3 4 rfl rfl)
theorem dX3_sweep_73 : decode cX3_sweep 73 = .ok (.if_icmp .ge 20, 3) := dk_162 0 20 (dk_at dksX3_sweep_3 5 rfl rfl)
theorem dX3_sweep_76 : decode cX3_sweep 76 = .ok (.aload_n 0, 1) := dk_42 (dk_at dksX3_sweep_3 8 rfl rfl)
theorem dX3_sweep_77 : decode cX3_sweep 77 = .ok (.aload_n 0, 1) := dk_42 (dk_at dksX3_sweep_3 9 rfl rfl)
theorem dX3_sweep_78 : decode cX3_sweep 78 = .ok (.iload_n 2, 1) := dk_28 (dk_at dksX3_sweep_3 10 rfl rfl)
theorem dX3_sweep_79 : decode cX3_sweep 79 = .ok (.iload_n 3, 1) := dk_29 (dk_at dksX3_sweep_3 11 rfl rfl)
theorem dX3_sweep_80 : decode cX3_sweep 80 = .ok (.invokevirtual 71, 3) := dk_182 0 71 (dk_at dksX3_sweep_3 12 rfl rfl)
theorem dX3_sweep_83 : decode cX3_sweep 83 = .ok (.l2i, 1) := dk_136 (dk_at dksX3_sweep_3 15 rfl rfl)
theorem dX3_sweep_84 : decode cX3_sweep 84 = .ok (.invokevirtual 59, 3) := dk_182 0 59 (dk_at dksX3_sweep_3 16 rfl rfl)
theorem dX3_sweep_87 : decode cX3_sweep 87 = .ok (.iinc 3 1, 3) := dk_132 3 1 (dk_at dksX3_sweep_3 19 rfl rfl)
theorem dX3_sweep_90 : decode cX3_sweep 90 = .ok (.goto (-39), 3) := dk_167 255 217 (dk_at dksX3_sweep_4 0 rfl rfl)
theorem dX3_sweep_93 : decode cX3_sweep 93 = .ok (.iinc 1 1, 3) := dk_132 1 1 (dk_at dksX3_sweep_4 3 rfl rfl)
theorem dX3_sweep_96 : decode cX3_sweep 96 = .ok (.goto (-65), 3) := dk_167 255 191 (dk_at dksX3_sweep_4 6 rfl rfl)
theorem dX3_sweep_99 : decode cX3_sweep 99 = .ok (.return_, 1) := dk_177 (dk_at dksX3_sweep_4 9 rfl rfl)
abbrev cX3_touch : ByteArray := prog_11_method_10_code
def yX3_touch : MethodName := ⟨RX3, "touch", "(I)V"⟩
def dkwX3_touch_1 : List UInt8 := [180, 0, 31, 4, 100, 181, 0, 31, 177]
abbrev dktX3_touch_1 : List UInt8 := dkwX3_touch_1 ++ []
def dkwX3_touch_0 : List UInt8 := [27, 153, 0, 29, 42, 180, 0, 22, 27, 51, 154, 0, 20, 42, 180, 0, 22, 27, 4, 84, 42, 89]
abbrev dktX3_touch_0 : List UInt8 := dkwX3_touch_0 ++ dktX3_touch_1
theorem dksX3_touch_0 : cX3_touch.data.toList.drop 0 = dktX3_touch_0 := by decide +kernel
theorem dksX3_touch_1 : cX3_touch.data.toList.drop 22 = dktX3_touch_1 := dk_seg dksX3_touch_0 22 rfl rfl
theorem dX3_touch_0 : decode cX3_touch 0 = .ok (.iload_n 1, 1) := dk_27 (dk_at dksX3_touch_0 0 rfl rfl)
theorem dX3_touch_1 : decode cX3_touch 1 = .ok (.ifCond .eq 29, 3) := dk_153 0 29 (dk_at dksX3_touch_0 1 rfl rfl)
theorem dX3_touch_4 : decode cX3_touch 4 = .ok (.aload_n 0, 1) := dk_42 (dk_at dksX3_touch_0 4 rfl rfl)
theorem dX3_touch_5 : decode cX3_touch 5 = .ok (.getfield 22, 3) := dk_180 0 22 (dk_at dksX3_touch_0 5 rfl rfl)
theorem dX3_touch_8 : decode cX3_touch 8 = .ok (.iload_n 1, 1) := dk_27 (dk_at dksX3_touch_0 8 rfl rfl)
theorem dX3_touch_9 : decode cX3_touch 9 = .ok (.baload, 1) := dk_51 (dk_at dksX3_touch_0 9 rfl rfl)
theorem dX3_touch_10 : decode cX3_touch 10 = .ok (.ifCond .ne 20, 3) := dk_154 0 20 (dk_at dksX3_touch_0 10 rfl rfl)
theorem dX3_touch_13 : decode cX3_touch 13 = .ok (.aload_n 0, 1) := dk_42 (dk_at dksX3_touch_0 13 rfl rfl)
theorem dX3_touch_14 : decode cX3_touch 14 = .ok (.getfield 22, 3) := dk_180 0 22 (dk_at dksX3_touch_0 14 rfl rfl)
theorem dX3_touch_17 : decode cX3_touch 17 = .ok (.iload_n 1, 1) := dk_27 (dk_at dksX3_touch_0 17 rfl rfl)
theorem dX3_touch_18 : decode cX3_touch 18 = .ok (.iconst 1, 1) := dk_4 (dk_at dksX3_touch_0 18 rfl rfl)
theorem dX3_touch_19 : decode cX3_touch 19 = .ok (.bastore, 1) := dk_84 (dk_at dksX3_touch_0 19 rfl rfl)
theorem dX3_touch_20 : decode cX3_touch 20 = .ok (.aload_n 0, 1) := dk_42 (dk_at dksX3_touch_0 20 rfl rfl)
theorem dX3_touch_21 : decode cX3_touch 21 = .ok (.dup, 1) := dk_89 (dk_at dksX3_touch_0 21 rfl rfl)
theorem dX3_touch_22 : decode cX3_touch 22 = .ok (.getfield 31, 3) := dk_180 0 31 (dk_at dksX3_touch_1 0 rfl rfl)
theorem dX3_touch_25 : decode cX3_touch 25 = .ok (.iconst 1, 1) := dk_4 (dk_at dksX3_touch_1 3 rfl rfl)
theorem dX3_touch_26 : decode cX3_touch 26 = .ok (.isub, 1) := dk_100 (dk_at dksX3_touch_1 4 rfl rfl)
theorem dX3_touch_27 : decode cX3_touch 27 = .ok (.putfield 31, 3) := dk_181 0 31 (dk_at dksX3_touch_1 5 rfl rfl)
theorem dX3_touch_30 : decode cX3_touch 30 = .ok (.return_, 1) := dk_177 (dk_at dksX3_touch_1 8 rfl rfl)
abbrev cX3_sortOf : ByteArray := prog_11_method_6_code
def yX3_sortOf : MethodName := ⟨RX3, "sortOf", "(I)I"⟩
def dkwX3_sortOf_0 : List UInt8 := [27, 154, 0, 7, 2, 167, 0, 9, 42, 180, 0, 16, 27, 46, 172]
abbrev dktX3_sortOf_0 : List UInt8 := dkwX3_sortOf_0 ++ []
theorem dksX3_sortOf_0 : cX3_sortOf.data.toList.drop 0 = dktX3_sortOf_0 := by decide +kernel
theorem dX3_sortOf_0 : decode cX3_sortOf 0 = .ok (.iload_n 1, 1) := dk_27 (dk_at dksX3_sortOf_0 0 rfl rfl)
theorem dX3_sortOf_1 : decode cX3_sortOf 1 = .ok (.ifCond .ne 7, 3) := dk_154 0 7 (dk_at dksX3_sortOf_0 1 rfl rfl)
theorem dX3_sortOf_4 : decode cX3_sortOf 4 = .ok (.iconst (-1), 1) := dk_2 (dk_at dksX3_sortOf_0 4 rfl rfl)
theorem dX3_sortOf_5 : decode cX3_sortOf 5 = .ok (.goto 9, 3) := dk_167 0 9 (dk_at dksX3_sortOf_0 5 rfl rfl)
theorem dX3_sortOf_8 : decode cX3_sortOf 8 = .ok (.aload_n 0, 1) := dk_42 (dk_at dksX3_sortOf_0 8 rfl rfl)
theorem dX3_sortOf_9 : decode cX3_sortOf 9 = .ok (.getfield 16, 3) := dk_180 0 16 (dk_at dksX3_sortOf_0 9 rfl rfl)
theorem dX3_sortOf_12 : decode cX3_sortOf 12 = .ok (.iload_n 1, 1) := dk_27 (dk_at dksX3_sortOf_0 12 rfl rfl)
theorem dX3_sortOf_13 : decode cX3_sortOf 13 = .ok (.iaload, 1) := dk_46 (dk_at dksX3_sortOf_0 13 rfl rfl)
theorem dX3_sortOf_14 : decode cX3_sortOf 14 = .ok (.ireturn, 1) := dk_172 (dk_at dksX3_sortOf_0 14 rfl rfl)
abbrev cX3_itemAt : ByteArray := prog_11_method_8_code
def yX3_itemAt : MethodName := ⟨RX3, "itemAt", "(II)J"⟩
def dkwX3_itemAt_0 : List UInt8 := [42, 180, 0, 27, 16, 40, 27, 104, 28, 96, 47, 173]
abbrev dktX3_itemAt_0 : List UInt8 := dkwX3_itemAt_0 ++ []
theorem dksX3_itemAt_0 : cX3_itemAt.data.toList.drop 0 = dktX3_itemAt_0 := by decide +kernel
theorem dX3_itemAt_0 : decode cX3_itemAt 0 = .ok (.aload_n 0, 1) := dk_42 (dk_at dksX3_itemAt_0 0 rfl rfl)
theorem dX3_itemAt_1 : decode cX3_itemAt 1 = .ok (.getfield 27, 3) := dk_180 0 27 (dk_at dksX3_itemAt_0 1 rfl rfl)
theorem dX3_itemAt_4 : decode cX3_itemAt 4 = .ok (.bipush 40, 2) := dk_16 40 (dk_at dksX3_itemAt_0 4 rfl rfl)
theorem dX3_itemAt_6 : decode cX3_itemAt 6 = .ok (.iload_n 1, 1) := dk_27 (dk_at dksX3_itemAt_0 6 rfl rfl)
theorem dX3_itemAt_7 : decode cX3_itemAt 7 = .ok (.imul, 1) := dk_104 (dk_at dksX3_itemAt_0 7 rfl rfl)
theorem dX3_itemAt_8 : decode cX3_itemAt 8 = .ok (.iload_n 2, 1) := dk_28 (dk_at dksX3_itemAt_0 8 rfl rfl)
theorem dX3_itemAt_9 : decode cX3_itemAt 9 = .ok (.iadd, 1) := dk_96 (dk_at dksX3_itemAt_0 9 rfl rfl)
theorem dX3_itemAt_10 : decode cX3_itemAt 10 = .ok (.laload, 1) := dk_47 (dk_at dksX3_itemAt_0 10 rfl rfl)
theorem dX3_itemAt_11 : decode cX3_itemAt 11 = .ok (.lreturn, 1) := dk_173 (dk_at dksX3_itemAt_0 11 rfl rfl)
abbrev cX3_made : ByteArray := prog_11_method_13_code
def yX3_made : MethodName := ⟨RX3, "made", "(II)I"⟩
def dkwX3_made_4 : List UInt8 := [180, 0, 78, 104, 29, 96, 9, 80, 132, 3, 1, 167, 255, 232, 42, 180, 0, 78, 172]
abbrev dktX3_made_4 : List UInt8 := dkwX3_made_4 ++ []
def dkwX3_made_3 : List UInt8 := [180, 0, 19, 42, 180, 0, 78, 28, 79, 3, 62, 29, 16, 40, 162, 0, 24, 42, 180, 0, 27, 16, 40, 42]
abbrev dktX3_made_3 : List UInt8 := dkwX3_made_3 ++ dktX3_made_4
def dkwX3_made_2 : List UInt8 := [84, 42, 89, 180, 0, 31, 4, 100, 181, 0, 31, 42, 180, 0, 16, 42, 180, 0, 78, 27, 79, 42]
abbrev dktX3_made_2 : List UInt8 := dkwX3_made_2 ++ dktX3_made_3
def dkwX3_made_1 : List UInt8 := [181, 0, 78, 42, 180, 0, 22, 42, 180, 0, 78, 51, 154, 255, 221, 42, 180, 0, 22, 42, 180, 0, 78, 4]
abbrev dktX3_made_1 : List UInt8 := dkwX3_made_1 ++ dktX3_made_2
def dkwX3_made_0 : List UInt8 := [42, 42, 180, 0, 78, 4, 96, 17, 5, 220, 162, 0, 12, 42, 180, 0, 78, 4, 96, 167, 0, 4, 4]
abbrev dktX3_made_0 : List UInt8 := dkwX3_made_0 ++ dktX3_made_1
theorem dksX3_made_0 : cX3_made.data.toList.drop 0 = dktX3_made_0 := by decide +kernel
theorem dksX3_made_1 : cX3_made.data.toList.drop 23 = dktX3_made_1 := dk_seg dksX3_made_0 23 rfl rfl
theorem dksX3_made_2 : cX3_made.data.toList.drop 47 = dktX3_made_2 := dk_seg dksX3_made_1 24 rfl rfl
theorem dksX3_made_3 : cX3_made.data.toList.drop 69 = dktX3_made_3 := dk_seg dksX3_made_2 22 rfl rfl
theorem dksX3_made_4 : cX3_made.data.toList.drop 93 = dktX3_made_4 := dk_seg dksX3_made_3 24 rfl rfl
theorem dX3_made_0 : decode cX3_made 0 = .ok (.aload_n 0, 1) := dk_42 (dk_at dksX3_made_0 0 rfl rfl)
theorem dX3_made_1 : decode cX3_made 1 = .ok (.aload_n 0, 1) := dk_42 (dk_at dksX3_made_0 1 rfl rfl)
theorem dX3_made_2 : decode cX3_made 2 = .ok (.getfield 78, 3) := dk_180 0 78 (dk_at dksX3_made_0 2 rfl rfl)
theorem dX3_made_5 : decode cX3_made 5 = .ok (.iconst 1, 1) := dk_4 (dk_at dksX3_made_0 5 rfl rfl)
theorem dX3_made_6 : decode cX3_made 6 = .ok (.iadd, 1) := dk_96 (dk_at dksX3_made_0 6 rfl rfl)
theorem dX3_made_7 : decode cX3_made 7 = .ok (.sipush 1500, 3) := dk_17 5 220 (dk_at dksX3_made_0 7 rfl rfl)
theorem dX3_made_10 : decode cX3_made 10 = .ok (.if_icmp .ge 12, 3) := dk_162 0 12 (dk_at dksX3_made_0 10 rfl rfl)
theorem dX3_made_13 : decode cX3_made 13 = .ok (.aload_n 0, 1) := dk_42 (dk_at dksX3_made_0 13 rfl rfl)
theorem dX3_made_14 : decode cX3_made 14 = .ok (.getfield 78, 3) := dk_180 0 78 (dk_at dksX3_made_0 14 rfl rfl)
theorem dX3_made_17 : decode cX3_made 17 = .ok (.iconst 1, 1) := dk_4 (dk_at dksX3_made_0 17 rfl rfl)
theorem dX3_made_18 : decode cX3_made 18 = .ok (.iadd, 1) := dk_96 (dk_at dksX3_made_0 18 rfl rfl)
theorem dX3_made_19 : decode cX3_made 19 = .ok (.goto 4, 3) := dk_167 0 4 (dk_at dksX3_made_0 19 rfl rfl)
theorem dX3_made_22 : decode cX3_made 22 = .ok (.iconst 1, 1) := dk_4 (dk_at dksX3_made_0 22 rfl rfl)
theorem dX3_made_23 : decode cX3_made 23 = .ok (.putfield 78, 3) := dk_181 0 78 (dk_at dksX3_made_1 0 rfl rfl)
theorem dX3_made_26 : decode cX3_made 26 = .ok (.aload_n 0, 1) := dk_42 (dk_at dksX3_made_1 3 rfl rfl)
theorem dX3_made_27 : decode cX3_made 27 = .ok (.getfield 22, 3) := dk_180 0 22 (dk_at dksX3_made_1 4 rfl rfl)
theorem dX3_made_30 : decode cX3_made 30 = .ok (.aload_n 0, 1) := dk_42 (dk_at dksX3_made_1 7 rfl rfl)
theorem dX3_made_31 : decode cX3_made 31 = .ok (.getfield 78, 3) := dk_180 0 78 (dk_at dksX3_made_1 8 rfl rfl)
theorem dX3_made_34 : decode cX3_made 34 = .ok (.baload, 1) := dk_51 (dk_at dksX3_made_1 11 rfl rfl)
theorem dX3_made_35 : decode cX3_made 35 = .ok (.ifCond .ne (-35), 3) := dk_154 255 221 (dk_at dksX3_made_1 12 rfl rfl)
theorem dX3_made_38 : decode cX3_made 38 = .ok (.aload_n 0, 1) := dk_42 (dk_at dksX3_made_1 15 rfl rfl)
theorem dX3_made_39 : decode cX3_made 39 = .ok (.getfield 22, 3) := dk_180 0 22 (dk_at dksX3_made_1 16 rfl rfl)
theorem dX3_made_42 : decode cX3_made 42 = .ok (.aload_n 0, 1) := dk_42 (dk_at dksX3_made_1 19 rfl rfl)
theorem dX3_made_43 : decode cX3_made 43 = .ok (.getfield 78, 3) := dk_180 0 78 (dk_at dksX3_made_1 20 rfl rfl)
theorem dX3_made_46 : decode cX3_made 46 = .ok (.iconst 1, 1) := dk_4 (dk_at dksX3_made_1 23 rfl rfl)
theorem dX3_made_47 : decode cX3_made 47 = .ok (.bastore, 1) := dk_84 (dk_at dksX3_made_2 0 rfl rfl)
theorem dX3_made_48 : decode cX3_made 48 = .ok (.aload_n 0, 1) := dk_42 (dk_at dksX3_made_2 1 rfl rfl)
theorem dX3_made_49 : decode cX3_made 49 = .ok (.dup, 1) := dk_89 (dk_at dksX3_made_2 2 rfl rfl)
theorem dX3_made_50 : decode cX3_made 50 = .ok (.getfield 31, 3) := dk_180 0 31 (dk_at dksX3_made_2 3 rfl rfl)
theorem dX3_made_53 : decode cX3_made 53 = .ok (.iconst 1, 1) := dk_4 (dk_at dksX3_made_2 6 rfl rfl)
theorem dX3_made_54 : decode cX3_made 54 = .ok (.isub, 1) := dk_100 (dk_at dksX3_made_2 7 rfl rfl)
theorem dX3_made_55 : decode cX3_made 55 = .ok (.putfield 31, 3) := dk_181 0 31 (dk_at dksX3_made_2 8 rfl rfl)
theorem dX3_made_58 : decode cX3_made 58 = .ok (.aload_n 0, 1) := dk_42 (dk_at dksX3_made_2 11 rfl rfl)
theorem dX3_made_59 : decode cX3_made 59 = .ok (.getfield 16, 3) := dk_180 0 16 (dk_at dksX3_made_2 12 rfl rfl)
theorem dX3_made_62 : decode cX3_made 62 = .ok (.aload_n 0, 1) := dk_42 (dk_at dksX3_made_2 15 rfl rfl)
theorem dX3_made_63 : decode cX3_made 63 = .ok (.getfield 78, 3) := dk_180 0 78 (dk_at dksX3_made_2 16 rfl rfl)
theorem dX3_made_66 : decode cX3_made 66 = .ok (.iload_n 1, 1) := dk_27 (dk_at dksX3_made_2 19 rfl rfl)
theorem dX3_made_67 : decode cX3_made 67 = .ok (.iastore, 1) := dk_79 (dk_at dksX3_made_2 20 rfl rfl)
theorem dX3_made_68 : decode cX3_made 68 = .ok (.aload_n 0, 1) := dk_42 (dk_at dksX3_made_2 21 rfl rfl)
theorem dX3_made_69 : decode cX3_made 69 = .ok (.getfield 19, 3) := dk_180 0 19 (dk_at dksX3_made_3 0 rfl rfl)
theorem dX3_made_72 : decode cX3_made 72 = .ok (.aload_n 0, 1) := dk_42 (dk_at dksX3_made_3 3 rfl rfl)
theorem dX3_made_73 : decode cX3_made 73 = .ok (.getfield 78, 3) := dk_180 0 78 (dk_at dksX3_made_3 4 rfl rfl)
theorem dX3_made_76 : decode cX3_made 76 = .ok (.iload_n 2, 1) := dk_28 (dk_at dksX3_made_3 7 rfl rfl)
theorem dX3_made_77 : decode cX3_made 77 = .ok (.iastore, 1) := dk_79 (dk_at dksX3_made_3 8 rfl rfl)
theorem dX3_made_78 : decode cX3_made 78 = .ok (.iconst 0, 1) := dk_3 (dk_at dksX3_made_3 9 rfl rfl)
theorem dX3_made_79 : decode cX3_made 79 = .ok (.istore_n 3, 1) := dk_62 (dk_at dksX3_made_3 10 rfl rfl)
theorem dX3_made_80 : decode cX3_made 80 = .ok (.iload_n 3, 1) := dk_29 (dk_at dksX3_made_3 11 rfl rfl)
theorem dX3_made_81 : decode cX3_made 81 = .ok (.bipush 40, 2) := dk_16 40 (dk_at dksX3_made_3 12 rfl rfl)
theorem dX3_made_83 : decode cX3_made 83 = .ok (.if_icmp .ge 24, 3) := dk_162 0 24 (dk_at dksX3_made_3 14 rfl rfl)
theorem dX3_made_86 : decode cX3_made 86 = .ok (.aload_n 0, 1) := dk_42 (dk_at dksX3_made_3 17 rfl rfl)
theorem dX3_made_87 : decode cX3_made 87 = .ok (.getfield 27, 3) := dk_180 0 27 (dk_at dksX3_made_3 18 rfl rfl)
theorem dX3_made_90 : decode cX3_made 90 = .ok (.bipush 40, 2) := dk_16 40 (dk_at dksX3_made_3 21 rfl rfl)
theorem dX3_made_92 : decode cX3_made 92 = .ok (.aload_n 0, 1) := dk_42 (dk_at dksX3_made_3 23 rfl rfl)
theorem dX3_made_93 : decode cX3_made 93 = .ok (.getfield 78, 3) := dk_180 0 78 (dk_at dksX3_made_4 0 rfl rfl)
theorem dX3_made_96 : decode cX3_made 96 = .ok (.imul, 1) := dk_104 (dk_at dksX3_made_4 3 rfl rfl)
theorem dX3_made_97 : decode cX3_made 97 = .ok (.iload_n 3, 1) := dk_29 (dk_at dksX3_made_4 4 rfl rfl)
theorem dX3_made_98 : decode cX3_made 98 = .ok (.iadd, 1) := dk_96 (dk_at dksX3_made_4 5 rfl rfl)
theorem dX3_made_99 : decode cX3_made 99 = .ok (.lconst 0, 1) := dk_9 (dk_at dksX3_made_4 6 rfl rfl)
theorem dX3_made_100 : decode cX3_made 100 = .ok (.lastore, 1) := dk_80 (dk_at dksX3_made_4 7 rfl rfl)
theorem dX3_made_101 : decode cX3_made 101 = .ok (.iinc 3 1, 3) := dk_132 3 1 (dk_at dksX3_made_4 8 rfl rfl)
theorem dX3_made_104 : decode cX3_made 104 = .ok (.goto (-24), 3) := dk_167 255 232 (dk_at dksX3_made_4 11 rfl rfl)
theorem dX3_made_107 : decode cX3_made 107 = .ok (.aload_n 0, 1) := dk_42 (dk_at dksX3_made_4 14 rfl rfl)
theorem dX3_made_108 : decode cX3_made 108 = .ok (.getfield 78, 3) := dk_180 0 78 (dk_at dksX3_made_4 15 rfl rfl)
theorem dX3_made_111 : decode cX3_made 111 = .ok (.ireturn, 1) := dk_172 (dk_at dksX3_made_4 18 rfl rfl)
abbrev cX3_rows : ByteArray := prog_11_method_28_code
def yX3_rows : MethodName := ⟨RX3, "rows", "(III)I"⟩
def dkwX3_rows_4 : List UInt8 := [28, 29, 104, 172]
abbrev dktX3_rows_4 : List UInt8 := dkwX3_rows_4 ++ []
def dkwX3_rows_3 : List UInt8 := [7, 29, 182, 0, 183, 133, 80, 132, 5, 1, 167, 255, 227, 42, 180, 0, 13, 27, 16, 15, 126, 21, 4, 79]
abbrev dktX3_rows_3 : List UInt8 := dkwX3_rows_3 ++ dktX3_rows_4
def dkwX3_rows_2 : List UInt8 := [54, 4, 3, 54, 5, 21, 5, 28, 162, 0, 29, 42, 180, 0, 27, 16, 40, 21, 4, 104, 21, 5, 96, 42]
abbrev dktX3_rows_2 : List UInt8 := dkwX3_rows_2 ++ dktX3_rows_3
def dkwX3_rows_1 : List UInt8 := [155, 0, 7, 29, 156, 0, 9, 42, 7, 182, 0, 177, 172, 42, 182, 0, 180, 42, 16, 8, 28, 182, 0, 183]
abbrev dktX3_rows_1 : List UInt8 := dkwX3_rows_1 ++ dktX3_rows_2
def dkwX3_rows_0 : List UInt8 := [42, 182, 0, 174, 28, 16, 8, 163, 0, 9, 29, 16, 8, 164, 0, 9, 42, 4, 182, 0, 177, 172, 28]
abbrev dktX3_rows_0 : List UInt8 := dkwX3_rows_0 ++ dktX3_rows_1
theorem dksX3_rows_0 : cX3_rows.data.toList.drop 0 = dktX3_rows_0 := by decide +kernel
theorem dksX3_rows_1 : cX3_rows.data.toList.drop 23 = dktX3_rows_1 := dk_seg dksX3_rows_0 23 rfl rfl
theorem dksX3_rows_2 : cX3_rows.data.toList.drop 47 = dktX3_rows_2 := dk_seg dksX3_rows_1 24 rfl rfl
theorem dksX3_rows_3 : cX3_rows.data.toList.drop 71 = dktX3_rows_3 := dk_seg dksX3_rows_2 24 rfl rfl
theorem dksX3_rows_4 : cX3_rows.data.toList.drop 95 = dktX3_rows_4 := dk_seg dksX3_rows_3 24 rfl rfl
theorem dX3_rows_0 : decode cX3_rows 0 = .ok (.aload_n 0, 1) := dk_42 (dk_at dksX3_rows_0 0 rfl rfl)
theorem dX3_rows_1 : decode cX3_rows 1 = .ok (.invokevirtual 174, 3) := dk_182 0 174 (dk_at dksX3_rows_0 1 rfl rfl)
theorem dX3_rows_4 : decode cX3_rows 4 = .ok (.iload_n 2, 1) := dk_28 (dk_at dksX3_rows_0 4 rfl rfl)
theorem dX3_rows_5 : decode cX3_rows 5 = .ok (.bipush 8, 2) := dk_16 8 (dk_at dksX3_rows_0 5 rfl rfl)
theorem dX3_rows_7 : decode cX3_rows 7 = .ok (.if_icmp .gt 9, 3) := dk_163 0 9 (dk_at dksX3_rows_0 7 rfl rfl)
theorem dX3_rows_10 : decode cX3_rows 10 = .ok (.iload_n 3, 1) := dk_29 (dk_at dksX3_rows_0 10 rfl rfl)
theorem dX3_rows_11 : decode cX3_rows 11 = .ok (.bipush 8, 2) := dk_16 8 (dk_at dksX3_rows_0 11 rfl rfl)
theorem dX3_rows_13 : decode cX3_rows 13 = .ok (.if_icmp .le 9, 3) := dk_164 0 9 (dk_at dksX3_rows_0 13 rfl rfl)
theorem dX3_rows_16 : decode cX3_rows 16 = .ok (.aload_n 0, 1) := dk_42 (dk_at dksX3_rows_0 16 rfl rfl)
theorem dX3_rows_17 : decode cX3_rows 17 = .ok (.iconst 1, 1) := dk_4 (dk_at dksX3_rows_0 17 rfl rfl)
theorem dX3_rows_18 : decode cX3_rows 18 = .ok (.invokevirtual 177, 3) := dk_182 0 177 (dk_at dksX3_rows_0 18 rfl rfl)
theorem dX3_rows_21 : decode cX3_rows 21 = .ok (.ireturn, 1) := dk_172 (dk_at dksX3_rows_0 21 rfl rfl)
theorem dX3_rows_22 : decode cX3_rows 22 = .ok (.iload_n 2, 1) := dk_28 (dk_at dksX3_rows_0 22 rfl rfl)
theorem dX3_rows_23 : decode cX3_rows 23 = .ok (.ifCond .lt 7, 3) := dk_155 0 7 (dk_at dksX3_rows_1 0 rfl rfl)
theorem dX3_rows_26 : decode cX3_rows 26 = .ok (.iload_n 3, 1) := dk_29 (dk_at dksX3_rows_1 3 rfl rfl)
theorem dX3_rows_27 : decode cX3_rows 27 = .ok (.ifCond .ge 9, 3) := dk_156 0 9 (dk_at dksX3_rows_1 4 rfl rfl)
theorem dX3_rows_30 : decode cX3_rows 30 = .ok (.aload_n 0, 1) := dk_42 (dk_at dksX3_rows_1 7 rfl rfl)
theorem dX3_rows_31 : decode cX3_rows 31 = .ok (.iconst 4, 1) := dk_7 (dk_at dksX3_rows_1 8 rfl rfl)
theorem dX3_rows_32 : decode cX3_rows 32 = .ok (.invokevirtual 177, 3) := dk_182 0 177 (dk_at dksX3_rows_1 9 rfl rfl)
theorem dX3_rows_35 : decode cX3_rows 35 = .ok (.ireturn, 1) := dk_172 (dk_at dksX3_rows_1 12 rfl rfl)
theorem dX3_rows_36 : decode cX3_rows 36 = .ok (.aload_n 0, 1) := dk_42 (dk_at dksX3_rows_1 13 rfl rfl)
theorem dX3_rows_37 : decode cX3_rows 37 = .ok (.invokevirtual 180, 3) := dk_182 0 180 (dk_at dksX3_rows_1 14 rfl rfl)
theorem dX3_rows_40 : decode cX3_rows 40 = .ok (.aload_n 0, 1) := dk_42 (dk_at dksX3_rows_1 17 rfl rfl)
theorem dX3_rows_41 : decode cX3_rows 41 = .ok (.bipush 8, 2) := dk_16 8 (dk_at dksX3_rows_1 18 rfl rfl)
theorem dX3_rows_43 : decode cX3_rows 43 = .ok (.iload_n 2, 1) := dk_28 (dk_at dksX3_rows_1 20 rfl rfl)
theorem dX3_rows_44 : decode cX3_rows 44 = .ok (.invokevirtual 183, 3) := dk_182 0 183 (dk_at dksX3_rows_1 21 rfl rfl)
theorem dX3_rows_47 : decode cX3_rows 47 = .ok (.istore 4, 2) := dk_54 4 (dk_at dksX3_rows_2 0 rfl rfl)
theorem dX3_rows_49 : decode cX3_rows 49 = .ok (.iconst 0, 1) := dk_3 (dk_at dksX3_rows_2 2 rfl rfl)
theorem dX3_rows_50 : decode cX3_rows 50 = .ok (.istore 5, 2) := dk_54 5 (dk_at dksX3_rows_2 3 rfl rfl)
theorem dX3_rows_52 : decode cX3_rows 52 = .ok (.iload 5, 2) := dk_21 5 (dk_at dksX3_rows_2 5 rfl rfl)
theorem dX3_rows_54 : decode cX3_rows 54 = .ok (.iload_n 2, 1) := dk_28 (dk_at dksX3_rows_2 7 rfl rfl)
theorem dX3_rows_55 : decode cX3_rows 55 = .ok (.if_icmp .ge 29, 3) := dk_162 0 29 (dk_at dksX3_rows_2 8 rfl rfl)
theorem dX3_rows_58 : decode cX3_rows 58 = .ok (.aload_n 0, 1) := dk_42 (dk_at dksX3_rows_2 11 rfl rfl)
theorem dX3_rows_59 : decode cX3_rows 59 = .ok (.getfield 27, 3) := dk_180 0 27 (dk_at dksX3_rows_2 12 rfl rfl)
theorem dX3_rows_62 : decode cX3_rows 62 = .ok (.bipush 40, 2) := dk_16 40 (dk_at dksX3_rows_2 15 rfl rfl)
theorem dX3_rows_64 : decode cX3_rows 64 = .ok (.iload 4, 2) := dk_21 4 (dk_at dksX3_rows_2 17 rfl rfl)
theorem dX3_rows_66 : decode cX3_rows 66 = .ok (.imul, 1) := dk_104 (dk_at dksX3_rows_2 19 rfl rfl)
theorem dX3_rows_67 : decode cX3_rows 67 = .ok (.iload 5, 2) := dk_21 5 (dk_at dksX3_rows_2 20 rfl rfl)
theorem dX3_rows_69 : decode cX3_rows 69 = .ok (.iadd, 1) := dk_96 (dk_at dksX3_rows_2 22 rfl rfl)
theorem dX3_rows_70 : decode cX3_rows 70 = .ok (.aload_n 0, 1) := dk_42 (dk_at dksX3_rows_2 23 rfl rfl)
theorem dX3_rows_71 : decode cX3_rows 71 = .ok (.iconst 4, 1) := dk_7 (dk_at dksX3_rows_3 0 rfl rfl)
theorem dX3_rows_72 : decode cX3_rows 72 = .ok (.iload_n 3, 1) := dk_29 (dk_at dksX3_rows_3 1 rfl rfl)
theorem dX3_rows_73 : decode cX3_rows 73 = .ok (.invokevirtual 183, 3) := dk_182 0 183 (dk_at dksX3_rows_3 2 rfl rfl)
theorem dX3_rows_76 : decode cX3_rows 76 = .ok (.i2l, 1) := dk_133 (dk_at dksX3_rows_3 5 rfl rfl)
theorem dX3_rows_77 : decode cX3_rows 77 = .ok (.lastore, 1) := dk_80 (dk_at dksX3_rows_3 6 rfl rfl)
theorem dX3_rows_78 : decode cX3_rows 78 = .ok (.iinc 5 1, 3) := dk_132 5 1 (dk_at dksX3_rows_3 7 rfl rfl)
theorem dX3_rows_81 : decode cX3_rows 81 = .ok (.goto (-29), 3) := dk_167 255 227 (dk_at dksX3_rows_3 10 rfl rfl)
theorem dX3_rows_84 : decode cX3_rows 84 = .ok (.aload_n 0, 1) := dk_42 (dk_at dksX3_rows_3 13 rfl rfl)
theorem dX3_rows_85 : decode cX3_rows 85 = .ok (.getfield 13, 3) := dk_180 0 13 (dk_at dksX3_rows_3 14 rfl rfl)
theorem dX3_rows_88 : decode cX3_rows 88 = .ok (.iload_n 1, 1) := dk_27 (dk_at dksX3_rows_3 17 rfl rfl)
theorem dX3_rows_89 : decode cX3_rows 89 = .ok (.bipush 15, 2) := dk_16 15 (dk_at dksX3_rows_3 18 rfl rfl)
theorem dX3_rows_91 : decode cX3_rows 91 = .ok (.iand, 1) := dk_126 (dk_at dksX3_rows_3 20 rfl rfl)
theorem dX3_rows_92 : decode cX3_rows 92 = .ok (.iload 4, 2) := dk_21 4 (dk_at dksX3_rows_3 21 rfl rfl)
theorem dX3_rows_94 : decode cX3_rows 94 = .ok (.iastore, 1) := dk_79 (dk_at dksX3_rows_3 23 rfl rfl)
theorem dX3_rows_95 : decode cX3_rows 95 = .ok (.iload_n 2, 1) := dk_28 (dk_at dksX3_rows_4 0 rfl rfl)
theorem dX3_rows_96 : decode cX3_rows 96 = .ok (.iload_n 3, 1) := dk_29 (dk_at dksX3_rows_4 1 rfl rfl)
theorem dX3_rows_97 : decode cX3_rows 97 = .ok (.imul, 1) := dk_104 (dk_at dksX3_rows_4 2 rfl rfl)
theorem dX3_rows_98 : decode cX3_rows 98 = .ok (.ireturn, 1) := dk_172 (dk_at dksX3_rows_4 3 rfl rfl)
abbrev cX3_thing : ByteArray := prog_11_method_29_code
def yX3_thing : MethodName := ⟨RX3, "thing", "(III)I"⟩
def dkwX3_thing_2 : List UInt8 := [180, 0, 13, 27, 16, 15, 126, 21, 4, 79, 29, 172]
abbrev dktX3_thing_2 : List UInt8 := dkwX3_thing_2 ++ []
def dkwX3_thing_1 : List UInt8 := [182, 0, 180, 42, 28, 3, 182, 0, 183, 54, 4, 42, 180, 0, 27, 16, 40, 21, 4, 104, 29, 133, 80, 42]
abbrev dktX3_thing_1 : List UInt8 := dkwX3_thing_1 ++ dktX3_thing_2
def dkwX3_thing_0 : List UInt8 := [42, 182, 0, 174, 28, 16, 11, 16, 15, 184, 0, 67, 154, 0, 9, 42, 4, 182, 0, 177, 172, 42]
abbrev dktX3_thing_0 : List UInt8 := dkwX3_thing_0 ++ dktX3_thing_1
theorem dksX3_thing_0 : cX3_thing.data.toList.drop 0 = dktX3_thing_0 := by decide +kernel
theorem dksX3_thing_1 : cX3_thing.data.toList.drop 22 = dktX3_thing_1 := dk_seg dksX3_thing_0 22 rfl rfl
theorem dksX3_thing_2 : cX3_thing.data.toList.drop 46 = dktX3_thing_2 := dk_seg dksX3_thing_1 24 rfl rfl
theorem dX3_thing_0 : decode cX3_thing 0 = .ok (.aload_n 0, 1) := dk_42 (dk_at dksX3_thing_0 0 rfl rfl)
theorem dX3_thing_1 : decode cX3_thing 1 = .ok (.invokevirtual 174, 3) := dk_182 0 174 (dk_at dksX3_thing_0 1 rfl rfl)
theorem dX3_thing_4 : decode cX3_thing 4 = .ok (.iload_n 2, 1) := dk_28 (dk_at dksX3_thing_0 4 rfl rfl)
theorem dX3_thing_5 : decode cX3_thing 5 = .ok (.bipush 11, 2) := dk_16 11 (dk_at dksX3_thing_0 5 rfl rfl)
theorem dX3_thing_7 : decode cX3_thing 7 = .ok (.bipush 15, 2) := dk_16 15 (dk_at dksX3_thing_0 7 rfl rfl)
theorem dX3_thing_9 : decode cX3_thing 9 = .ok (.invokestatic 67, 3) := dk_184 0 67 (dk_at dksX3_thing_0 9 rfl rfl)
theorem dX3_thing_12 : decode cX3_thing 12 = .ok (.ifCond .ne 9, 3) := dk_154 0 9 (dk_at dksX3_thing_0 12 rfl rfl)
theorem dX3_thing_15 : decode cX3_thing 15 = .ok (.aload_n 0, 1) := dk_42 (dk_at dksX3_thing_0 15 rfl rfl)
theorem dX3_thing_16 : decode cX3_thing 16 = .ok (.iconst 1, 1) := dk_4 (dk_at dksX3_thing_0 16 rfl rfl)
theorem dX3_thing_17 : decode cX3_thing 17 = .ok (.invokevirtual 177, 3) := dk_182 0 177 (dk_at dksX3_thing_0 17 rfl rfl)
theorem dX3_thing_20 : decode cX3_thing 20 = .ok (.ireturn, 1) := dk_172 (dk_at dksX3_thing_0 20 rfl rfl)
theorem dX3_thing_21 : decode cX3_thing 21 = .ok (.aload_n 0, 1) := dk_42 (dk_at dksX3_thing_0 21 rfl rfl)
theorem dX3_thing_22 : decode cX3_thing 22 = .ok (.invokevirtual 180, 3) := dk_182 0 180 (dk_at dksX3_thing_1 0 rfl rfl)
theorem dX3_thing_25 : decode cX3_thing 25 = .ok (.aload_n 0, 1) := dk_42 (dk_at dksX3_thing_1 3 rfl rfl)
theorem dX3_thing_26 : decode cX3_thing 26 = .ok (.iload_n 2, 1) := dk_28 (dk_at dksX3_thing_1 4 rfl rfl)
theorem dX3_thing_27 : decode cX3_thing 27 = .ok (.iconst 0, 1) := dk_3 (dk_at dksX3_thing_1 5 rfl rfl)
theorem dX3_thing_28 : decode cX3_thing 28 = .ok (.invokevirtual 183, 3) := dk_182 0 183 (dk_at dksX3_thing_1 6 rfl rfl)
theorem dX3_thing_31 : decode cX3_thing 31 = .ok (.istore 4, 2) := dk_54 4 (dk_at dksX3_thing_1 9 rfl rfl)
theorem dX3_thing_33 : decode cX3_thing 33 = .ok (.aload_n 0, 1) := dk_42 (dk_at dksX3_thing_1 11 rfl rfl)
theorem dX3_thing_34 : decode cX3_thing 34 = .ok (.getfield 27, 3) := dk_180 0 27 (dk_at dksX3_thing_1 12 rfl rfl)
theorem dX3_thing_37 : decode cX3_thing 37 = .ok (.bipush 40, 2) := dk_16 40 (dk_at dksX3_thing_1 15 rfl rfl)
theorem dX3_thing_39 : decode cX3_thing 39 = .ok (.iload 4, 2) := dk_21 4 (dk_at dksX3_thing_1 17 rfl rfl)
theorem dX3_thing_41 : decode cX3_thing 41 = .ok (.imul, 1) := dk_104 (dk_at dksX3_thing_1 19 rfl rfl)
theorem dX3_thing_42 : decode cX3_thing 42 = .ok (.iload_n 3, 1) := dk_29 (dk_at dksX3_thing_1 20 rfl rfl)
theorem dX3_thing_43 : decode cX3_thing 43 = .ok (.i2l, 1) := dk_133 (dk_at dksX3_thing_1 21 rfl rfl)
theorem dX3_thing_44 : decode cX3_thing 44 = .ok (.lastore, 1) := dk_80 (dk_at dksX3_thing_1 22 rfl rfl)
theorem dX3_thing_45 : decode cX3_thing 45 = .ok (.aload_n 0, 1) := dk_42 (dk_at dksX3_thing_1 23 rfl rfl)
theorem dX3_thing_46 : decode cX3_thing 46 = .ok (.getfield 13, 3) := dk_180 0 13 (dk_at dksX3_thing_2 0 rfl rfl)
theorem dX3_thing_49 : decode cX3_thing 49 = .ok (.iload_n 1, 1) := dk_27 (dk_at dksX3_thing_2 3 rfl rfl)
theorem dX3_thing_50 : decode cX3_thing 50 = .ok (.bipush 15, 2) := dk_16 15 (dk_at dksX3_thing_2 4 rfl rfl)
theorem dX3_thing_52 : decode cX3_thing 52 = .ok (.iand, 1) := dk_126 (dk_at dksX3_thing_2 6 rfl rfl)
theorem dX3_thing_53 : decode cX3_thing 53 = .ok (.iload 4, 2) := dk_21 4 (dk_at dksX3_thing_2 7 rfl rfl)
theorem dX3_thing_55 : decode cX3_thing 55 = .ok (.iastore, 1) := dk_79 (dk_at dksX3_thing_2 9 rfl rfl)
theorem dX3_thing_56 : decode cX3_thing 56 = .ok (.iload_n 3, 1) := dk_29 (dk_at dksX3_thing_2 10 rfl rfl)
theorem dX3_thing_57 : decode cX3_thing 57 = .ok (.ireturn, 1) := dk_172 (dk_at dksX3_thing_2 11 rfl rfl)
abbrev cX3_hold : ByteArray := prog_11_method_30_code
def yX3_hold : MethodName := ⟨RX3, "hold", "(II)I"⟩
def dkwX3_hold_1 : List UInt8 := [182, 0, 63, 172]
abbrev dktX3_hold_1 : List UInt8 := dkwX3_hold_1 ++ []
def dkwX3_hold_0 : List UInt8 := [42, 182, 0, 174, 42, 180, 0, 13, 27, 16, 15, 126, 42, 28, 182, 0, 187, 79, 42, 42, 27, 182, 0, 187]
abbrev dktX3_hold_0 : List UInt8 := dkwX3_hold_0 ++ dktX3_hold_1
theorem dksX3_hold_0 : cX3_hold.data.toList.drop 0 = dktX3_hold_0 := by decide +kernel
theorem dksX3_hold_1 : cX3_hold.data.toList.drop 24 = dktX3_hold_1 := dk_seg dksX3_hold_0 24 rfl rfl
theorem dX3_hold_0 : decode cX3_hold 0 = .ok (.aload_n 0, 1) := dk_42 (dk_at dksX3_hold_0 0 rfl rfl)
theorem dX3_hold_1 : decode cX3_hold 1 = .ok (.invokevirtual 174, 3) := dk_182 0 174 (dk_at dksX3_hold_0 1 rfl rfl)
theorem dX3_hold_4 : decode cX3_hold 4 = .ok (.aload_n 0, 1) := dk_42 (dk_at dksX3_hold_0 4 rfl rfl)
theorem dX3_hold_5 : decode cX3_hold 5 = .ok (.getfield 13, 3) := dk_180 0 13 (dk_at dksX3_hold_0 5 rfl rfl)
theorem dX3_hold_8 : decode cX3_hold 8 = .ok (.iload_n 1, 1) := dk_27 (dk_at dksX3_hold_0 8 rfl rfl)
theorem dX3_hold_9 : decode cX3_hold 9 = .ok (.bipush 15, 2) := dk_16 15 (dk_at dksX3_hold_0 9 rfl rfl)
theorem dX3_hold_11 : decode cX3_hold 11 = .ok (.iand, 1) := dk_126 (dk_at dksX3_hold_0 11 rfl rfl)
theorem dX3_hold_12 : decode cX3_hold 12 = .ok (.aload_n 0, 1) := dk_42 (dk_at dksX3_hold_0 12 rfl rfl)
theorem dX3_hold_13 : decode cX3_hold 13 = .ok (.iload_n 2, 1) := dk_28 (dk_at dksX3_hold_0 13 rfl rfl)
theorem dX3_hold_14 : decode cX3_hold 14 = .ok (.invokevirtual 187, 3) := dk_182 0 187 (dk_at dksX3_hold_0 14 rfl rfl)
theorem dX3_hold_17 : decode cX3_hold 17 = .ok (.iastore, 1) := dk_79 (dk_at dksX3_hold_0 17 rfl rfl)
theorem dX3_hold_18 : decode cX3_hold 18 = .ok (.aload_n 0, 1) := dk_42 (dk_at dksX3_hold_0 18 rfl rfl)
theorem dX3_hold_19 : decode cX3_hold 19 = .ok (.aload_n 0, 1) := dk_42 (dk_at dksX3_hold_0 19 rfl rfl)
theorem dX3_hold_20 : decode cX3_hold 20 = .ok (.iload_n 1, 1) := dk_27 (dk_at dksX3_hold_0 20 rfl rfl)
theorem dX3_hold_21 : decode cX3_hold 21 = .ok (.invokevirtual 187, 3) := dk_182 0 187 (dk_at dksX3_hold_0 21 rfl rfl)
theorem dX3_hold_24 : decode cX3_hold 24 = .ok (.invokevirtual 63, 3) := dk_182 0 63 (dk_at dksX3_hold_1 0 rfl rfl)
theorem dX3_hold_27 : decode cX3_hold 27 = .ok (.ireturn, 1) := dk_172 (dk_at dksX3_hold_1 3 rfl rfl)
abbrev cX3_held : ByteArray := prog_11_method_7_code
def yX3_held : MethodName := ⟨RX3, "held", "(I)I"⟩
def dkwX3_held_0 : List UInt8 := [42, 180, 0, 13, 27, 16, 15, 126, 46, 172]
abbrev dktX3_held_0 : List UInt8 := dkwX3_held_0 ++ []
theorem dksX3_held_0 : cX3_held.data.toList.drop 0 = dktX3_held_0 := by decide +kernel
theorem dX3_held_0 : decode cX3_held 0 = .ok (.aload_n 0, 1) := dk_42 (dk_at dksX3_held_0 0 rfl rfl)
theorem dX3_held_1 : decode cX3_held 1 = .ok (.getfield 13, 3) := dk_180 0 13 (dk_at dksX3_held_0 1 rfl rfl)
theorem dX3_held_4 : decode cX3_held 4 = .ok (.iload_n 1, 1) := dk_27 (dk_at dksX3_held_0 4 rfl rfl)
theorem dX3_held_5 : decode cX3_held 5 = .ok (.bipush 15, 2) := dk_16 15 (dk_at dksX3_held_0 5 rfl rfl)
theorem dX3_held_7 : decode cX3_held 7 = .ok (.iand, 1) := dk_126 (dk_at dksX3_held_0 7 rfl rfl)
theorem dX3_held_8 : decode cX3_held 8 = .ok (.iaload, 1) := dk_46 (dk_at dksX3_held_0 8 rfl rfl)
theorem dX3_held_9 : decode cX3_held 9 = .ok (.ireturn, 1) := dk_172 (dk_at dksX3_held_0 9 rfl rfl)
abbrev cX3_clear : ByteArray := prog_11_method_31_code
def yX3_clear : MethodName := ⟨RX3, "clear", "(I)I"⟩
def dkwX3_clear_1 : List UInt8 := [28, 172]
abbrev dktX3_clear_1 : List UInt8 := dkwX3_clear_1 ++ []
def dkwX3_clear_0 : List UInt8 := [42, 182, 0, 174, 42, 42, 27, 182, 0, 187, 182, 0, 63, 61, 42, 180, 0, 13, 27, 16, 15, 126, 3, 79]
abbrev dktX3_clear_0 : List UInt8 := dkwX3_clear_0 ++ dktX3_clear_1
theorem dksX3_clear_0 : cX3_clear.data.toList.drop 0 = dktX3_clear_0 := by decide +kernel
theorem dksX3_clear_1 : cX3_clear.data.toList.drop 24 = dktX3_clear_1 := dk_seg dksX3_clear_0 24 rfl rfl
theorem dX3_clear_0 : decode cX3_clear 0 = .ok (.aload_n 0, 1) := dk_42 (dk_at dksX3_clear_0 0 rfl rfl)
theorem dX3_clear_1 : decode cX3_clear 1 = .ok (.invokevirtual 174, 3) := dk_182 0 174 (dk_at dksX3_clear_0 1 rfl rfl)
theorem dX3_clear_4 : decode cX3_clear 4 = .ok (.aload_n 0, 1) := dk_42 (dk_at dksX3_clear_0 4 rfl rfl)
theorem dX3_clear_5 : decode cX3_clear 5 = .ok (.aload_n 0, 1) := dk_42 (dk_at dksX3_clear_0 5 rfl rfl)
theorem dX3_clear_6 : decode cX3_clear 6 = .ok (.iload_n 1, 1) := dk_27 (dk_at dksX3_clear_0 6 rfl rfl)
theorem dX3_clear_7 : decode cX3_clear 7 = .ok (.invokevirtual 187, 3) := dk_182 0 187 (dk_at dksX3_clear_0 7 rfl rfl)
theorem dX3_clear_10 : decode cX3_clear 10 = .ok (.invokevirtual 63, 3) := dk_182 0 63 (dk_at dksX3_clear_0 10 rfl rfl)
theorem dX3_clear_13 : decode cX3_clear 13 = .ok (.istore_n 2, 1) := dk_61 (dk_at dksX3_clear_0 13 rfl rfl)
theorem dX3_clear_14 : decode cX3_clear 14 = .ok (.aload_n 0, 1) := dk_42 (dk_at dksX3_clear_0 14 rfl rfl)
theorem dX3_clear_15 : decode cX3_clear 15 = .ok (.getfield 13, 3) := dk_180 0 13 (dk_at dksX3_clear_0 15 rfl rfl)
theorem dX3_clear_18 : decode cX3_clear 18 = .ok (.iload_n 1, 1) := dk_27 (dk_at dksX3_clear_0 18 rfl rfl)
theorem dX3_clear_19 : decode cX3_clear 19 = .ok (.bipush 15, 2) := dk_16 15 (dk_at dksX3_clear_0 19 rfl rfl)
theorem dX3_clear_21 : decode cX3_clear 21 = .ok (.iand, 1) := dk_126 (dk_at dksX3_clear_0 21 rfl rfl)
theorem dX3_clear_22 : decode cX3_clear 22 = .ok (.iconst 0, 1) := dk_3 (dk_at dksX3_clear_0 22 rfl rfl)
theorem dX3_clear_23 : decode cX3_clear 23 = .ok (.iastore, 1) := dk_79 (dk_at dksX3_clear_0 23 rfl rfl)
theorem dX3_clear_24 : decode cX3_clear 24 = .ok (.iload_n 2, 1) := dk_28 (dk_at dksX3_clear_1 0 rfl rfl)
theorem dX3_clear_25 : decode cX3_clear 25 = .ok (.ireturn, 1) := dk_172 (dk_at dksX3_clear_1 1 rfl rfl)
abbrev cX3_sort : ByteArray := prog_11_method_32_code
def yX3_sort : MethodName := ⟨RX3, "sort", "(I)I"⟩
def dkwX3_sort_0 : List UInt8 := [42, 182, 0, 174, 42, 42, 27, 182, 0, 187, 182, 0, 63, 172]
abbrev dktX3_sort_0 : List UInt8 := dkwX3_sort_0 ++ []
theorem dksX3_sort_0 : cX3_sort.data.toList.drop 0 = dktX3_sort_0 := by decide +kernel
theorem dX3_sort_0 : decode cX3_sort 0 = .ok (.aload_n 0, 1) := dk_42 (dk_at dksX3_sort_0 0 rfl rfl)
theorem dX3_sort_1 : decode cX3_sort 1 = .ok (.invokevirtual 174, 3) := dk_182 0 174 (dk_at dksX3_sort_0 1 rfl rfl)
theorem dX3_sort_4 : decode cX3_sort 4 = .ok (.aload_n 0, 1) := dk_42 (dk_at dksX3_sort_0 4 rfl rfl)
theorem dX3_sort_5 : decode cX3_sort 5 = .ok (.aload_n 0, 1) := dk_42 (dk_at dksX3_sort_0 5 rfl rfl)
theorem dX3_sort_6 : decode cX3_sort 6 = .ok (.iload_n 1, 1) := dk_27 (dk_at dksX3_sort_0 6 rfl rfl)
theorem dX3_sort_7 : decode cX3_sort 7 = .ok (.invokevirtual 187, 3) := dk_182 0 187 (dk_at dksX3_sort_0 7 rfl rfl)
theorem dX3_sort_10 : decode cX3_sort 10 = .ok (.invokevirtual 63, 3) := dk_182 0 63 (dk_at dksX3_sort_0 10 rfl rfl)
theorem dX3_sort_13 : decode cX3_sort 13 = .ok (.ireturn, 1) := dk_172 (dk_at dksX3_sort_0 13 rfl rfl)
abbrev cX3_alike : ByteArray := prog_11_method_33_code
def yX3_alike : MethodName := ⟨RX3, "alike", "(II)I"⟩
def dkwX3_alike_0 : List UInt8 := [42, 182, 0, 174, 42, 27, 182, 0, 187, 42, 28, 182, 0, 187, 160, 0, 7, 4, 167, 0, 4, 3, 172]
abbrev dktX3_alike_0 : List UInt8 := dkwX3_alike_0 ++ []
theorem dksX3_alike_0 : cX3_alike.data.toList.drop 0 = dktX3_alike_0 := by decide +kernel
theorem dX3_alike_0 : decode cX3_alike 0 = .ok (.aload_n 0, 1) := dk_42 (dk_at dksX3_alike_0 0 rfl rfl)
theorem dX3_alike_1 : decode cX3_alike 1 = .ok (.invokevirtual 174, 3) := dk_182 0 174 (dk_at dksX3_alike_0 1 rfl rfl)
theorem dX3_alike_4 : decode cX3_alike 4 = .ok (.aload_n 0, 1) := dk_42 (dk_at dksX3_alike_0 4 rfl rfl)
theorem dX3_alike_5 : decode cX3_alike 5 = .ok (.iload_n 1, 1) := dk_27 (dk_at dksX3_alike_0 5 rfl rfl)
theorem dX3_alike_6 : decode cX3_alike 6 = .ok (.invokevirtual 187, 3) := dk_182 0 187 (dk_at dksX3_alike_0 6 rfl rfl)
theorem dX3_alike_9 : decode cX3_alike 9 = .ok (.aload_n 0, 1) := dk_42 (dk_at dksX3_alike_0 9 rfl rfl)
theorem dX3_alike_10 : decode cX3_alike 10 = .ok (.iload_n 2, 1) := dk_28 (dk_at dksX3_alike_0 10 rfl rfl)
theorem dX3_alike_11 : decode cX3_alike 11 = .ok (.invokevirtual 187, 3) := dk_182 0 187 (dk_at dksX3_alike_0 11 rfl rfl)
theorem dX3_alike_14 : decode cX3_alike 14 = .ok (.if_icmp .ne 7, 3) := dk_160 0 7 (dk_at dksX3_alike_0 14 rfl rfl)
theorem dX3_alike_17 : decode cX3_alike 17 = .ok (.iconst 1, 1) := dk_4 (dk_at dksX3_alike_0 17 rfl rfl)
theorem dX3_alike_18 : decode cX3_alike 18 = .ok (.goto 4, 3) := dk_167 0 4 (dk_at dksX3_alike_0 18 rfl rfl)
theorem dX3_alike_21 : decode cX3_alike 21 = .ok (.iconst 0, 1) := dk_3 (dk_at dksX3_alike_0 21 rfl rfl)
theorem dX3_alike_22 : decode cX3_alike 22 = .ok (.ireturn, 1) := dk_172 (dk_at dksX3_alike_0 22 rfl rfl)
abbrev cX3_is : ByteArray := prog_11_method_35_code
def yX3_is : MethodName := ⟨RX3, "is", "(II)I"⟩
def dkwX3_is_1 : List UInt8 := [182, 0, 187, 182, 0, 63, 28, 184, 0, 190, 153, 0, 7, 4, 167, 0, 4, 3, 172]
abbrev dktX3_is_1 : List UInt8 := dkwX3_is_1 ++ []
def dkwX3_is_0 : List UInt8 := [42, 182, 0, 174, 28, 3, 16, 17, 184, 0, 67, 154, 0, 9, 42, 4, 182, 0, 177, 172, 42, 42, 27]
abbrev dktX3_is_0 : List UInt8 := dkwX3_is_0 ++ dktX3_is_1
theorem dksX3_is_0 : cX3_is.data.toList.drop 0 = dktX3_is_0 := by decide +kernel
theorem dksX3_is_1 : cX3_is.data.toList.drop 23 = dktX3_is_1 := dk_seg dksX3_is_0 23 rfl rfl
theorem dX3_is_0 : decode cX3_is 0 = .ok (.aload_n 0, 1) := dk_42 (dk_at dksX3_is_0 0 rfl rfl)
theorem dX3_is_1 : decode cX3_is 1 = .ok (.invokevirtual 174, 3) := dk_182 0 174 (dk_at dksX3_is_0 1 rfl rfl)
theorem dX3_is_4 : decode cX3_is 4 = .ok (.iload_n 2, 1) := dk_28 (dk_at dksX3_is_0 4 rfl rfl)
theorem dX3_is_5 : decode cX3_is 5 = .ok (.iconst 0, 1) := dk_3 (dk_at dksX3_is_0 5 rfl rfl)
theorem dX3_is_6 : decode cX3_is 6 = .ok (.bipush 17, 2) := dk_16 17 (dk_at dksX3_is_0 6 rfl rfl)
theorem dX3_is_8 : decode cX3_is 8 = .ok (.invokestatic 67, 3) := dk_184 0 67 (dk_at dksX3_is_0 8 rfl rfl)
theorem dX3_is_11 : decode cX3_is 11 = .ok (.ifCond .ne 9, 3) := dk_154 0 9 (dk_at dksX3_is_0 11 rfl rfl)
theorem dX3_is_14 : decode cX3_is 14 = .ok (.aload_n 0, 1) := dk_42 (dk_at dksX3_is_0 14 rfl rfl)
theorem dX3_is_15 : decode cX3_is 15 = .ok (.iconst 1, 1) := dk_4 (dk_at dksX3_is_0 15 rfl rfl)
theorem dX3_is_16 : decode cX3_is 16 = .ok (.invokevirtual 177, 3) := dk_182 0 177 (dk_at dksX3_is_0 16 rfl rfl)
theorem dX3_is_19 : decode cX3_is 19 = .ok (.ireturn, 1) := dk_172 (dk_at dksX3_is_0 19 rfl rfl)
theorem dX3_is_20 : decode cX3_is 20 = .ok (.aload_n 0, 1) := dk_42 (dk_at dksX3_is_0 20 rfl rfl)
theorem dX3_is_21 : decode cX3_is 21 = .ok (.aload_n 0, 1) := dk_42 (dk_at dksX3_is_0 21 rfl rfl)
theorem dX3_is_22 : decode cX3_is 22 = .ok (.iload_n 1, 1) := dk_27 (dk_at dksX3_is_0 22 rfl rfl)
theorem dX3_is_23 : decode cX3_is 23 = .ok (.invokevirtual 187, 3) := dk_182 0 187 (dk_at dksX3_is_1 0 rfl rfl)
theorem dX3_is_26 : decode cX3_is 26 = .ok (.invokevirtual 63, 3) := dk_182 0 63 (dk_at dksX3_is_1 3 rfl rfl)
theorem dX3_is_29 : decode cX3_is 29 = .ok (.iload_n 2, 1) := dk_28 (dk_at dksX3_is_1 6 rfl rfl)
theorem dX3_is_30 : decode cX3_is 30 = .ok (.invokestatic 190, 3) := dk_184 0 190 (dk_at dksX3_is_1 7 rfl rfl)
theorem dX3_is_33 : decode cX3_is 33 = .ok (.ifCond .eq 7, 3) := dk_153 0 7 (dk_at dksX3_is_1 10 rfl rfl)
theorem dX3_is_36 : decode cX3_is 36 = .ok (.iconst 1, 1) := dk_4 (dk_at dksX3_is_1 13 rfl rfl)
theorem dX3_is_37 : decode cX3_is 37 = .ok (.goto 4, 3) := dk_167 0 4 (dk_at dksX3_is_1 14 rfl rfl)
theorem dX3_is_40 : decode cX3_is 40 = .ok (.iconst 0, 1) := dk_3 (dk_at dksX3_is_1 17 rfl rfl)
theorem dX3_is_41 : decode cX3_is 41 = .ok (.ireturn, 1) := dk_172 (dk_at dksX3_is_1 18 rfl rfl)
abbrev cX3_isSort : ByteArray := prog_11_method_34_code
def yX3_isSort : MethodName := ⟨RX3, "isSort", "(II)Z"⟩
def dkwX3_isSort_3 : List UInt8 := [159, 0, 15, 27, 16, 12, 160, 0, 13, 26, 16, 13, 160, 0, 7, 4, 167, 0, 4, 3, 172]
abbrev dktX3_isSort_3 : List UInt8 := dkwX3_isSort_3 ++ []
def dkwX3_isSort_2 : List UInt8 := [160, 0, 9, 26, 16, 10, 159, 0, 33, 27, 16, 11, 160, 0, 15, 26, 16, 12, 159, 0, 21, 26, 16, 13]
abbrev dktX3_isSort_2 : List UInt8 := dkwX3_isSort_2 ++ dktX3_isSort_3
def dkwX3_isSort_1 : List UInt8 := [159, 0, 9, 26, 16, 13, 160, 0, 7, 4, 167, 0, 4, 3, 172, 26, 27, 159, 0, 45, 27, 16, 9]
abbrev dktX3_isSort_1 : List UInt8 := dkwX3_isSort_1 ++ dktX3_isSort_2
def dkwX3_isSort_0 : List UInt8 := [27, 16, 16, 160, 0, 12, 26, 16, 11, 16, 14, 184, 0, 67, 172, 27, 16, 17, 160, 0, 21, 26, 16, 12]
abbrev dktX3_isSort_0 : List UInt8 := dkwX3_isSort_0 ++ dktX3_isSort_1
theorem dksX3_isSort_0 : cX3_isSort.data.toList.drop 0 = dktX3_isSort_0 := by decide +kernel
theorem dksX3_isSort_1 : cX3_isSort.data.toList.drop 24 = dktX3_isSort_1 := dk_seg dksX3_isSort_0 24 rfl rfl
theorem dksX3_isSort_2 : cX3_isSort.data.toList.drop 47 = dktX3_isSort_2 := dk_seg dksX3_isSort_1 23 rfl rfl
theorem dksX3_isSort_3 : cX3_isSort.data.toList.drop 71 = dktX3_isSort_3 := dk_seg dksX3_isSort_2 24 rfl rfl
theorem dX3_isSort_0 : decode cX3_isSort 0 = .ok (.iload_n 1, 1) := dk_27 (dk_at dksX3_isSort_0 0 rfl rfl)
theorem dX3_isSort_1 : decode cX3_isSort 1 = .ok (.bipush 16, 2) := dk_16 16 (dk_at dksX3_isSort_0 1 rfl rfl)
theorem dX3_isSort_3 : decode cX3_isSort 3 = .ok (.if_icmp .ne 12, 3) := dk_160 0 12 (dk_at dksX3_isSort_0 3 rfl rfl)
theorem dX3_isSort_6 : decode cX3_isSort 6 = .ok (.iload_n 0, 1) := dk_26 (dk_at dksX3_isSort_0 6 rfl rfl)
theorem dX3_isSort_7 : decode cX3_isSort 7 = .ok (.bipush 11, 2) := dk_16 11 (dk_at dksX3_isSort_0 7 rfl rfl)
theorem dX3_isSort_9 : decode cX3_isSort 9 = .ok (.bipush 14, 2) := dk_16 14 (dk_at dksX3_isSort_0 9 rfl rfl)
theorem dX3_isSort_11 : decode cX3_isSort 11 = .ok (.invokestatic 67, 3) := dk_184 0 67 (dk_at dksX3_isSort_0 11 rfl rfl)
theorem dX3_isSort_14 : decode cX3_isSort 14 = .ok (.ireturn, 1) := dk_172 (dk_at dksX3_isSort_0 14 rfl rfl)
theorem dX3_isSort_15 : decode cX3_isSort 15 = .ok (.iload_n 1, 1) := dk_27 (dk_at dksX3_isSort_0 15 rfl rfl)
theorem dX3_isSort_16 : decode cX3_isSort 16 = .ok (.bipush 17, 2) := dk_16 17 (dk_at dksX3_isSort_0 16 rfl rfl)
theorem dX3_isSort_18 : decode cX3_isSort 18 = .ok (.if_icmp .ne 21, 3) := dk_160 0 21 (dk_at dksX3_isSort_0 18 rfl rfl)
theorem dX3_isSort_21 : decode cX3_isSort 21 = .ok (.iload_n 0, 1) := dk_26 (dk_at dksX3_isSort_0 21 rfl rfl)
theorem dX3_isSort_22 : decode cX3_isSort 22 = .ok (.bipush 12, 2) := dk_16 12 (dk_at dksX3_isSort_0 22 rfl rfl)
theorem dX3_isSort_24 : decode cX3_isSort 24 = .ok (.if_icmp .eq 9, 3) := dk_159 0 9 (dk_at dksX3_isSort_1 0 rfl rfl)
theorem dX3_isSort_27 : decode cX3_isSort 27 = .ok (.iload_n 0, 1) := dk_26 (dk_at dksX3_isSort_1 3 rfl rfl)
theorem dX3_isSort_28 : decode cX3_isSort 28 = .ok (.bipush 13, 2) := dk_16 13 (dk_at dksX3_isSort_1 4 rfl rfl)
theorem dX3_isSort_30 : decode cX3_isSort 30 = .ok (.if_icmp .ne 7, 3) := dk_160 0 7 (dk_at dksX3_isSort_1 6 rfl rfl)
theorem dX3_isSort_33 : decode cX3_isSort 33 = .ok (.iconst 1, 1) := dk_4 (dk_at dksX3_isSort_1 9 rfl rfl)
theorem dX3_isSort_34 : decode cX3_isSort 34 = .ok (.goto 4, 3) := dk_167 0 4 (dk_at dksX3_isSort_1 10 rfl rfl)
theorem dX3_isSort_37 : decode cX3_isSort 37 = .ok (.iconst 0, 1) := dk_3 (dk_at dksX3_isSort_1 13 rfl rfl)
theorem dX3_isSort_38 : decode cX3_isSort 38 = .ok (.ireturn, 1) := dk_172 (dk_at dksX3_isSort_1 14 rfl rfl)
theorem dX3_isSort_39 : decode cX3_isSort 39 = .ok (.iload_n 0, 1) := dk_26 (dk_at dksX3_isSort_1 15 rfl rfl)
theorem dX3_isSort_40 : decode cX3_isSort 40 = .ok (.iload_n 1, 1) := dk_27 (dk_at dksX3_isSort_1 16 rfl rfl)
theorem dX3_isSort_41 : decode cX3_isSort 41 = .ok (.if_icmp .eq 45, 3) := dk_159 0 45 (dk_at dksX3_isSort_1 17 rfl rfl)
theorem dX3_isSort_44 : decode cX3_isSort 44 = .ok (.iload_n 1, 1) := dk_27 (dk_at dksX3_isSort_1 20 rfl rfl)
theorem dX3_isSort_45 : decode cX3_isSort 45 = .ok (.bipush 9, 2) := dk_16 9 (dk_at dksX3_isSort_1 21 rfl rfl)
theorem dX3_isSort_47 : decode cX3_isSort 47 = .ok (.if_icmp .ne 9, 3) := dk_160 0 9 (dk_at dksX3_isSort_2 0 rfl rfl)
theorem dX3_isSort_50 : decode cX3_isSort 50 = .ok (.iload_n 0, 1) := dk_26 (dk_at dksX3_isSort_2 3 rfl rfl)
theorem dX3_isSort_51 : decode cX3_isSort 51 = .ok (.bipush 10, 2) := dk_16 10 (dk_at dksX3_isSort_2 4 rfl rfl)
theorem dX3_isSort_53 : decode cX3_isSort 53 = .ok (.if_icmp .eq 33, 3) := dk_159 0 33 (dk_at dksX3_isSort_2 6 rfl rfl)
theorem dX3_isSort_56 : decode cX3_isSort 56 = .ok (.iload_n 1, 1) := dk_27 (dk_at dksX3_isSort_2 9 rfl rfl)
theorem dX3_isSort_57 : decode cX3_isSort 57 = .ok (.bipush 11, 2) := dk_16 11 (dk_at dksX3_isSort_2 10 rfl rfl)
theorem dX3_isSort_59 : decode cX3_isSort 59 = .ok (.if_icmp .ne 15, 3) := dk_160 0 15 (dk_at dksX3_isSort_2 12 rfl rfl)
theorem dX3_isSort_62 : decode cX3_isSort 62 = .ok (.iload_n 0, 1) := dk_26 (dk_at dksX3_isSort_2 15 rfl rfl)
theorem dX3_isSort_63 : decode cX3_isSort 63 = .ok (.bipush 12, 2) := dk_16 12 (dk_at dksX3_isSort_2 16 rfl rfl)
theorem dX3_isSort_65 : decode cX3_isSort 65 = .ok (.if_icmp .eq 21, 3) := dk_159 0 21 (dk_at dksX3_isSort_2 18 rfl rfl)
theorem dX3_isSort_68 : decode cX3_isSort 68 = .ok (.iload_n 0, 1) := dk_26 (dk_at dksX3_isSort_2 21 rfl rfl)
theorem dX3_isSort_69 : decode cX3_isSort 69 = .ok (.bipush 13, 2) := dk_16 13 (dk_at dksX3_isSort_2 22 rfl rfl)
theorem dX3_isSort_71 : decode cX3_isSort 71 = .ok (.if_icmp .eq 15, 3) := dk_159 0 15 (dk_at dksX3_isSort_3 0 rfl rfl)
theorem dX3_isSort_74 : decode cX3_isSort 74 = .ok (.iload_n 1, 1) := dk_27 (dk_at dksX3_isSort_3 3 rfl rfl)
theorem dX3_isSort_75 : decode cX3_isSort 75 = .ok (.bipush 12, 2) := dk_16 12 (dk_at dksX3_isSort_3 4 rfl rfl)
theorem dX3_isSort_77 : decode cX3_isSort 77 = .ok (.if_icmp .ne 13, 3) := dk_160 0 13 (dk_at dksX3_isSort_3 6 rfl rfl)
theorem dX3_isSort_80 : decode cX3_isSort 80 = .ok (.iload_n 0, 1) := dk_26 (dk_at dksX3_isSort_3 9 rfl rfl)
theorem dX3_isSort_81 : decode cX3_isSort 81 = .ok (.bipush 13, 2) := dk_16 13 (dk_at dksX3_isSort_3 10 rfl rfl)
theorem dX3_isSort_83 : decode cX3_isSort 83 = .ok (.if_icmp .ne 7, 3) := dk_160 0 7 (dk_at dksX3_isSort_3 12 rfl rfl)
theorem dX3_isSort_86 : decode cX3_isSort 86 = .ok (.iconst 1, 1) := dk_4 (dk_at dksX3_isSort_3 15 rfl rfl)
theorem dX3_isSort_87 : decode cX3_isSort 87 = .ok (.goto 4, 3) := dk_167 0 4 (dk_at dksX3_isSort_3 16 rfl rfl)
theorem dX3_isSort_90 : decode cX3_isSort 90 = .ok (.iconst 0, 1) := dk_3 (dk_at dksX3_isSort_3 19 rfl rfl)
theorem dX3_isSort_91 : decode cX3_isSort 91 = .ok (.ireturn, 1) := dk_172 (dk_at dksX3_isSort_3 20 rfl rfl)
abbrev cX3_as : ByteArray := prog_11_method_36_code
def yX3_as : MethodName := ⟨RX3, "as", "(II)I"⟩
def dkwX3_as_2 : List UInt8 := [167, 0, 9, 42, 16, 6, 182, 0, 177, 172]
abbrev dktX3_as_2 : List UInt8 := dkwX3_as_2 ++ []
def dkwX3_as_1 : List UInt8 := [182, 0, 187, 153, 0, 19, 42, 42, 27, 182, 0, 187, 182, 0, 63, 28, 184, 0, 190, 153, 0, 7, 4]
abbrev dktX3_as_1 : List UInt8 := dkwX3_as_1 ++ dktX3_as_2
def dkwX3_as_0 : List UInt8 := [42, 182, 0, 174, 28, 3, 16, 17, 184, 0, 67, 154, 0, 9, 42, 4, 182, 0, 177, 172, 42, 27]
abbrev dktX3_as_0 : List UInt8 := dkwX3_as_0 ++ dktX3_as_1
theorem dksX3_as_0 : cX3_as.data.toList.drop 0 = dktX3_as_0 := by decide +kernel
theorem dksX3_as_1 : cX3_as.data.toList.drop 22 = dktX3_as_1 := dk_seg dksX3_as_0 22 rfl rfl
theorem dksX3_as_2 : cX3_as.data.toList.drop 45 = dktX3_as_2 := dk_seg dksX3_as_1 23 rfl rfl
theorem dX3_as_0 : decode cX3_as 0 = .ok (.aload_n 0, 1) := dk_42 (dk_at dksX3_as_0 0 rfl rfl)
theorem dX3_as_1 : decode cX3_as 1 = .ok (.invokevirtual 174, 3) := dk_182 0 174 (dk_at dksX3_as_0 1 rfl rfl)
theorem dX3_as_4 : decode cX3_as 4 = .ok (.iload_n 2, 1) := dk_28 (dk_at dksX3_as_0 4 rfl rfl)
theorem dX3_as_5 : decode cX3_as 5 = .ok (.iconst 0, 1) := dk_3 (dk_at dksX3_as_0 5 rfl rfl)
theorem dX3_as_6 : decode cX3_as 6 = .ok (.bipush 17, 2) := dk_16 17 (dk_at dksX3_as_0 6 rfl rfl)
theorem dX3_as_8 : decode cX3_as 8 = .ok (.invokestatic 67, 3) := dk_184 0 67 (dk_at dksX3_as_0 8 rfl rfl)
theorem dX3_as_11 : decode cX3_as 11 = .ok (.ifCond .ne 9, 3) := dk_154 0 9 (dk_at dksX3_as_0 11 rfl rfl)
theorem dX3_as_14 : decode cX3_as 14 = .ok (.aload_n 0, 1) := dk_42 (dk_at dksX3_as_0 14 rfl rfl)
theorem dX3_as_15 : decode cX3_as 15 = .ok (.iconst 1, 1) := dk_4 (dk_at dksX3_as_0 15 rfl rfl)
theorem dX3_as_16 : decode cX3_as 16 = .ok (.invokevirtual 177, 3) := dk_182 0 177 (dk_at dksX3_as_0 16 rfl rfl)
theorem dX3_as_19 : decode cX3_as 19 = .ok (.ireturn, 1) := dk_172 (dk_at dksX3_as_0 19 rfl rfl)
theorem dX3_as_20 : decode cX3_as 20 = .ok (.aload_n 0, 1) := dk_42 (dk_at dksX3_as_0 20 rfl rfl)
theorem dX3_as_21 : decode cX3_as 21 = .ok (.iload_n 1, 1) := dk_27 (dk_at dksX3_as_0 21 rfl rfl)
theorem dX3_as_22 : decode cX3_as 22 = .ok (.invokevirtual 187, 3) := dk_182 0 187 (dk_at dksX3_as_1 0 rfl rfl)
theorem dX3_as_25 : decode cX3_as 25 = .ok (.ifCond .eq 19, 3) := dk_153 0 19 (dk_at dksX3_as_1 3 rfl rfl)
theorem dX3_as_28 : decode cX3_as 28 = .ok (.aload_n 0, 1) := dk_42 (dk_at dksX3_as_1 6 rfl rfl)
theorem dX3_as_29 : decode cX3_as 29 = .ok (.aload_n 0, 1) := dk_42 (dk_at dksX3_as_1 7 rfl rfl)
theorem dX3_as_30 : decode cX3_as 30 = .ok (.iload_n 1, 1) := dk_27 (dk_at dksX3_as_1 8 rfl rfl)
theorem dX3_as_31 : decode cX3_as 31 = .ok (.invokevirtual 187, 3) := dk_182 0 187 (dk_at dksX3_as_1 9 rfl rfl)
theorem dX3_as_34 : decode cX3_as 34 = .ok (.invokevirtual 63, 3) := dk_182 0 63 (dk_at dksX3_as_1 12 rfl rfl)
theorem dX3_as_37 : decode cX3_as 37 = .ok (.iload_n 2, 1) := dk_28 (dk_at dksX3_as_1 15 rfl rfl)
theorem dX3_as_38 : decode cX3_as 38 = .ok (.invokestatic 190, 3) := dk_184 0 190 (dk_at dksX3_as_1 16 rfl rfl)
theorem dX3_as_41 : decode cX3_as 41 = .ok (.ifCond .eq 7, 3) := dk_153 0 7 (dk_at dksX3_as_1 19 rfl rfl)
theorem dX3_as_44 : decode cX3_as 44 = .ok (.iconst 1, 1) := dk_4 (dk_at dksX3_as_1 22 rfl rfl)
theorem dX3_as_45 : decode cX3_as 45 = .ok (.goto 9, 3) := dk_167 0 9 (dk_at dksX3_as_2 0 rfl rfl)
theorem dX3_as_48 : decode cX3_as 48 = .ok (.aload_n 0, 1) := dk_42 (dk_at dksX3_as_2 3 rfl rfl)
theorem dX3_as_49 : decode cX3_as 49 = .ok (.bipush 6, 2) := dk_16 6 (dk_at dksX3_as_2 4 rfl rfl)
theorem dX3_as_51 : decode cX3_as 51 = .ok (.invokevirtual 177, 3) := dk_182 0 177 (dk_at dksX3_as_2 6 rfl rfl)
theorem dX3_as_54 : decode cX3_as 54 = .ok (.ireturn, 1) := dk_172 (dk_at dksX3_as_2 9 rfl rfl)
abbrev cX3_length : ByteArray := prog_11_method_39_code
def yX3_length : MethodName := ⟨RX3, "length", "(I)I"⟩
def dkwX3_length_1 : List UInt8 := [182, 0, 194, 153, 0, 12, 42, 180, 0, 19, 28, 46, 167, 0, 8, 42, 4, 182, 0, 177, 172]
abbrev dktX3_length_1 : List UInt8 := dkwX3_length_1 ++ []
def dkwX3_length_0 : List UInt8 := [42, 182, 0, 174, 42, 27, 182, 0, 187, 61, 28, 154, 0, 9, 42, 6, 182, 0, 177, 172, 42, 28]
abbrev dktX3_length_0 : List UInt8 := dkwX3_length_0 ++ dktX3_length_1
theorem dksX3_length_0 : cX3_length.data.toList.drop 0 = dktX3_length_0 := by decide +kernel
theorem dksX3_length_1 : cX3_length.data.toList.drop 22 = dktX3_length_1 := dk_seg dksX3_length_0 22 rfl rfl
theorem dX3_length_0 : decode cX3_length 0 = .ok (.aload_n 0, 1) := dk_42 (dk_at dksX3_length_0 0 rfl rfl)
theorem dX3_length_1 : decode cX3_length 1 = .ok (.invokevirtual 174, 3) := dk_182 0 174 (dk_at dksX3_length_0 1 rfl rfl)
theorem dX3_length_4 : decode cX3_length 4 = .ok (.aload_n 0, 1) := dk_42 (dk_at dksX3_length_0 4 rfl rfl)
theorem dX3_length_5 : decode cX3_length 5 = .ok (.iload_n 1, 1) := dk_27 (dk_at dksX3_length_0 5 rfl rfl)
theorem dX3_length_6 : decode cX3_length 6 = .ok (.invokevirtual 187, 3) := dk_182 0 187 (dk_at dksX3_length_0 6 rfl rfl)
theorem dX3_length_9 : decode cX3_length 9 = .ok (.istore_n 2, 1) := dk_61 (dk_at dksX3_length_0 9 rfl rfl)
theorem dX3_length_10 : decode cX3_length 10 = .ok (.iload_n 2, 1) := dk_28 (dk_at dksX3_length_0 10 rfl rfl)
theorem dX3_length_11 : decode cX3_length 11 = .ok (.ifCond .ne 9, 3) := dk_154 0 9 (dk_at dksX3_length_0 11 rfl rfl)
theorem dX3_length_14 : decode cX3_length 14 = .ok (.aload_n 0, 1) := dk_42 (dk_at dksX3_length_0 14 rfl rfl)
theorem dX3_length_15 : decode cX3_length 15 = .ok (.iconst 3, 1) := dk_6 (dk_at dksX3_length_0 15 rfl rfl)
theorem dX3_length_16 : decode cX3_length 16 = .ok (.invokevirtual 177, 3) := dk_182 0 177 (dk_at dksX3_length_0 16 rfl rfl)
theorem dX3_length_19 : decode cX3_length 19 = .ok (.ireturn, 1) := dk_172 (dk_at dksX3_length_0 19 rfl rfl)
theorem dX3_length_20 : decode cX3_length 20 = .ok (.aload_n 0, 1) := dk_42 (dk_at dksX3_length_0 20 rfl rfl)
theorem dX3_length_21 : decode cX3_length 21 = .ok (.iload_n 2, 1) := dk_28 (dk_at dksX3_length_0 21 rfl rfl)
theorem dX3_length_22 : decode cX3_length 22 = .ok (.invokevirtual 194, 3) := dk_182 0 194 (dk_at dksX3_length_1 0 rfl rfl)
theorem dX3_length_25 : decode cX3_length 25 = .ok (.ifCond .eq 12, 3) := dk_153 0 12 (dk_at dksX3_length_1 3 rfl rfl)
theorem dX3_length_28 : decode cX3_length 28 = .ok (.aload_n 0, 1) := dk_42 (dk_at dksX3_length_1 6 rfl rfl)
theorem dX3_length_29 : decode cX3_length 29 = .ok (.getfield 19, 3) := dk_180 0 19 (dk_at dksX3_length_1 7 rfl rfl)
theorem dX3_length_32 : decode cX3_length 32 = .ok (.iload_n 2, 1) := dk_28 (dk_at dksX3_length_1 10 rfl rfl)
theorem dX3_length_33 : decode cX3_length 33 = .ok (.iaload, 1) := dk_46 (dk_at dksX3_length_1 11 rfl rfl)
theorem dX3_length_34 : decode cX3_length 34 = .ok (.goto 8, 3) := dk_167 0 8 (dk_at dksX3_length_1 12 rfl rfl)
theorem dX3_length_37 : decode cX3_length 37 = .ok (.aload_n 0, 1) := dk_42 (dk_at dksX3_length_1 15 rfl rfl)
theorem dX3_length_38 : decode cX3_length 38 = .ok (.iconst 1, 1) := dk_4 (dk_at dksX3_length_1 16 rfl rfl)
theorem dX3_length_39 : decode cX3_length 39 = .ok (.invokevirtual 177, 3) := dk_182 0 177 (dk_at dksX3_length_1 17 rfl rfl)
theorem dX3_length_42 : decode cX3_length 42 = .ok (.ireturn, 1) := dk_172 (dk_at dksX3_length_1 20 rfl rfl)
abbrev cX3_isRow : ByteArray := prog_11_method_37_code
def yX3_isRow : MethodName := ⟨RX3, "isRow", "(I)Z"⟩
def dkwX3_isRow_0 : List UInt8 := [27, 153, 0, 18, 42, 180, 0, 16, 27, 46, 16, 10, 163, 0, 7, 4, 167, 0, 4, 3, 172]
abbrev dktX3_isRow_0 : List UInt8 := dkwX3_isRow_0 ++ []
theorem dksX3_isRow_0 : cX3_isRow.data.toList.drop 0 = dktX3_isRow_0 := by decide +kernel
theorem dX3_isRow_0 : decode cX3_isRow 0 = .ok (.iload_n 1, 1) := dk_27 (dk_at dksX3_isRow_0 0 rfl rfl)
theorem dX3_isRow_1 : decode cX3_isRow 1 = .ok (.ifCond .eq 18, 3) := dk_153 0 18 (dk_at dksX3_isRow_0 1 rfl rfl)
theorem dX3_isRow_4 : decode cX3_isRow 4 = .ok (.aload_n 0, 1) := dk_42 (dk_at dksX3_isRow_0 4 rfl rfl)
theorem dX3_isRow_5 : decode cX3_isRow 5 = .ok (.getfield 16, 3) := dk_180 0 16 (dk_at dksX3_isRow_0 5 rfl rfl)
theorem dX3_isRow_8 : decode cX3_isRow 8 = .ok (.iload_n 1, 1) := dk_27 (dk_at dksX3_isRow_0 8 rfl rfl)
theorem dX3_isRow_9 : decode cX3_isRow 9 = .ok (.iaload, 1) := dk_46 (dk_at dksX3_isRow_0 9 rfl rfl)
theorem dX3_isRow_10 : decode cX3_isRow 10 = .ok (.bipush 10, 2) := dk_16 10 (dk_at dksX3_isRow_0 10 rfl rfl)
theorem dX3_isRow_12 : decode cX3_isRow 12 = .ok (.if_icmp .gt 7, 3) := dk_163 0 7 (dk_at dksX3_isRow_0 12 rfl rfl)
theorem dX3_isRow_15 : decode cX3_isRow 15 = .ok (.iconst 1, 1) := dk_4 (dk_at dksX3_isRow_0 15 rfl rfl)
theorem dX3_isRow_16 : decode cX3_isRow 16 = .ok (.goto 4, 3) := dk_167 0 4 (dk_at dksX3_isRow_0 16 rfl rfl)
theorem dX3_isRow_19 : decode cX3_isRow 19 = .ok (.iconst 0, 1) := dk_3 (dk_at dksX3_isRow_0 19 rfl rfl)
theorem dX3_isRow_20 : decode cX3_isRow 20 = .ok (.ireturn, 1) := dk_172 (dk_at dksX3_isRow_0 20 rfl rfl)
abbrev cX3_get : ByteArray := prog_11_method_41_code
def yX3_get : MethodName := ⟨RX3, "get", "(III)J"⟩
def dkwX3_get_4 : List UInt8 := [182, 0, 71, 184, 0, 207, 173]
abbrev dktX3_get_4 : List UInt8 := dkwX3_get_4 ++ []
def dkwX3_get_3 : List UInt8 := [154, 0, 10, 42, 5, 182, 0, 177, 133, 173, 42, 180, 0, 16, 21, 4, 46, 29, 42, 21, 4, 28]
abbrev dktX3_get_3 : List UInt8 := dkwX3_get_3 ++ dktX3_get_4
def dkwX3_get_2 : List UInt8 := [21, 4, 46, 184, 0, 201, 154, 0, 10, 42, 4, 182, 0, 177, 133, 173, 42, 21, 4, 28, 182, 0, 204]
abbrev dktX3_get_2 : List UInt8 := dkwX3_get_2 ++ dktX3_get_3
def dkwX3_get_1 : List UInt8 := [21, 4, 182, 0, 198, 153, 0, 27, 29, 3, 16, 7, 184, 0, 67, 153, 0, 17, 29, 42, 180, 0, 16]
abbrev dktX3_get_1 : List UInt8 := dkwX3_get_1 ++ dktX3_get_2
def dkwX3_get_0 : List UInt8 := [42, 182, 0, 174, 42, 27, 182, 0, 187, 54, 4, 21, 4, 154, 0, 10, 42, 6, 182, 0, 177, 133, 173, 42]
abbrev dktX3_get_0 : List UInt8 := dkwX3_get_0 ++ dktX3_get_1
theorem dksX3_get_0 : cX3_get.data.toList.drop 0 = dktX3_get_0 := by decide +kernel
theorem dksX3_get_1 : cX3_get.data.toList.drop 24 = dktX3_get_1 := dk_seg dksX3_get_0 24 rfl rfl
theorem dksX3_get_2 : cX3_get.data.toList.drop 47 = dktX3_get_2 := dk_seg dksX3_get_1 23 rfl rfl
theorem dksX3_get_3 : cX3_get.data.toList.drop 70 = dktX3_get_3 := dk_seg dksX3_get_2 23 rfl rfl
theorem dksX3_get_4 : cX3_get.data.toList.drop 92 = dktX3_get_4 := dk_seg dksX3_get_3 22 rfl rfl
theorem dX3_get_0 : decode cX3_get 0 = .ok (.aload_n 0, 1) := dk_42 (dk_at dksX3_get_0 0 rfl rfl)
theorem dX3_get_1 : decode cX3_get 1 = .ok (.invokevirtual 174, 3) := dk_182 0 174 (dk_at dksX3_get_0 1 rfl rfl)
theorem dX3_get_4 : decode cX3_get 4 = .ok (.aload_n 0, 1) := dk_42 (dk_at dksX3_get_0 4 rfl rfl)
theorem dX3_get_5 : decode cX3_get 5 = .ok (.iload_n 1, 1) := dk_27 (dk_at dksX3_get_0 5 rfl rfl)
theorem dX3_get_6 : decode cX3_get 6 = .ok (.invokevirtual 187, 3) := dk_182 0 187 (dk_at dksX3_get_0 6 rfl rfl)
theorem dX3_get_9 : decode cX3_get 9 = .ok (.istore 4, 2) := dk_54 4 (dk_at dksX3_get_0 9 rfl rfl)
theorem dX3_get_11 : decode cX3_get 11 = .ok (.iload 4, 2) := dk_21 4 (dk_at dksX3_get_0 11 rfl rfl)
theorem dX3_get_13 : decode cX3_get 13 = .ok (.ifCond .ne 10, 3) := dk_154 0 10 (dk_at dksX3_get_0 13 rfl rfl)
theorem dX3_get_16 : decode cX3_get 16 = .ok (.aload_n 0, 1) := dk_42 (dk_at dksX3_get_0 16 rfl rfl)
theorem dX3_get_17 : decode cX3_get 17 = .ok (.iconst 3, 1) := dk_6 (dk_at dksX3_get_0 17 rfl rfl)
theorem dX3_get_18 : decode cX3_get 18 = .ok (.invokevirtual 177, 3) := dk_182 0 177 (dk_at dksX3_get_0 18 rfl rfl)
theorem dX3_get_21 : decode cX3_get 21 = .ok (.i2l, 1) := dk_133 (dk_at dksX3_get_0 21 rfl rfl)
theorem dX3_get_22 : decode cX3_get 22 = .ok (.lreturn, 1) := dk_173 (dk_at dksX3_get_0 22 rfl rfl)
theorem dX3_get_23 : decode cX3_get 23 = .ok (.aload_n 0, 1) := dk_42 (dk_at dksX3_get_0 23 rfl rfl)
theorem dX3_get_24 : decode cX3_get 24 = .ok (.iload 4, 2) := dk_21 4 (dk_at dksX3_get_1 0 rfl rfl)
theorem dX3_get_26 : decode cX3_get 26 = .ok (.invokevirtual 198, 3) := dk_182 0 198 (dk_at dksX3_get_1 2 rfl rfl)
theorem dX3_get_29 : decode cX3_get 29 = .ok (.ifCond .eq 27, 3) := dk_153 0 27 (dk_at dksX3_get_1 5 rfl rfl)
theorem dX3_get_32 : decode cX3_get 32 = .ok (.iload_n 3, 1) := dk_29 (dk_at dksX3_get_1 8 rfl rfl)
theorem dX3_get_33 : decode cX3_get 33 = .ok (.iconst 0, 1) := dk_3 (dk_at dksX3_get_1 9 rfl rfl)
theorem dX3_get_34 : decode cX3_get 34 = .ok (.bipush 7, 2) := dk_16 7 (dk_at dksX3_get_1 10 rfl rfl)
theorem dX3_get_36 : decode cX3_get 36 = .ok (.invokestatic 67, 3) := dk_184 0 67 (dk_at dksX3_get_1 12 rfl rfl)
theorem dX3_get_39 : decode cX3_get 39 = .ok (.ifCond .eq 17, 3) := dk_153 0 17 (dk_at dksX3_get_1 15 rfl rfl)
theorem dX3_get_42 : decode cX3_get 42 = .ok (.iload_n 3, 1) := dk_29 (dk_at dksX3_get_1 18 rfl rfl)
theorem dX3_get_43 : decode cX3_get 43 = .ok (.aload_n 0, 1) := dk_42 (dk_at dksX3_get_1 19 rfl rfl)
theorem dX3_get_44 : decode cX3_get 44 = .ok (.getfield 16, 3) := dk_180 0 16 (dk_at dksX3_get_1 20 rfl rfl)
theorem dX3_get_47 : decode cX3_get 47 = .ok (.iload 4, 2) := dk_21 4 (dk_at dksX3_get_2 0 rfl rfl)
theorem dX3_get_49 : decode cX3_get 49 = .ok (.iaload, 1) := dk_46 (dk_at dksX3_get_2 2 rfl rfl)
theorem dX3_get_50 : decode cX3_get 50 = .ok (.invokestatic 201, 3) := dk_184 0 201 (dk_at dksX3_get_2 3 rfl rfl)
theorem dX3_get_53 : decode cX3_get 53 = .ok (.ifCond .ne 10, 3) := dk_154 0 10 (dk_at dksX3_get_2 6 rfl rfl)
theorem dX3_get_56 : decode cX3_get 56 = .ok (.aload_n 0, 1) := dk_42 (dk_at dksX3_get_2 9 rfl rfl)
theorem dX3_get_57 : decode cX3_get 57 = .ok (.iconst 1, 1) := dk_4 (dk_at dksX3_get_2 10 rfl rfl)
theorem dX3_get_58 : decode cX3_get 58 = .ok (.invokevirtual 177, 3) := dk_182 0 177 (dk_at dksX3_get_2 11 rfl rfl)
theorem dX3_get_61 : decode cX3_get 61 = .ok (.i2l, 1) := dk_133 (dk_at dksX3_get_2 14 rfl rfl)
theorem dX3_get_62 : decode cX3_get 62 = .ok (.lreturn, 1) := dk_173 (dk_at dksX3_get_2 15 rfl rfl)
theorem dX3_get_63 : decode cX3_get 63 = .ok (.aload_n 0, 1) := dk_42 (dk_at dksX3_get_2 16 rfl rfl)
theorem dX3_get_64 : decode cX3_get 64 = .ok (.iload 4, 2) := dk_21 4 (dk_at dksX3_get_2 17 rfl rfl)
theorem dX3_get_66 : decode cX3_get 66 = .ok (.iload_n 2, 1) := dk_28 (dk_at dksX3_get_2 19 rfl rfl)
theorem dX3_get_67 : decode cX3_get 67 = .ok (.invokevirtual 204, 3) := dk_182 0 204 (dk_at dksX3_get_2 20 rfl rfl)
theorem dX3_get_70 : decode cX3_get 70 = .ok (.ifCond .ne 10, 3) := dk_154 0 10 (dk_at dksX3_get_3 0 rfl rfl)
theorem dX3_get_73 : decode cX3_get 73 = .ok (.aload_n 0, 1) := dk_42 (dk_at dksX3_get_3 3 rfl rfl)
theorem dX3_get_74 : decode cX3_get 74 = .ok (.iconst 2, 1) := dk_5 (dk_at dksX3_get_3 4 rfl rfl)
theorem dX3_get_75 : decode cX3_get 75 = .ok (.invokevirtual 177, 3) := dk_182 0 177 (dk_at dksX3_get_3 5 rfl rfl)
theorem dX3_get_78 : decode cX3_get 78 = .ok (.i2l, 1) := dk_133 (dk_at dksX3_get_3 8 rfl rfl)
theorem dX3_get_79 : decode cX3_get 79 = .ok (.lreturn, 1) := dk_173 (dk_at dksX3_get_3 9 rfl rfl)
theorem dX3_get_80 : decode cX3_get 80 = .ok (.aload_n 0, 1) := dk_42 (dk_at dksX3_get_3 10 rfl rfl)
theorem dX3_get_81 : decode cX3_get 81 = .ok (.getfield 16, 3) := dk_180 0 16 (dk_at dksX3_get_3 11 rfl rfl)
theorem dX3_get_84 : decode cX3_get 84 = .ok (.iload 4, 2) := dk_21 4 (dk_at dksX3_get_3 14 rfl rfl)
theorem dX3_get_86 : decode cX3_get 86 = .ok (.iaload, 1) := dk_46 (dk_at dksX3_get_3 16 rfl rfl)
theorem dX3_get_87 : decode cX3_get 87 = .ok (.iload_n 3, 1) := dk_29 (dk_at dksX3_get_3 17 rfl rfl)
theorem dX3_get_88 : decode cX3_get 88 = .ok (.aload_n 0, 1) := dk_42 (dk_at dksX3_get_3 18 rfl rfl)
theorem dX3_get_89 : decode cX3_get 89 = .ok (.iload 4, 2) := dk_21 4 (dk_at dksX3_get_3 19 rfl rfl)
theorem dX3_get_91 : decode cX3_get 91 = .ok (.iload_n 2, 1) := dk_28 (dk_at dksX3_get_3 21 rfl rfl)
theorem dX3_get_92 : decode cX3_get 92 = .ok (.invokevirtual 71, 3) := dk_182 0 71 (dk_at dksX3_get_4 0 rfl rfl)
theorem dX3_get_95 : decode cX3_get 95 = .ok (.invokestatic 207, 3) := dk_184 0 207 (dk_at dksX3_get_4 3 rfl rfl)
theorem dX3_get_98 : decode cX3_get 98 = .ok (.lreturn, 1) := dk_173 (dk_at dksX3_get_4 6 rfl rfl)
abbrev cX3_hasNumbers : ByteArray := prog_11_method_38_code
def yX3_hasNumbers : MethodName := ⟨RX3, "hasNumbers", "(I)Z"⟩
def dkwX3_hasNumbers_0 : List UInt8 := [27, 153, 0, 18, 42, 180, 0, 16, 27, 46, 16, 7, 163, 0, 7, 4, 167, 0, 4, 3, 172]
abbrev dktX3_hasNumbers_0 : List UInt8 := dkwX3_hasNumbers_0 ++ []
theorem dksX3_hasNumbers_0 : cX3_hasNumbers.data.toList.drop 0 = dktX3_hasNumbers_0 := by decide +kernel
theorem dX3_hasNumbers_0 : decode cX3_hasNumbers 0 = .ok (.iload_n 1, 1) := dk_27 (dk_at dksX3_hasNumbers_0 0 rfl rfl)
theorem dX3_hasNumbers_1 : decode cX3_hasNumbers 1 = .ok (.ifCond .eq 18, 3) := dk_153 0 18 (dk_at dksX3_hasNumbers_0 1 rfl rfl)
theorem dX3_hasNumbers_4 : decode cX3_hasNumbers 4 = .ok (.aload_n 0, 1) := dk_42 (dk_at dksX3_hasNumbers_0 4 rfl rfl)
theorem dX3_hasNumbers_5 : decode cX3_hasNumbers 5 = .ok (.getfield 16, 3) := dk_180 0 16 (dk_at dksX3_hasNumbers_0 5 rfl rfl)
theorem dX3_hasNumbers_8 : decode cX3_hasNumbers 8 = .ok (.iload_n 1, 1) := dk_27 (dk_at dksX3_hasNumbers_0 8 rfl rfl)
theorem dX3_hasNumbers_9 : decode cX3_hasNumbers 9 = .ok (.iaload, 1) := dk_46 (dk_at dksX3_hasNumbers_0 9 rfl rfl)
theorem dX3_hasNumbers_10 : decode cX3_hasNumbers 10 = .ok (.bipush 7, 2) := dk_16 7 (dk_at dksX3_hasNumbers_0 10 rfl rfl)
theorem dX3_hasNumbers_12 : decode cX3_hasNumbers 12 = .ok (.if_icmp .gt 7, 3) := dk_163 0 7 (dk_at dksX3_hasNumbers_0 12 rfl rfl)
theorem dX3_hasNumbers_15 : decode cX3_hasNumbers 15 = .ok (.iconst 1, 1) := dk_4 (dk_at dksX3_hasNumbers_0 15 rfl rfl)
theorem dX3_hasNumbers_16 : decode cX3_hasNumbers 16 = .ok (.goto 4, 3) := dk_167 0 4 (dk_at dksX3_hasNumbers_0 16 rfl rfl)
theorem dX3_hasNumbers_19 : decode cX3_hasNumbers 19 = .ok (.iconst 0, 1) := dk_3 (dk_at dksX3_hasNumbers_0 19 rfl rfl)
theorem dX3_hasNumbers_20 : decode cX3_hasNumbers 20 = .ok (.ireturn, 1) := dk_172 (dk_at dksX3_hasNumbers_0 20 rfl rfl)
abbrev cX3_isWider : ByteArray := prog_11_method_26_code
def yX3_isWider : MethodName := ⟨RX3, "isWider", "(II)Z"⟩
def dkwX3_isWider_3 : List UInt8 := [167, 0, 4, 3, 172]
abbrev dktX3_isWider_3 : List UInt8 := dkwX3_isWider_3 ++ []
def dkwX3_isWider_2 : List UInt8 := [160, 0, 16, 26, 7, 161, 0, 7, 4, 167, 0, 17, 3, 167, 0, 13, 26, 27, 164, 0, 7, 4]
abbrev dktX3_isWider_2 : List UInt8 := dkwX3_isWider_2 ++ dktX3_isWider_3
def dkwX3_isWider_1 : List UInt8 := [159, 0, 8, 26, 7, 161, 0, 7, 4, 167, 0, 40, 3, 167, 0, 36, 27, 5, 159, 0, 8, 27, 6]
abbrev dktX3_isWider_1 : List UInt8 := dkwX3_isWider_1 ++ dktX3_isWider_2
def dkwX3_isWider_0 : List UInt8 := [26, 27, 160, 0, 5, 4, 172, 26, 153, 0, 7, 27, 154, 0, 5, 3, 172, 27, 4, 160, 0, 21, 26, 6]
abbrev dktX3_isWider_0 : List UInt8 := dkwX3_isWider_0 ++ dktX3_isWider_1
theorem dksX3_isWider_0 : cX3_isWider.data.toList.drop 0 = dktX3_isWider_0 := by decide +kernel
theorem dksX3_isWider_1 : cX3_isWider.data.toList.drop 24 = dktX3_isWider_1 := dk_seg dksX3_isWider_0 24 rfl rfl
theorem dksX3_isWider_2 : cX3_isWider.data.toList.drop 47 = dktX3_isWider_2 := dk_seg dksX3_isWider_1 23 rfl rfl
theorem dksX3_isWider_3 : cX3_isWider.data.toList.drop 69 = dktX3_isWider_3 := dk_seg dksX3_isWider_2 22 rfl rfl
theorem dX3_isWider_0 : decode cX3_isWider 0 = .ok (.iload_n 0, 1) := dk_26 (dk_at dksX3_isWider_0 0 rfl rfl)
theorem dX3_isWider_1 : decode cX3_isWider 1 = .ok (.iload_n 1, 1) := dk_27 (dk_at dksX3_isWider_0 1 rfl rfl)
theorem dX3_isWider_2 : decode cX3_isWider 2 = .ok (.if_icmp .ne 5, 3) := dk_160 0 5 (dk_at dksX3_isWider_0 2 rfl rfl)
theorem dX3_isWider_5 : decode cX3_isWider 5 = .ok (.iconst 1, 1) := dk_4 (dk_at dksX3_isWider_0 5 rfl rfl)
theorem dX3_isWider_6 : decode cX3_isWider 6 = .ok (.ireturn, 1) := dk_172 (dk_at dksX3_isWider_0 6 rfl rfl)
theorem dX3_isWider_7 : decode cX3_isWider 7 = .ok (.iload_n 0, 1) := dk_26 (dk_at dksX3_isWider_0 7 rfl rfl)
theorem dX3_isWider_8 : decode cX3_isWider 8 = .ok (.ifCond .eq 7, 3) := dk_153 0 7 (dk_at dksX3_isWider_0 8 rfl rfl)
theorem dX3_isWider_11 : decode cX3_isWider 11 = .ok (.iload_n 1, 1) := dk_27 (dk_at dksX3_isWider_0 11 rfl rfl)
theorem dX3_isWider_12 : decode cX3_isWider 12 = .ok (.ifCond .ne 5, 3) := dk_154 0 5 (dk_at dksX3_isWider_0 12 rfl rfl)
theorem dX3_isWider_15 : decode cX3_isWider 15 = .ok (.iconst 0, 1) := dk_3 (dk_at dksX3_isWider_0 15 rfl rfl)
theorem dX3_isWider_16 : decode cX3_isWider 16 = .ok (.ireturn, 1) := dk_172 (dk_at dksX3_isWider_0 16 rfl rfl)
theorem dX3_isWider_17 : decode cX3_isWider 17 = .ok (.iload_n 1, 1) := dk_27 (dk_at dksX3_isWider_0 17 rfl rfl)
theorem dX3_isWider_18 : decode cX3_isWider 18 = .ok (.iconst 1, 1) := dk_4 (dk_at dksX3_isWider_0 18 rfl rfl)
theorem dX3_isWider_19 : decode cX3_isWider 19 = .ok (.if_icmp .ne 21, 3) := dk_160 0 21 (dk_at dksX3_isWider_0 19 rfl rfl)
theorem dX3_isWider_22 : decode cX3_isWider 22 = .ok (.iload_n 0, 1) := dk_26 (dk_at dksX3_isWider_0 22 rfl rfl)
theorem dX3_isWider_23 : decode cX3_isWider 23 = .ok (.iconst 3, 1) := dk_6 (dk_at dksX3_isWider_0 23 rfl rfl)
theorem dX3_isWider_24 : decode cX3_isWider 24 = .ok (.if_icmp .eq 8, 3) := dk_159 0 8 (dk_at dksX3_isWider_1 0 rfl rfl)
theorem dX3_isWider_27 : decode cX3_isWider 27 = .ok (.iload_n 0, 1) := dk_26 (dk_at dksX3_isWider_1 3 rfl rfl)
theorem dX3_isWider_28 : decode cX3_isWider 28 = .ok (.iconst 4, 1) := dk_7 (dk_at dksX3_isWider_1 4 rfl rfl)
theorem dX3_isWider_29 : decode cX3_isWider 29 = .ok (.if_icmp .lt 7, 3) := dk_161 0 7 (dk_at dksX3_isWider_1 5 rfl rfl)
theorem dX3_isWider_32 : decode cX3_isWider 32 = .ok (.iconst 1, 1) := dk_4 (dk_at dksX3_isWider_1 8 rfl rfl)
theorem dX3_isWider_33 : decode cX3_isWider 33 = .ok (.goto 40, 3) := dk_167 0 40 (dk_at dksX3_isWider_1 9 rfl rfl)
theorem dX3_isWider_36 : decode cX3_isWider 36 = .ok (.iconst 0, 1) := dk_3 (dk_at dksX3_isWider_1 12 rfl rfl)
theorem dX3_isWider_37 : decode cX3_isWider 37 = .ok (.goto 36, 3) := dk_167 0 36 (dk_at dksX3_isWider_1 13 rfl rfl)
theorem dX3_isWider_40 : decode cX3_isWider 40 = .ok (.iload_n 1, 1) := dk_27 (dk_at dksX3_isWider_1 16 rfl rfl)
theorem dX3_isWider_41 : decode cX3_isWider 41 = .ok (.iconst 2, 1) := dk_5 (dk_at dksX3_isWider_1 17 rfl rfl)
theorem dX3_isWider_42 : decode cX3_isWider 42 = .ok (.if_icmp .eq 8, 3) := dk_159 0 8 (dk_at dksX3_isWider_1 18 rfl rfl)
theorem dX3_isWider_45 : decode cX3_isWider 45 = .ok (.iload_n 1, 1) := dk_27 (dk_at dksX3_isWider_1 21 rfl rfl)
theorem dX3_isWider_46 : decode cX3_isWider 46 = .ok (.iconst 3, 1) := dk_6 (dk_at dksX3_isWider_1 22 rfl rfl)
theorem dX3_isWider_47 : decode cX3_isWider 47 = .ok (.if_icmp .ne 16, 3) := dk_160 0 16 (dk_at dksX3_isWider_2 0 rfl rfl)
theorem dX3_isWider_50 : decode cX3_isWider 50 = .ok (.iload_n 0, 1) := dk_26 (dk_at dksX3_isWider_2 3 rfl rfl)
theorem dX3_isWider_51 : decode cX3_isWider 51 = .ok (.iconst 4, 1) := dk_7 (dk_at dksX3_isWider_2 4 rfl rfl)
theorem dX3_isWider_52 : decode cX3_isWider 52 = .ok (.if_icmp .lt 7, 3) := dk_161 0 7 (dk_at dksX3_isWider_2 5 rfl rfl)
theorem dX3_isWider_55 : decode cX3_isWider 55 = .ok (.iconst 1, 1) := dk_4 (dk_at dksX3_isWider_2 8 rfl rfl)
theorem dX3_isWider_56 : decode cX3_isWider 56 = .ok (.goto 17, 3) := dk_167 0 17 (dk_at dksX3_isWider_2 9 rfl rfl)
theorem dX3_isWider_59 : decode cX3_isWider 59 = .ok (.iconst 0, 1) := dk_3 (dk_at dksX3_isWider_2 12 rfl rfl)
theorem dX3_isWider_60 : decode cX3_isWider 60 = .ok (.goto 13, 3) := dk_167 0 13 (dk_at dksX3_isWider_2 13 rfl rfl)
theorem dX3_isWider_63 : decode cX3_isWider 63 = .ok (.iload_n 0, 1) := dk_26 (dk_at dksX3_isWider_2 16 rfl rfl)
theorem dX3_isWider_64 : decode cX3_isWider 64 = .ok (.iload_n 1, 1) := dk_27 (dk_at dksX3_isWider_2 17 rfl rfl)
theorem dX3_isWider_65 : decode cX3_isWider 65 = .ok (.if_icmp .le 7, 3) := dk_164 0 7 (dk_at dksX3_isWider_2 18 rfl rfl)
theorem dX3_isWider_68 : decode cX3_isWider 68 = .ok (.iconst 1, 1) := dk_4 (dk_at dksX3_isWider_2 21 rfl rfl)
theorem dX3_isWider_69 : decode cX3_isWider 69 = .ok (.goto 4, 3) := dk_167 0 4 (dk_at dksX3_isWider_3 0 rfl rfl)
theorem dX3_isWider_72 : decode cX3_isWider 72 = .ok (.iconst 0, 1) := dk_3 (dk_at dksX3_isWider_3 3 rfl rfl)
theorem dX3_isWider_73 : decode cX3_isWider 73 = .ok (.ireturn, 1) := dk_172 (dk_at dksX3_isWider_3 4 rfl rfl)
abbrev cX3_has : ByteArray := prog_11_method_40_code
def yX3_has : MethodName := ⟨RX3, "has", "(II)Z"⟩
def dkwX3_has_0 : List UInt8 := [28, 155, 0, 17, 28, 42, 180, 0, 19, 27, 46, 162, 0, 7, 4, 167, 0, 4, 3, 172]
abbrev dktX3_has_0 : List UInt8 := dkwX3_has_0 ++ []
theorem dksX3_has_0 : cX3_has.data.toList.drop 0 = dktX3_has_0 := by decide +kernel
theorem dX3_has_0 : decode cX3_has 0 = .ok (.iload_n 2, 1) := dk_28 (dk_at dksX3_has_0 0 rfl rfl)
theorem dX3_has_1 : decode cX3_has 1 = .ok (.ifCond .lt 17, 3) := dk_155 0 17 (dk_at dksX3_has_0 1 rfl rfl)
theorem dX3_has_4 : decode cX3_has 4 = .ok (.iload_n 2, 1) := dk_28 (dk_at dksX3_has_0 4 rfl rfl)
theorem dX3_has_5 : decode cX3_has 5 = .ok (.aload_n 0, 1) := dk_42 (dk_at dksX3_has_0 5 rfl rfl)
theorem dX3_has_6 : decode cX3_has 6 = .ok (.getfield 19, 3) := dk_180 0 19 (dk_at dksX3_has_0 6 rfl rfl)
theorem dX3_has_9 : decode cX3_has 9 = .ok (.iload_n 1, 1) := dk_27 (dk_at dksX3_has_0 9 rfl rfl)
theorem dX3_has_10 : decode cX3_has 10 = .ok (.iaload, 1) := dk_46 (dk_at dksX3_has_0 10 rfl rfl)
theorem dX3_has_11 : decode cX3_has 11 = .ok (.if_icmp .ge 7, 3) := dk_162 0 7 (dk_at dksX3_has_0 11 rfl rfl)
theorem dX3_has_14 : decode cX3_has 14 = .ok (.iconst 1, 1) := dk_4 (dk_at dksX3_has_0 14 rfl rfl)
theorem dX3_has_15 : decode cX3_has 15 = .ok (.goto 4, 3) := dk_167 0 4 (dk_at dksX3_has_0 15 rfl rfl)
theorem dX3_has_18 : decode cX3_has 18 = .ok (.iconst 0, 1) := dk_3 (dk_at dksX3_has_0 18 rfl rfl)
theorem dX3_has_19 : decode cX3_has 19 = .ok (.ireturn, 1) := dk_172 (dk_at dksX3_has_0 19 rfl rfl)
abbrev cX3_cast : ByteArray := prog_11_method_22_code
def yX3_cast : MethodName := ⟨RX3, "cast", "(IIJ)J"⟩
def dkwX3_cast_2 : List UInt8 := [184, 0, 147, 184, 0, 151, 173, 27, 32, 184, 0, 155, 184, 0, 159, 173]
abbrev dktX3_cast_2 : List UInt8 := dkwX3_cast_2 ++ []
def dkwX3_cast_1 : List UInt8 := [26, 16, 7, 160, 0, 11, 27, 16, 7, 160, 0, 5, 32, 173, 26, 16, 6, 160, 0, 13, 27, 32, 136]
abbrev dktX3_cast_1 : List UInt8 := dkwX3_cast_1 ++ dktX3_cast_2
def dkwX3_cast_0 : List UInt8 := [26, 16, 6, 162, 0, 9, 27, 32, 184, 0, 143, 173, 26, 16, 6, 160, 0, 9, 27, 16, 6, 159, 0, 15]
abbrev dktX3_cast_0 : List UInt8 := dkwX3_cast_0 ++ dktX3_cast_1
theorem dksX3_cast_0 : cX3_cast.data.toList.drop 0 = dktX3_cast_0 := by decide +kernel
theorem dksX3_cast_1 : cX3_cast.data.toList.drop 24 = dktX3_cast_1 := dk_seg dksX3_cast_0 24 rfl rfl
theorem dksX3_cast_2 : cX3_cast.data.toList.drop 47 = dktX3_cast_2 := dk_seg dksX3_cast_1 23 rfl rfl
theorem dX3_cast_0 : decode cX3_cast 0 = .ok (.iload_n 0, 1) := dk_26 (dk_at dksX3_cast_0 0 rfl rfl)
theorem dX3_cast_1 : decode cX3_cast 1 = .ok (.bipush 6, 2) := dk_16 6 (dk_at dksX3_cast_0 1 rfl rfl)
theorem dX3_cast_3 : decode cX3_cast 3 = .ok (.if_icmp .ge 9, 3) := dk_162 0 9 (dk_at dksX3_cast_0 3 rfl rfl)
theorem dX3_cast_6 : decode cX3_cast 6 = .ok (.iload_n 1, 1) := dk_27 (dk_at dksX3_cast_0 6 rfl rfl)
theorem dX3_cast_7 : decode cX3_cast 7 = .ok (.lload_n 2, 1) := dk_32 (dk_at dksX3_cast_0 7 rfl rfl)
theorem dX3_cast_8 : decode cX3_cast 8 = .ok (.invokestatic 143, 3) := dk_184 0 143 (dk_at dksX3_cast_0 8 rfl rfl)
theorem dX3_cast_11 : decode cX3_cast 11 = .ok (.lreturn, 1) := dk_173 (dk_at dksX3_cast_0 11 rfl rfl)
theorem dX3_cast_12 : decode cX3_cast 12 = .ok (.iload_n 0, 1) := dk_26 (dk_at dksX3_cast_0 12 rfl rfl)
theorem dX3_cast_13 : decode cX3_cast 13 = .ok (.bipush 6, 2) := dk_16 6 (dk_at dksX3_cast_0 13 rfl rfl)
theorem dX3_cast_15 : decode cX3_cast 15 = .ok (.if_icmp .ne 9, 3) := dk_160 0 9 (dk_at dksX3_cast_0 15 rfl rfl)
theorem dX3_cast_18 : decode cX3_cast 18 = .ok (.iload_n 1, 1) := dk_27 (dk_at dksX3_cast_0 18 rfl rfl)
theorem dX3_cast_19 : decode cX3_cast 19 = .ok (.bipush 6, 2) := dk_16 6 (dk_at dksX3_cast_0 19 rfl rfl)
theorem dX3_cast_21 : decode cX3_cast 21 = .ok (.if_icmp .eq 15, 3) := dk_159 0 15 (dk_at dksX3_cast_0 21 rfl rfl)
theorem dX3_cast_24 : decode cX3_cast 24 = .ok (.iload_n 0, 1) := dk_26 (dk_at dksX3_cast_1 0 rfl rfl)
theorem dX3_cast_25 : decode cX3_cast 25 = .ok (.bipush 7, 2) := dk_16 7 (dk_at dksX3_cast_1 1 rfl rfl)
theorem dX3_cast_27 : decode cX3_cast 27 = .ok (.if_icmp .ne 11, 3) := dk_160 0 11 (dk_at dksX3_cast_1 3 rfl rfl)
theorem dX3_cast_30 : decode cX3_cast 30 = .ok (.iload_n 1, 1) := dk_27 (dk_at dksX3_cast_1 6 rfl rfl)
theorem dX3_cast_31 : decode cX3_cast 31 = .ok (.bipush 7, 2) := dk_16 7 (dk_at dksX3_cast_1 7 rfl rfl)
theorem dX3_cast_33 : decode cX3_cast 33 = .ok (.if_icmp .ne 5, 3) := dk_160 0 5 (dk_at dksX3_cast_1 9 rfl rfl)
theorem dX3_cast_36 : decode cX3_cast 36 = .ok (.lload_n 2, 1) := dk_32 (dk_at dksX3_cast_1 12 rfl rfl)
theorem dX3_cast_37 : decode cX3_cast 37 = .ok (.lreturn, 1) := dk_173 (dk_at dksX3_cast_1 13 rfl rfl)
theorem dX3_cast_38 : decode cX3_cast 38 = .ok (.iload_n 0, 1) := dk_26 (dk_at dksX3_cast_1 14 rfl rfl)
theorem dX3_cast_39 : decode cX3_cast 39 = .ok (.bipush 6, 2) := dk_16 6 (dk_at dksX3_cast_1 15 rfl rfl)
theorem dX3_cast_41 : decode cX3_cast 41 = .ok (.if_icmp .ne 13, 3) := dk_160 0 13 (dk_at dksX3_cast_1 17 rfl rfl)
theorem dX3_cast_44 : decode cX3_cast 44 = .ok (.iload_n 1, 1) := dk_27 (dk_at dksX3_cast_1 20 rfl rfl)
theorem dX3_cast_45 : decode cX3_cast 45 = .ok (.lload_n 2, 1) := dk_32 (dk_at dksX3_cast_1 21 rfl rfl)
theorem dX3_cast_46 : decode cX3_cast 46 = .ok (.l2i, 1) := dk_136 (dk_at dksX3_cast_1 22 rfl rfl)
theorem dX3_cast_47 : decode cX3_cast 47 = .ok (.invokestatic 147, 3) := dk_184 0 147 (dk_at dksX3_cast_2 0 rfl rfl)
theorem dX3_cast_50 : decode cX3_cast 50 = .ok (.invokestatic 151, 3) := dk_184 0 151 (dk_at dksX3_cast_2 3 rfl rfl)
theorem dX3_cast_53 : decode cX3_cast 53 = .ok (.lreturn, 1) := dk_173 (dk_at dksX3_cast_2 6 rfl rfl)
theorem dX3_cast_54 : decode cX3_cast 54 = .ok (.iload_n 1, 1) := dk_27 (dk_at dksX3_cast_2 7 rfl rfl)
theorem dX3_cast_55 : decode cX3_cast 55 = .ok (.lload_n 2, 1) := dk_32 (dk_at dksX3_cast_2 8 rfl rfl)
theorem dX3_cast_56 : decode cX3_cast 56 = .ok (.invokestatic 155, 3) := dk_184 0 155 (dk_at dksX3_cast_2 9 rfl rfl)
theorem dX3_cast_59 : decode cX3_cast 59 = .ok (.invokestatic 159, 3) := dk_184 0 159 (dk_at dksX3_cast_2 12 rfl rfl)
theorem dX3_cast_62 : decode cX3_cast 62 = .ok (.lreturn, 1) := dk_173 (dk_at dksX3_cast_2 15 rfl rfl)
abbrev cX3_castWhole : ByteArray := prog_11_method_23_code
def yX3_castWhole : MethodName := ⟨RX3, "castWhole", "(IJ)J"⟩
def dkwX3_castWhole_1 : List UInt8 := [184, 0, 167, 167, 0, 8, 26, 31, 184, 0, 171, 173]
abbrev dktX3_castWhole_1 : List UInt8 := dkwX3_castWhole_1 ++ []
def dkwX3_castWhole_0 : List UInt8 := [26, 16, 6, 160, 0, 12, 31, 137, 184, 0, 163, 133, 167, 0, 22, 26, 16, 7, 160, 0, 11, 31, 138]
abbrev dktX3_castWhole_0 : List UInt8 := dkwX3_castWhole_0 ++ dktX3_castWhole_1
theorem dksX3_castWhole_0 : cX3_castWhole.data.toList.drop 0 = dktX3_castWhole_0 := by decide +kernel
theorem dksX3_castWhole_1 : cX3_castWhole.data.toList.drop 23 = dktX3_castWhole_1 := dk_seg dksX3_castWhole_0 23 rfl rfl
theorem dX3_castWhole_0 : decode cX3_castWhole 0 = .ok (.iload_n 0, 1) := dk_26 (dk_at dksX3_castWhole_0 0 rfl rfl)
theorem dX3_castWhole_1 : decode cX3_castWhole 1 = .ok (.bipush 6, 2) := dk_16 6 (dk_at dksX3_castWhole_0 1 rfl rfl)
theorem dX3_castWhole_3 : decode cX3_castWhole 3 = .ok (.if_icmp .ne 12, 3) := dk_160 0 12 (dk_at dksX3_castWhole_0 3 rfl rfl)
theorem dX3_castWhole_6 : decode cX3_castWhole 6 = .ok (.lload_n 1, 1) := dk_31 (dk_at dksX3_castWhole_0 6 rfl rfl)
theorem dX3_castWhole_7 : decode cX3_castWhole 7 = .ok (.l2f, 1) := dk_137 (dk_at dksX3_castWhole_0 7 rfl rfl)
theorem dX3_castWhole_8 : decode cX3_castWhole 8 = .ok (.invokestatic 163, 3) := dk_184 0 163 (dk_at dksX3_castWhole_0 8 rfl rfl)
theorem dX3_castWhole_11 : decode cX3_castWhole 11 = .ok (.i2l, 1) := dk_133 (dk_at dksX3_castWhole_0 11 rfl rfl)
theorem dX3_castWhole_12 : decode cX3_castWhole 12 = .ok (.goto 22, 3) := dk_167 0 22 (dk_at dksX3_castWhole_0 12 rfl rfl)
theorem dX3_castWhole_15 : decode cX3_castWhole 15 = .ok (.iload_n 0, 1) := dk_26 (dk_at dksX3_castWhole_0 15 rfl rfl)
theorem dX3_castWhole_16 : decode cX3_castWhole 16 = .ok (.bipush 7, 2) := dk_16 7 (dk_at dksX3_castWhole_0 16 rfl rfl)
theorem dX3_castWhole_18 : decode cX3_castWhole 18 = .ok (.if_icmp .ne 11, 3) := dk_160 0 11 (dk_at dksX3_castWhole_0 18 rfl rfl)
theorem dX3_castWhole_21 : decode cX3_castWhole 21 = .ok (.lload_n 1, 1) := dk_31 (dk_at dksX3_castWhole_0 21 rfl rfl)
theorem dX3_castWhole_22 : decode cX3_castWhole 22 = .ok (.l2d, 1) := dk_138 (dk_at dksX3_castWhole_0 22 rfl rfl)
theorem dX3_castWhole_23 : decode cX3_castWhole 23 = .ok (.invokestatic 167, 3) := dk_184 0 167 (dk_at dksX3_castWhole_1 0 rfl rfl)
theorem dX3_castWhole_26 : decode cX3_castWhole 26 = .ok (.goto 8, 3) := dk_167 0 8 (dk_at dksX3_castWhole_1 3 rfl rfl)
theorem dX3_castWhole_29 : decode cX3_castWhole 29 = .ok (.iload_n 0, 1) := dk_26 (dk_at dksX3_castWhole_1 6 rfl rfl)
theorem dX3_castWhole_30 : decode cX3_castWhole 30 = .ok (.lload_n 1, 1) := dk_31 (dk_at dksX3_castWhole_1 7 rfl rfl)
theorem dX3_castWhole_31 : decode cX3_castWhole 31 = .ok (.invokestatic 171, 3) := dk_184 0 171 (dk_at dksX3_castWhole_1 8 rfl rfl)
theorem dX3_castWhole_34 : decode cX3_castWhole 34 = .ok (.lreturn, 1) := dk_173 (dk_at dksX3_castWhole_1 11 rfl rfl)
abbrev cX3_bitsOfSingle : ByteArray := prog_11_method_20_code
def yX3_bitsOfSingle : MethodName := ⟨RX3, "bitsOfSingle", "(F)I"⟩
def dkwX3_bitsOfSingle_6 : List UInt8 := [16, 23, 120, 128, 24, 4, 142, 18, 105, 126, 128, 172]
abbrev dktX3_bitsOfSingle_6 : List UInt8 := dkwX3_bitsOfSingle_6 ++ []
def dkwX3_bitsOfSingle_5 : List UInt8 := [156, 0, 17, 24, 4, 20, 0, 83, 107, 57, 4, 132, 6, 255, 167, 255, 236, 29, 21, 6, 17, 0, 150, 96]
abbrev dktX3_bitsOfSingle_5 : List UInt8 := dkwX3_bitsOfSingle_5 ++ dktX3_bitsOfSingle_6
def dkwX3_bitsOfSingle_4 : List UInt8 := [151, 155, 0, 17, 24, 4, 20, 0, 81, 107, 57, 4, 132, 6, 1, 167, 255, 236, 24, 4, 20, 0, 131, 152]
abbrev dktX3_bitsOfSingle_4 : List UInt8 := dkwX3_bitsOfSingle_4 ++ dktX3_bitsOfSingle_5
def dkwX3_bitsOfSingle_3 : List UInt8 := [156, 0, 16, 29, 24, 4, 17, 0, 149, 184, 0, 85, 107, 142, 128, 172, 3, 54, 6, 24, 4, 20, 0, 129]
abbrev dktX3_bitsOfSingle_3 : List UInt8 := dkwX3_bitsOfSingle_3 ++ dktX3_bitsOfSingle_4
def dkwX3_bitsOfSingle_2 : List UInt8 := [172, 24, 4, 20, 0, 97, 151, 154, 0, 8, 29, 18, 128, 128, 172, 24, 4, 16, 130, 184, 0, 85, 152]
abbrev dktX3_bitsOfSingle_2 : List UInt8 := dkwX3_bitsOfSingle_2 ++ dktX3_bitsOfSingle_3
def dkwX3_bitsOfSingle_1 : List UInt8 := [3, 62, 39, 14, 152, 156, 0, 8, 39, 119, 167, 0, 4, 39, 57, 4, 24, 4, 14, 151, 154, 0, 5, 29]
abbrev dktX3_bitsOfSingle_1 : List UInt8 := dkwX3_bitsOfSingle_1 ++ dktX3_bitsOfSingle_2
def dkwX3_bitsOfSingle_0 : List UInt8 := [34, 34, 149, 153, 0, 6, 18, 126, 172, 34, 141, 72, 39, 184, 0, 114, 153, 0, 8, 18, 127, 167, 0, 4]
abbrev dktX3_bitsOfSingle_0 : List UInt8 := dkwX3_bitsOfSingle_0 ++ dktX3_bitsOfSingle_1
theorem dksX3_bitsOfSingle_0 : cX3_bitsOfSingle.data.toList.drop 0 = dktX3_bitsOfSingle_0 := by decide +kernel
theorem dksX3_bitsOfSingle_1 : cX3_bitsOfSingle.data.toList.drop 24 = dktX3_bitsOfSingle_1 := dk_seg dksX3_bitsOfSingle_0 24 rfl rfl
theorem dksX3_bitsOfSingle_2 : cX3_bitsOfSingle.data.toList.drop 48 = dktX3_bitsOfSingle_2 := dk_seg dksX3_bitsOfSingle_1 24 rfl rfl
theorem dksX3_bitsOfSingle_3 : cX3_bitsOfSingle.data.toList.drop 71 = dktX3_bitsOfSingle_3 := dk_seg dksX3_bitsOfSingle_2 23 rfl rfl
theorem dksX3_bitsOfSingle_4 : cX3_bitsOfSingle.data.toList.drop 95 = dktX3_bitsOfSingle_4 := dk_seg dksX3_bitsOfSingle_3 24 rfl rfl
theorem dksX3_bitsOfSingle_5 : cX3_bitsOfSingle.data.toList.drop 119 = dktX3_bitsOfSingle_5 := dk_seg dksX3_bitsOfSingle_4 24 rfl rfl
theorem dksX3_bitsOfSingle_6 : cX3_bitsOfSingle.data.toList.drop 143 = dktX3_bitsOfSingle_6 := dk_seg dksX3_bitsOfSingle_5 24 rfl rfl
theorem dX3_bitsOfSingle_0 : decode cX3_bitsOfSingle 0 = .ok (.fload_n 0, 1) := dk_34 (dk_at dksX3_bitsOfSingle_0 0 rfl rfl)
theorem dX3_bitsOfSingle_1 : decode cX3_bitsOfSingle 1 = .ok (.fload_n 0, 1) := dk_34 (dk_at dksX3_bitsOfSingle_0 1 rfl rfl)
theorem dX3_bitsOfSingle_2 : decode cX3_bitsOfSingle 2 = .ok (.fcmp .l, 1) := dk_149 (dk_at dksX3_bitsOfSingle_0 2 rfl rfl)
theorem dX3_bitsOfSingle_3 : decode cX3_bitsOfSingle 3 = .ok (.ifCond .eq 6, 3) := dk_153 0 6 (dk_at dksX3_bitsOfSingle_0 3 rfl rfl)
theorem dX3_bitsOfSingle_6 : decode cX3_bitsOfSingle 6 = .ok (.ldc 126, 2) := dk_18 126 (dk_at dksX3_bitsOfSingle_0 6 rfl rfl)
theorem dX3_bitsOfSingle_8 : decode cX3_bitsOfSingle 8 = .ok (.ireturn, 1) := dk_172 (dk_at dksX3_bitsOfSingle_0 8 rfl rfl)
theorem dX3_bitsOfSingle_9 : decode cX3_bitsOfSingle 9 = .ok (.fload_n 0, 1) := dk_34 (dk_at dksX3_bitsOfSingle_0 9 rfl rfl)
theorem dX3_bitsOfSingle_10 : decode cX3_bitsOfSingle 10 = .ok (.f2d, 1) := dk_141 (dk_at dksX3_bitsOfSingle_0 10 rfl rfl)
theorem dX3_bitsOfSingle_11 : decode cX3_bitsOfSingle 11 = .ok (.dstore_n 1, 1) := dk_72 (dk_at dksX3_bitsOfSingle_0 11 rfl rfl)
theorem dX3_bitsOfSingle_12 : decode cX3_bitsOfSingle 12 = .ok (.dload_n 1, 1) := dk_39 (dk_at dksX3_bitsOfSingle_0 12 rfl rfl)
theorem dX3_bitsOfSingle_13 : decode cX3_bitsOfSingle 13 = .ok (.invokestatic 114, 3) := dk_184 0 114 (dk_at dksX3_bitsOfSingle_0 13 rfl rfl)
theorem dX3_bitsOfSingle_16 : decode cX3_bitsOfSingle 16 = .ok (.ifCond .eq 8, 3) := dk_153 0 8 (dk_at dksX3_bitsOfSingle_0 16 rfl rfl)
theorem dX3_bitsOfSingle_19 : decode cX3_bitsOfSingle 19 = .ok (.ldc 127, 2) := dk_18 127 (dk_at dksX3_bitsOfSingle_0 19 rfl rfl)
theorem dX3_bitsOfSingle_21 : decode cX3_bitsOfSingle 21 = .ok (.goto 4, 3) := dk_167 0 4 (dk_at dksX3_bitsOfSingle_0 21 rfl rfl)
theorem dX3_bitsOfSingle_24 : decode cX3_bitsOfSingle 24 = .ok (.iconst 0, 1) := dk_3 (dk_at dksX3_bitsOfSingle_1 0 rfl rfl)
theorem dX3_bitsOfSingle_25 : decode cX3_bitsOfSingle 25 = .ok (.istore_n 3, 1) := dk_62 (dk_at dksX3_bitsOfSingle_1 1 rfl rfl)
theorem dX3_bitsOfSingle_26 : decode cX3_bitsOfSingle 26 = .ok (.dload_n 1, 1) := dk_39 (dk_at dksX3_bitsOfSingle_1 2 rfl rfl)
theorem dX3_bitsOfSingle_27 : decode cX3_bitsOfSingle 27 = .ok (.dconst 0, 1) := dk_14 (dk_at dksX3_bitsOfSingle_1 3 rfl rfl)
theorem dX3_bitsOfSingle_28 : decode cX3_bitsOfSingle 28 = .ok (.dcmp .g, 1) := dk_152 (dk_at dksX3_bitsOfSingle_1 4 rfl rfl)
theorem dX3_bitsOfSingle_29 : decode cX3_bitsOfSingle 29 = .ok (.ifCond .ge 8, 3) := dk_156 0 8 (dk_at dksX3_bitsOfSingle_1 5 rfl rfl)
theorem dX3_bitsOfSingle_32 : decode cX3_bitsOfSingle 32 = .ok (.dload_n 1, 1) := dk_39 (dk_at dksX3_bitsOfSingle_1 8 rfl rfl)
theorem dX3_bitsOfSingle_33 : decode cX3_bitsOfSingle 33 = .ok (.dneg, 1) := dk_119 (dk_at dksX3_bitsOfSingle_1 9 rfl rfl)
theorem dX3_bitsOfSingle_34 : decode cX3_bitsOfSingle 34 = .ok (.goto 4, 3) := dk_167 0 4 (dk_at dksX3_bitsOfSingle_1 10 rfl rfl)
theorem dX3_bitsOfSingle_37 : decode cX3_bitsOfSingle 37 = .ok (.dload_n 1, 1) := dk_39 (dk_at dksX3_bitsOfSingle_1 13 rfl rfl)
theorem dX3_bitsOfSingle_38 : decode cX3_bitsOfSingle 38 = .ok (.dstore 4, 2) := dk_57 4 (dk_at dksX3_bitsOfSingle_1 14 rfl rfl)
theorem dX3_bitsOfSingle_40 : decode cX3_bitsOfSingle 40 = .ok (.dload 4, 2) := dk_24 4 (dk_at dksX3_bitsOfSingle_1 16 rfl rfl)
theorem dX3_bitsOfSingle_42 : decode cX3_bitsOfSingle 42 = .ok (.dconst 0, 1) := dk_14 (dk_at dksX3_bitsOfSingle_1 18 rfl rfl)
theorem dX3_bitsOfSingle_43 : decode cX3_bitsOfSingle 43 = .ok (.dcmp .l, 1) := dk_151 (dk_at dksX3_bitsOfSingle_1 19 rfl rfl)
theorem dX3_bitsOfSingle_44 : decode cX3_bitsOfSingle 44 = .ok (.ifCond .ne 5, 3) := dk_154 0 5 (dk_at dksX3_bitsOfSingle_1 20 rfl rfl)
theorem dX3_bitsOfSingle_47 : decode cX3_bitsOfSingle 47 = .ok (.iload_n 3, 1) := dk_29 (dk_at dksX3_bitsOfSingle_1 23 rfl rfl)
theorem dX3_bitsOfSingle_48 : decode cX3_bitsOfSingle 48 = .ok (.ireturn, 1) := dk_172 (dk_at dksX3_bitsOfSingle_2 0 rfl rfl)
theorem dX3_bitsOfSingle_49 : decode cX3_bitsOfSingle 49 = .ok (.dload 4, 2) := dk_24 4 (dk_at dksX3_bitsOfSingle_2 1 rfl rfl)
theorem dX3_bitsOfSingle_51 : decode cX3_bitsOfSingle 51 = .ok (.ldc2_w 97, 3) := dk_20 0 97 (dk_at dksX3_bitsOfSingle_2 3 rfl rfl)
theorem dX3_bitsOfSingle_54 : decode cX3_bitsOfSingle 54 = .ok (.dcmp .l, 1) := dk_151 (dk_at dksX3_bitsOfSingle_2 6 rfl rfl)
theorem dX3_bitsOfSingle_55 : decode cX3_bitsOfSingle 55 = .ok (.ifCond .ne 8, 3) := dk_154 0 8 (dk_at dksX3_bitsOfSingle_2 7 rfl rfl)
theorem dX3_bitsOfSingle_58 : decode cX3_bitsOfSingle 58 = .ok (.iload_n 3, 1) := dk_29 (dk_at dksX3_bitsOfSingle_2 10 rfl rfl)
theorem dX3_bitsOfSingle_59 : decode cX3_bitsOfSingle 59 = .ok (.ldc 128, 2) := dk_18 128 (dk_at dksX3_bitsOfSingle_2 11 rfl rfl)
theorem dX3_bitsOfSingle_61 : decode cX3_bitsOfSingle 61 = .ok (.ior, 1) := dk_128 (dk_at dksX3_bitsOfSingle_2 13 rfl rfl)
theorem dX3_bitsOfSingle_62 : decode cX3_bitsOfSingle 62 = .ok (.ireturn, 1) := dk_172 (dk_at dksX3_bitsOfSingle_2 14 rfl rfl)
theorem dX3_bitsOfSingle_63 : decode cX3_bitsOfSingle 63 = .ok (.dload 4, 2) := dk_24 4 (dk_at dksX3_bitsOfSingle_2 15 rfl rfl)
theorem dX3_bitsOfSingle_65 : decode cX3_bitsOfSingle 65 = .ok (.bipush (-126), 2) := dk_16 130 (dk_at dksX3_bitsOfSingle_2 17 rfl rfl)
theorem dX3_bitsOfSingle_67 : decode cX3_bitsOfSingle 67 = .ok (.invokestatic 85, 3) := dk_184 0 85 (dk_at dksX3_bitsOfSingle_2 19 rfl rfl)
theorem dX3_bitsOfSingle_70 : decode cX3_bitsOfSingle 70 = .ok (.dcmp .g, 1) := dk_152 (dk_at dksX3_bitsOfSingle_2 22 rfl rfl)
theorem dX3_bitsOfSingle_71 : decode cX3_bitsOfSingle 71 = .ok (.ifCond .ge 16, 3) := dk_156 0 16 (dk_at dksX3_bitsOfSingle_3 0 rfl rfl)
theorem dX3_bitsOfSingle_74 : decode cX3_bitsOfSingle 74 = .ok (.iload_n 3, 1) := dk_29 (dk_at dksX3_bitsOfSingle_3 3 rfl rfl)
theorem dX3_bitsOfSingle_75 : decode cX3_bitsOfSingle 75 = .ok (.dload 4, 2) := dk_24 4 (dk_at dksX3_bitsOfSingle_3 4 rfl rfl)
theorem dX3_bitsOfSingle_77 : decode cX3_bitsOfSingle 77 = .ok (.sipush 149, 3) := dk_17 0 149 (dk_at dksX3_bitsOfSingle_3 6 rfl rfl)
theorem dX3_bitsOfSingle_80 : decode cX3_bitsOfSingle 80 = .ok (.invokestatic 85, 3) := dk_184 0 85 (dk_at dksX3_bitsOfSingle_3 9 rfl rfl)
theorem dX3_bitsOfSingle_83 : decode cX3_bitsOfSingle 83 = .ok (.dmul, 1) := dk_107 (dk_at dksX3_bitsOfSingle_3 12 rfl rfl)
theorem dX3_bitsOfSingle_84 : decode cX3_bitsOfSingle 84 = .ok (.d2i, 1) := dk_142 (dk_at dksX3_bitsOfSingle_3 13 rfl rfl)
theorem dX3_bitsOfSingle_85 : decode cX3_bitsOfSingle 85 = .ok (.ior, 1) := dk_128 (dk_at dksX3_bitsOfSingle_3 14 rfl rfl)
theorem dX3_bitsOfSingle_86 : decode cX3_bitsOfSingle 86 = .ok (.ireturn, 1) := dk_172 (dk_at dksX3_bitsOfSingle_3 15 rfl rfl)
theorem dX3_bitsOfSingle_87 : decode cX3_bitsOfSingle 87 = .ok (.iconst 0, 1) := dk_3 (dk_at dksX3_bitsOfSingle_3 16 rfl rfl)
theorem dX3_bitsOfSingle_88 : decode cX3_bitsOfSingle 88 = .ok (.istore 6, 2) := dk_54 6 (dk_at dksX3_bitsOfSingle_3 17 rfl rfl)
theorem dX3_bitsOfSingle_90 : decode cX3_bitsOfSingle 90 = .ok (.dload 4, 2) := dk_24 4 (dk_at dksX3_bitsOfSingle_3 19 rfl rfl)
theorem dX3_bitsOfSingle_92 : decode cX3_bitsOfSingle 92 = .ok (.ldc2_w 129, 3) := dk_20 0 129 (dk_at dksX3_bitsOfSingle_3 21 rfl rfl)
theorem dX3_bitsOfSingle_95 : decode cX3_bitsOfSingle 95 = .ok (.dcmp .l, 1) := dk_151 (dk_at dksX3_bitsOfSingle_4 0 rfl rfl)
theorem dX3_bitsOfSingle_96 : decode cX3_bitsOfSingle 96 = .ok (.ifCond .lt 17, 3) := dk_155 0 17 (dk_at dksX3_bitsOfSingle_4 1 rfl rfl)
theorem dX3_bitsOfSingle_99 : decode cX3_bitsOfSingle 99 = .ok (.dload 4, 2) := dk_24 4 (dk_at dksX3_bitsOfSingle_4 4 rfl rfl)
theorem dX3_bitsOfSingle_101 : decode cX3_bitsOfSingle 101 = .ok (.ldc2_w 81, 3) := dk_20 0 81 (dk_at dksX3_bitsOfSingle_4 6 rfl rfl)
theorem dX3_bitsOfSingle_104 : decode cX3_bitsOfSingle 104 = .ok (.dmul, 1) := dk_107 (dk_at dksX3_bitsOfSingle_4 9 rfl rfl)
theorem dX3_bitsOfSingle_105 : decode cX3_bitsOfSingle 105 = .ok (.dstore 4, 2) := dk_57 4 (dk_at dksX3_bitsOfSingle_4 10 rfl rfl)
theorem dX3_bitsOfSingle_107 : decode cX3_bitsOfSingle 107 = .ok (.iinc 6 1, 3) := dk_132 6 1 (dk_at dksX3_bitsOfSingle_4 12 rfl rfl)
theorem dX3_bitsOfSingle_110 : decode cX3_bitsOfSingle 110 = .ok (.goto (-20), 3) := dk_167 255 236 (dk_at dksX3_bitsOfSingle_4 15 rfl rfl)
theorem dX3_bitsOfSingle_113 : decode cX3_bitsOfSingle 113 = .ok (.dload 4, 2) := dk_24 4 (dk_at dksX3_bitsOfSingle_4 18 rfl rfl)
theorem dX3_bitsOfSingle_115 : decode cX3_bitsOfSingle 115 = .ok (.ldc2_w 131, 3) := dk_20 0 131 (dk_at dksX3_bitsOfSingle_4 20 rfl rfl)
theorem dX3_bitsOfSingle_118 : decode cX3_bitsOfSingle 118 = .ok (.dcmp .g, 1) := dk_152 (dk_at dksX3_bitsOfSingle_4 23 rfl rfl)
theorem dX3_bitsOfSingle_119 : decode cX3_bitsOfSingle 119 = .ok (.ifCond .ge 17, 3) := dk_156 0 17 (dk_at dksX3_bitsOfSingle_5 0 rfl rfl)
theorem dX3_bitsOfSingle_122 : decode cX3_bitsOfSingle 122 = .ok (.dload 4, 2) := dk_24 4 (dk_at dksX3_bitsOfSingle_5 3 rfl rfl)
theorem dX3_bitsOfSingle_124 : decode cX3_bitsOfSingle 124 = .ok (.ldc2_w 83, 3) := dk_20 0 83 (dk_at dksX3_bitsOfSingle_5 5 rfl rfl)
theorem dX3_bitsOfSingle_127 : decode cX3_bitsOfSingle 127 = .ok (.dmul, 1) := dk_107 (dk_at dksX3_bitsOfSingle_5 8 rfl rfl)
theorem dX3_bitsOfSingle_128 : decode cX3_bitsOfSingle 128 = .ok (.dstore 4, 2) := dk_57 4 (dk_at dksX3_bitsOfSingle_5 9 rfl rfl)
theorem dX3_bitsOfSingle_130 : decode cX3_bitsOfSingle 130 = .ok (.iinc 6 (-1), 3) := dk_132 6 255 (dk_at dksX3_bitsOfSingle_5 11 rfl rfl)
theorem dX3_bitsOfSingle_133 : decode cX3_bitsOfSingle 133 = .ok (.goto (-20), 3) := dk_167 255 236 (dk_at dksX3_bitsOfSingle_5 14 rfl rfl)
theorem dX3_bitsOfSingle_136 : decode cX3_bitsOfSingle 136 = .ok (.iload_n 3, 1) := dk_29 (dk_at dksX3_bitsOfSingle_5 17 rfl rfl)
theorem dX3_bitsOfSingle_137 : decode cX3_bitsOfSingle 137 = .ok (.iload 6, 2) := dk_21 6 (dk_at dksX3_bitsOfSingle_5 18 rfl rfl)
theorem dX3_bitsOfSingle_139 : decode cX3_bitsOfSingle 139 = .ok (.sipush 150, 3) := dk_17 0 150 (dk_at dksX3_bitsOfSingle_5 20 rfl rfl)
theorem dX3_bitsOfSingle_142 : decode cX3_bitsOfSingle 142 = .ok (.iadd, 1) := dk_96 (dk_at dksX3_bitsOfSingle_5 23 rfl rfl)
theorem dX3_bitsOfSingle_143 : decode cX3_bitsOfSingle 143 = .ok (.bipush 23, 2) := dk_16 23 (dk_at dksX3_bitsOfSingle_6 0 rfl rfl)
theorem dX3_bitsOfSingle_145 : decode cX3_bitsOfSingle 145 = .ok (.ishl, 1) := dk_120 (dk_at dksX3_bitsOfSingle_6 2 rfl rfl)
theorem dX3_bitsOfSingle_146 : decode cX3_bitsOfSingle 146 = .ok (.ior, 1) := dk_128 (dk_at dksX3_bitsOfSingle_6 3 rfl rfl)
theorem dX3_bitsOfSingle_147 : decode cX3_bitsOfSingle 147 = .ok (.dload 4, 2) := dk_24 4 (dk_at dksX3_bitsOfSingle_6 4 rfl rfl)
theorem dX3_bitsOfSingle_149 : decode cX3_bitsOfSingle 149 = .ok (.d2i, 1) := dk_142 (dk_at dksX3_bitsOfSingle_6 6 rfl rfl)
theorem dX3_bitsOfSingle_150 : decode cX3_bitsOfSingle 150 = .ok (.ldc 105, 2) := dk_18 105 (dk_at dksX3_bitsOfSingle_6 7 rfl rfl)
theorem dX3_bitsOfSingle_152 : decode cX3_bitsOfSingle 152 = .ok (.iand, 1) := dk_126 (dk_at dksX3_bitsOfSingle_6 9 rfl rfl)
theorem dX3_bitsOfSingle_153 : decode cX3_bitsOfSingle 153 = .ok (.ior, 1) := dk_128 (dk_at dksX3_bitsOfSingle_6 10 rfl rfl)
theorem dX3_bitsOfSingle_154 : decode cX3_bitsOfSingle 154 = .ok (.ireturn, 1) := dk_172 (dk_at dksX3_bitsOfSingle_6 11 rfl rfl)
abbrev cX3_isBelow : ByteArray := prog_11_method_18_code
def yX3_isBelow : MethodName := ⟨RX3, "isBelow", "(D)Z"⟩
def dkwX3_isBelow_1 : List UInt8 := [3, 172]
abbrev dktX3_isBelow_1 : List UInt8 := dkwX3_isBelow_1 ++ []
def dkwX3_isBelow_0 : List UInt8 := [38, 14, 152, 155, 0, 17, 38, 14, 151, 154, 0, 15, 15, 38, 111, 14, 152, 156, 0, 7, 4, 167, 0, 4]
abbrev dktX3_isBelow_0 : List UInt8 := dkwX3_isBelow_0 ++ dktX3_isBelow_1
theorem dksX3_isBelow_0 : cX3_isBelow.data.toList.drop 0 = dktX3_isBelow_0 := by decide +kernel
theorem dksX3_isBelow_1 : cX3_isBelow.data.toList.drop 24 = dktX3_isBelow_1 := dk_seg dksX3_isBelow_0 24 rfl rfl
theorem dX3_isBelow_0 : decode cX3_isBelow 0 = .ok (.dload_n 0, 1) := dk_38 (dk_at dksX3_isBelow_0 0 rfl rfl)
theorem dX3_isBelow_1 : decode cX3_isBelow 1 = .ok (.dconst 0, 1) := dk_14 (dk_at dksX3_isBelow_0 1 rfl rfl)
theorem dX3_isBelow_2 : decode cX3_isBelow 2 = .ok (.dcmp .g, 1) := dk_152 (dk_at dksX3_isBelow_0 2 rfl rfl)
theorem dX3_isBelow_3 : decode cX3_isBelow 3 = .ok (.ifCond .lt 17, 3) := dk_155 0 17 (dk_at dksX3_isBelow_0 3 rfl rfl)
theorem dX3_isBelow_6 : decode cX3_isBelow 6 = .ok (.dload_n 0, 1) := dk_38 (dk_at dksX3_isBelow_0 6 rfl rfl)
theorem dX3_isBelow_7 : decode cX3_isBelow 7 = .ok (.dconst 0, 1) := dk_14 (dk_at dksX3_isBelow_0 7 rfl rfl)
theorem dX3_isBelow_8 : decode cX3_isBelow 8 = .ok (.dcmp .l, 1) := dk_151 (dk_at dksX3_isBelow_0 8 rfl rfl)
theorem dX3_isBelow_9 : decode cX3_isBelow 9 = .ok (.ifCond .ne 15, 3) := dk_154 0 15 (dk_at dksX3_isBelow_0 9 rfl rfl)
theorem dX3_isBelow_12 : decode cX3_isBelow 12 = .ok (.dconst 1, 1) := dk_15 (dk_at dksX3_isBelow_0 12 rfl rfl)
theorem dX3_isBelow_13 : decode cX3_isBelow 13 = .ok (.dload_n 0, 1) := dk_38 (dk_at dksX3_isBelow_0 13 rfl rfl)
theorem dX3_isBelow_14 : decode cX3_isBelow 14 = .ok (.ddiv, 1) := dk_111 (dk_at dksX3_isBelow_0 14 rfl rfl)
theorem dX3_isBelow_15 : decode cX3_isBelow 15 = .ok (.dconst 0, 1) := dk_14 (dk_at dksX3_isBelow_0 15 rfl rfl)
theorem dX3_isBelow_16 : decode cX3_isBelow 16 = .ok (.dcmp .g, 1) := dk_152 (dk_at dksX3_isBelow_0 16 rfl rfl)
theorem dX3_isBelow_17 : decode cX3_isBelow 17 = .ok (.ifCond .ge 7, 3) := dk_156 0 7 (dk_at dksX3_isBelow_0 17 rfl rfl)
theorem dX3_isBelow_20 : decode cX3_isBelow 20 = .ok (.iconst 1, 1) := dk_4 (dk_at dksX3_isBelow_0 20 rfl rfl)
theorem dX3_isBelow_21 : decode cX3_isBelow 21 = .ok (.goto 4, 3) := dk_167 0 4 (dk_at dksX3_isBelow_0 21 rfl rfl)
theorem dX3_isBelow_24 : decode cX3_isBelow 24 = .ok (.iconst 0, 1) := dk_3 (dk_at dksX3_isBelow_1 0 rfl rfl)
theorem dX3_isBelow_25 : decode cX3_isBelow 25 = .ok (.ireturn, 1) := dk_172 (dk_at dksX3_isBelow_1 1 rfl rfl)
abbrev cX3_power : ByteArray := prog_11_method_14_code
def yX3_power : MethodName := ⟨RX3, "power", "(I)D"⟩
def dkwX3_power_2 : List UInt8 := [175]
abbrev dktX3_power_2 : List UInt8 := dkwX3_power_2 ++ []
def dkwX3_power_1 : List UInt8 := [156, 0, 11, 39, 20, 0, 81, 107, 167, 0, 8, 39, 20, 0, 83, 107, 72, 132, 4, 1, 167, 255, 229, 39]
abbrev dktX3_power_1 : List UInt8 := dkwX3_power_1 ++ dktX3_power_2
def dkwX3_power_0 : List UInt8 := [15, 72, 26, 156, 0, 8, 26, 116, 167, 0, 4, 26, 62, 3, 54, 4, 21, 4, 29, 162, 0, 27, 26]
abbrev dktX3_power_0 : List UInt8 := dkwX3_power_0 ++ dktX3_power_1
theorem dksX3_power_0 : cX3_power.data.toList.drop 0 = dktX3_power_0 := by decide +kernel
theorem dksX3_power_1 : cX3_power.data.toList.drop 23 = dktX3_power_1 := dk_seg dksX3_power_0 23 rfl rfl
theorem dksX3_power_2 : cX3_power.data.toList.drop 47 = dktX3_power_2 := dk_seg dksX3_power_1 24 rfl rfl
theorem dX3_power_0 : decode cX3_power 0 = .ok (.dconst 1, 1) := dk_15 (dk_at dksX3_power_0 0 rfl rfl)
theorem dX3_power_1 : decode cX3_power 1 = .ok (.dstore_n 1, 1) := dk_72 (dk_at dksX3_power_0 1 rfl rfl)
theorem dX3_power_2 : decode cX3_power 2 = .ok (.iload_n 0, 1) := dk_26 (dk_at dksX3_power_0 2 rfl rfl)
theorem dX3_power_3 : decode cX3_power 3 = .ok (.ifCond .ge 8, 3) := dk_156 0 8 (dk_at dksX3_power_0 3 rfl rfl)
theorem dX3_power_6 : decode cX3_power 6 = .ok (.iload_n 0, 1) := dk_26 (dk_at dksX3_power_0 6 rfl rfl)
theorem dX3_power_7 : decode cX3_power 7 = .ok (.ineg, 1) := dk_116 (dk_at dksX3_power_0 7 rfl rfl)
theorem dX3_power_8 : decode cX3_power 8 = .ok (.goto 4, 3) := dk_167 0 4 (dk_at dksX3_power_0 8 rfl rfl)
theorem dX3_power_11 : decode cX3_power 11 = .ok (.iload_n 0, 1) := dk_26 (dk_at dksX3_power_0 11 rfl rfl)
theorem dX3_power_12 : decode cX3_power 12 = .ok (.istore_n 3, 1) := dk_62 (dk_at dksX3_power_0 12 rfl rfl)
theorem dX3_power_13 : decode cX3_power 13 = .ok (.iconst 0, 1) := dk_3 (dk_at dksX3_power_0 13 rfl rfl)
theorem dX3_power_14 : decode cX3_power 14 = .ok (.istore 4, 2) := dk_54 4 (dk_at dksX3_power_0 14 rfl rfl)
theorem dX3_power_16 : decode cX3_power 16 = .ok (.iload 4, 2) := dk_21 4 (dk_at dksX3_power_0 16 rfl rfl)
theorem dX3_power_18 : decode cX3_power 18 = .ok (.iload_n 3, 1) := dk_29 (dk_at dksX3_power_0 18 rfl rfl)
theorem dX3_power_19 : decode cX3_power 19 = .ok (.if_icmp .ge 27, 3) := dk_162 0 27 (dk_at dksX3_power_0 19 rfl rfl)
theorem dX3_power_22 : decode cX3_power 22 = .ok (.iload_n 0, 1) := dk_26 (dk_at dksX3_power_0 22 rfl rfl)
theorem dX3_power_23 : decode cX3_power 23 = .ok (.ifCond .ge 11, 3) := dk_156 0 11 (dk_at dksX3_power_1 0 rfl rfl)
theorem dX3_power_26 : decode cX3_power 26 = .ok (.dload_n 1, 1) := dk_39 (dk_at dksX3_power_1 3 rfl rfl)
theorem dX3_power_27 : decode cX3_power 27 = .ok (.ldc2_w 81, 3) := dk_20 0 81 (dk_at dksX3_power_1 4 rfl rfl)
theorem dX3_power_30 : decode cX3_power 30 = .ok (.dmul, 1) := dk_107 (dk_at dksX3_power_1 7 rfl rfl)
theorem dX3_power_31 : decode cX3_power 31 = .ok (.goto 8, 3) := dk_167 0 8 (dk_at dksX3_power_1 8 rfl rfl)
theorem dX3_power_34 : decode cX3_power 34 = .ok (.dload_n 1, 1) := dk_39 (dk_at dksX3_power_1 11 rfl rfl)
theorem dX3_power_35 : decode cX3_power 35 = .ok (.ldc2_w 83, 3) := dk_20 0 83 (dk_at dksX3_power_1 12 rfl rfl)
theorem dX3_power_38 : decode cX3_power 38 = .ok (.dmul, 1) := dk_107 (dk_at dksX3_power_1 15 rfl rfl)
theorem dX3_power_39 : decode cX3_power 39 = .ok (.dstore_n 1, 1) := dk_72 (dk_at dksX3_power_1 16 rfl rfl)
theorem dX3_power_40 : decode cX3_power 40 = .ok (.iinc 4 1, 3) := dk_132 4 1 (dk_at dksX3_power_1 17 rfl rfl)
theorem dX3_power_43 : decode cX3_power 43 = .ok (.goto (-27), 3) := dk_167 255 229 (dk_at dksX3_power_1 20 rfl rfl)
theorem dX3_power_46 : decode cX3_power 46 = .ok (.dload_n 1, 1) := dk_39 (dk_at dksX3_power_1 23 rfl rfl)
theorem dX3_power_47 : decode cX3_power 47 = .ok (.dreturn, 1) := dk_175 (dk_at dksX3_power_2 0 rfl rfl)
abbrev cX3_bitsOf : ByteArray := prog_11_method_19_code
def yX3_bitsOf : MethodName := ⟨RX3, "bitsOf", "(D)J"⟩
def dkwX3_bitsOf_6 : List UInt8 := [167, 255, 236, 32, 21, 6, 17, 4, 51, 96, 133, 16, 52, 121, 129, 24, 4, 143, 20, 0, 89, 127, 129, 173]
abbrev dktX3_bitsOf_6 : List UInt8 := dkwX3_bitsOf_6 ++ []
def dkwX3_bitsOf_5 : List UInt8 := [167, 255, 236, 24, 4, 20, 0, 124, 152, 156, 0, 17, 24, 4, 20, 0, 83, 107, 57, 4, 132, 6, 255]
abbrev dktX3_bitsOf_5 : List UInt8 := dkwX3_bitsOf_5 ++ dktX3_bitsOf_6
def dkwX3_bitsOf_4 : List UInt8 := [54, 6, 24, 4, 20, 0, 122, 151, 155, 0, 17, 24, 4, 20, 0, 81, 107, 57, 4, 132, 6, 1]
abbrev dktX3_bitsOf_4 : List UInt8 := dkwX3_bitsOf_4 ++ dktX3_bitsOf_5
def dkwX3_bitsOf_3 : List UInt8 := [156, 0, 22, 32, 24, 4, 17, 3, 232, 184, 0, 85, 107, 16, 74, 184, 0, 85, 107, 143, 129, 173, 3]
abbrev dktX3_bitsOf_3 : List UInt8 := dkwX3_bitsOf_3 ++ dktX3_bitsOf_4
def dkwX3_bitsOf_2 : List UInt8 := [24, 4, 20, 0, 97, 151, 154, 0, 9, 32, 20, 0, 120, 129, 173, 24, 4, 17, 252, 2, 184, 0, 85, 152]
abbrev dktX3_bitsOf_2 : List UInt8 := dkwX3_bitsOf_2 ++ dktX3_bitsOf_3
def dkwX3_bitsOf_1 : List UInt8 := [65, 38, 14, 152, 156, 0, 8, 38, 119, 167, 0, 4, 38, 57, 4, 24, 4, 14, 151, 154, 0, 5, 32, 173]
abbrev dktX3_bitsOf_1 : List UInt8 := dkwX3_bitsOf_1 ++ dktX3_bitsOf_2
def dkwX3_bitsOf_0 : List UInt8 := [38, 38, 151, 153, 0, 7, 20, 0, 112, 173, 38, 184, 0, 114, 153, 0, 9, 20, 0, 118, 167, 0, 4, 9]
abbrev dktX3_bitsOf_0 : List UInt8 := dkwX3_bitsOf_0 ++ dktX3_bitsOf_1
theorem dksX3_bitsOf_0 : cX3_bitsOf.data.toList.drop 0 = dktX3_bitsOf_0 := by decide +kernel
theorem dksX3_bitsOf_1 : cX3_bitsOf.data.toList.drop 24 = dktX3_bitsOf_1 := dk_seg dksX3_bitsOf_0 24 rfl rfl
theorem dksX3_bitsOf_2 : cX3_bitsOf.data.toList.drop 48 = dktX3_bitsOf_2 := dk_seg dksX3_bitsOf_1 24 rfl rfl
theorem dksX3_bitsOf_3 : cX3_bitsOf.data.toList.drop 72 = dktX3_bitsOf_3 := dk_seg dksX3_bitsOf_2 24 rfl rfl
theorem dksX3_bitsOf_4 : cX3_bitsOf.data.toList.drop 95 = dktX3_bitsOf_4 := dk_seg dksX3_bitsOf_3 23 rfl rfl
theorem dksX3_bitsOf_5 : cX3_bitsOf.data.toList.drop 117 = dktX3_bitsOf_5 := dk_seg dksX3_bitsOf_4 22 rfl rfl
theorem dksX3_bitsOf_6 : cX3_bitsOf.data.toList.drop 140 = dktX3_bitsOf_6 := dk_seg dksX3_bitsOf_5 23 rfl rfl
theorem dX3_bitsOf_0 : decode cX3_bitsOf 0 = .ok (.dload_n 0, 1) := dk_38 (dk_at dksX3_bitsOf_0 0 rfl rfl)
theorem dX3_bitsOf_1 : decode cX3_bitsOf 1 = .ok (.dload_n 0, 1) := dk_38 (dk_at dksX3_bitsOf_0 1 rfl rfl)
theorem dX3_bitsOf_2 : decode cX3_bitsOf 2 = .ok (.dcmp .l, 1) := dk_151 (dk_at dksX3_bitsOf_0 2 rfl rfl)
theorem dX3_bitsOf_3 : decode cX3_bitsOf 3 = .ok (.ifCond .eq 7, 3) := dk_153 0 7 (dk_at dksX3_bitsOf_0 3 rfl rfl)
theorem dX3_bitsOf_6 : decode cX3_bitsOf 6 = .ok (.ldc2_w 112, 3) := dk_20 0 112 (dk_at dksX3_bitsOf_0 6 rfl rfl)
theorem dX3_bitsOf_9 : decode cX3_bitsOf 9 = .ok (.lreturn, 1) := dk_173 (dk_at dksX3_bitsOf_0 9 rfl rfl)
theorem dX3_bitsOf_10 : decode cX3_bitsOf 10 = .ok (.dload_n 0, 1) := dk_38 (dk_at dksX3_bitsOf_0 10 rfl rfl)
theorem dX3_bitsOf_11 : decode cX3_bitsOf 11 = .ok (.invokestatic 114, 3) := dk_184 0 114 (dk_at dksX3_bitsOf_0 11 rfl rfl)
theorem dX3_bitsOf_14 : decode cX3_bitsOf 14 = .ok (.ifCond .eq 9, 3) := dk_153 0 9 (dk_at dksX3_bitsOf_0 14 rfl rfl)
theorem dX3_bitsOf_17 : decode cX3_bitsOf 17 = .ok (.ldc2_w 118, 3) := dk_20 0 118 (dk_at dksX3_bitsOf_0 17 rfl rfl)
theorem dX3_bitsOf_20 : decode cX3_bitsOf 20 = .ok (.goto 4, 3) := dk_167 0 4 (dk_at dksX3_bitsOf_0 20 rfl rfl)
theorem dX3_bitsOf_23 : decode cX3_bitsOf 23 = .ok (.lconst 0, 1) := dk_9 (dk_at dksX3_bitsOf_0 23 rfl rfl)
theorem dX3_bitsOf_24 : decode cX3_bitsOf 24 = .ok (.lstore_n 2, 1) := dk_65 (dk_at dksX3_bitsOf_1 0 rfl rfl)
theorem dX3_bitsOf_25 : decode cX3_bitsOf 25 = .ok (.dload_n 0, 1) := dk_38 (dk_at dksX3_bitsOf_1 1 rfl rfl)
theorem dX3_bitsOf_26 : decode cX3_bitsOf 26 = .ok (.dconst 0, 1) := dk_14 (dk_at dksX3_bitsOf_1 2 rfl rfl)
theorem dX3_bitsOf_27 : decode cX3_bitsOf 27 = .ok (.dcmp .g, 1) := dk_152 (dk_at dksX3_bitsOf_1 3 rfl rfl)
theorem dX3_bitsOf_28 : decode cX3_bitsOf 28 = .ok (.ifCond .ge 8, 3) := dk_156 0 8 (dk_at dksX3_bitsOf_1 4 rfl rfl)
theorem dX3_bitsOf_31 : decode cX3_bitsOf 31 = .ok (.dload_n 0, 1) := dk_38 (dk_at dksX3_bitsOf_1 7 rfl rfl)
theorem dX3_bitsOf_32 : decode cX3_bitsOf 32 = .ok (.dneg, 1) := dk_119 (dk_at dksX3_bitsOf_1 8 rfl rfl)
theorem dX3_bitsOf_33 : decode cX3_bitsOf 33 = .ok (.goto 4, 3) := dk_167 0 4 (dk_at dksX3_bitsOf_1 9 rfl rfl)
theorem dX3_bitsOf_36 : decode cX3_bitsOf 36 = .ok (.dload_n 0, 1) := dk_38 (dk_at dksX3_bitsOf_1 12 rfl rfl)
theorem dX3_bitsOf_37 : decode cX3_bitsOf 37 = .ok (.dstore 4, 2) := dk_57 4 (dk_at dksX3_bitsOf_1 13 rfl rfl)
theorem dX3_bitsOf_39 : decode cX3_bitsOf 39 = .ok (.dload 4, 2) := dk_24 4 (dk_at dksX3_bitsOf_1 15 rfl rfl)
theorem dX3_bitsOf_41 : decode cX3_bitsOf 41 = .ok (.dconst 0, 1) := dk_14 (dk_at dksX3_bitsOf_1 17 rfl rfl)
theorem dX3_bitsOf_42 : decode cX3_bitsOf 42 = .ok (.dcmp .l, 1) := dk_151 (dk_at dksX3_bitsOf_1 18 rfl rfl)
theorem dX3_bitsOf_43 : decode cX3_bitsOf 43 = .ok (.ifCond .ne 5, 3) := dk_154 0 5 (dk_at dksX3_bitsOf_1 19 rfl rfl)
theorem dX3_bitsOf_46 : decode cX3_bitsOf 46 = .ok (.lload_n 2, 1) := dk_32 (dk_at dksX3_bitsOf_1 22 rfl rfl)
theorem dX3_bitsOf_47 : decode cX3_bitsOf 47 = .ok (.lreturn, 1) := dk_173 (dk_at dksX3_bitsOf_1 23 rfl rfl)
theorem dX3_bitsOf_48 : decode cX3_bitsOf 48 = .ok (.dload 4, 2) := dk_24 4 (dk_at dksX3_bitsOf_2 0 rfl rfl)
theorem dX3_bitsOf_50 : decode cX3_bitsOf 50 = .ok (.ldc2_w 97, 3) := dk_20 0 97 (dk_at dksX3_bitsOf_2 2 rfl rfl)
theorem dX3_bitsOf_53 : decode cX3_bitsOf 53 = .ok (.dcmp .l, 1) := dk_151 (dk_at dksX3_bitsOf_2 5 rfl rfl)
theorem dX3_bitsOf_54 : decode cX3_bitsOf 54 = .ok (.ifCond .ne 9, 3) := dk_154 0 9 (dk_at dksX3_bitsOf_2 6 rfl rfl)
theorem dX3_bitsOf_57 : decode cX3_bitsOf 57 = .ok (.lload_n 2, 1) := dk_32 (dk_at dksX3_bitsOf_2 9 rfl rfl)
theorem dX3_bitsOf_58 : decode cX3_bitsOf 58 = .ok (.ldc2_w 120, 3) := dk_20 0 120 (dk_at dksX3_bitsOf_2 10 rfl rfl)
theorem dX3_bitsOf_61 : decode cX3_bitsOf 61 = .ok (.lor, 1) := dk_129 (dk_at dksX3_bitsOf_2 13 rfl rfl)
theorem dX3_bitsOf_62 : decode cX3_bitsOf 62 = .ok (.lreturn, 1) := dk_173 (dk_at dksX3_bitsOf_2 14 rfl rfl)
theorem dX3_bitsOf_63 : decode cX3_bitsOf 63 = .ok (.dload 4, 2) := dk_24 4 (dk_at dksX3_bitsOf_2 15 rfl rfl)
theorem dX3_bitsOf_65 : decode cX3_bitsOf 65 = .ok (.sipush (-1022), 3) := dk_17 252 2 (dk_at dksX3_bitsOf_2 17 rfl rfl)
theorem dX3_bitsOf_68 : decode cX3_bitsOf 68 = .ok (.invokestatic 85, 3) := dk_184 0 85 (dk_at dksX3_bitsOf_2 20 rfl rfl)
theorem dX3_bitsOf_71 : decode cX3_bitsOf 71 = .ok (.dcmp .g, 1) := dk_152 (dk_at dksX3_bitsOf_2 23 rfl rfl)
theorem dX3_bitsOf_72 : decode cX3_bitsOf 72 = .ok (.ifCond .ge 22, 3) := dk_156 0 22 (dk_at dksX3_bitsOf_3 0 rfl rfl)
theorem dX3_bitsOf_75 : decode cX3_bitsOf 75 = .ok (.lload_n 2, 1) := dk_32 (dk_at dksX3_bitsOf_3 3 rfl rfl)
theorem dX3_bitsOf_76 : decode cX3_bitsOf 76 = .ok (.dload 4, 2) := dk_24 4 (dk_at dksX3_bitsOf_3 4 rfl rfl)
theorem dX3_bitsOf_78 : decode cX3_bitsOf 78 = .ok (.sipush 1000, 3) := dk_17 3 232 (dk_at dksX3_bitsOf_3 6 rfl rfl)
theorem dX3_bitsOf_81 : decode cX3_bitsOf 81 = .ok (.invokestatic 85, 3) := dk_184 0 85 (dk_at dksX3_bitsOf_3 9 rfl rfl)
theorem dX3_bitsOf_84 : decode cX3_bitsOf 84 = .ok (.dmul, 1) := dk_107 (dk_at dksX3_bitsOf_3 12 rfl rfl)
theorem dX3_bitsOf_85 : decode cX3_bitsOf 85 = .ok (.bipush 74, 2) := dk_16 74 (dk_at dksX3_bitsOf_3 13 rfl rfl)
theorem dX3_bitsOf_87 : decode cX3_bitsOf 87 = .ok (.invokestatic 85, 3) := dk_184 0 85 (dk_at dksX3_bitsOf_3 15 rfl rfl)
theorem dX3_bitsOf_90 : decode cX3_bitsOf 90 = .ok (.dmul, 1) := dk_107 (dk_at dksX3_bitsOf_3 18 rfl rfl)
theorem dX3_bitsOf_91 : decode cX3_bitsOf 91 = .ok (.d2l, 1) := dk_143 (dk_at dksX3_bitsOf_3 19 rfl rfl)
theorem dX3_bitsOf_92 : decode cX3_bitsOf 92 = .ok (.lor, 1) := dk_129 (dk_at dksX3_bitsOf_3 20 rfl rfl)
theorem dX3_bitsOf_93 : decode cX3_bitsOf 93 = .ok (.lreturn, 1) := dk_173 (dk_at dksX3_bitsOf_3 21 rfl rfl)
theorem dX3_bitsOf_94 : decode cX3_bitsOf 94 = .ok (.iconst 0, 1) := dk_3 (dk_at dksX3_bitsOf_3 22 rfl rfl)
theorem dX3_bitsOf_95 : decode cX3_bitsOf 95 = .ok (.istore 6, 2) := dk_54 6 (dk_at dksX3_bitsOf_4 0 rfl rfl)
theorem dX3_bitsOf_97 : decode cX3_bitsOf 97 = .ok (.dload 4, 2) := dk_24 4 (dk_at dksX3_bitsOf_4 2 rfl rfl)
theorem dX3_bitsOf_99 : decode cX3_bitsOf 99 = .ok (.ldc2_w 122, 3) := dk_20 0 122 (dk_at dksX3_bitsOf_4 4 rfl rfl)
theorem dX3_bitsOf_102 : decode cX3_bitsOf 102 = .ok (.dcmp .l, 1) := dk_151 (dk_at dksX3_bitsOf_4 7 rfl rfl)
theorem dX3_bitsOf_103 : decode cX3_bitsOf 103 = .ok (.ifCond .lt 17, 3) := dk_155 0 17 (dk_at dksX3_bitsOf_4 8 rfl rfl)
theorem dX3_bitsOf_106 : decode cX3_bitsOf 106 = .ok (.dload 4, 2) := dk_24 4 (dk_at dksX3_bitsOf_4 11 rfl rfl)
theorem dX3_bitsOf_108 : decode cX3_bitsOf 108 = .ok (.ldc2_w 81, 3) := dk_20 0 81 (dk_at dksX3_bitsOf_4 13 rfl rfl)
theorem dX3_bitsOf_111 : decode cX3_bitsOf 111 = .ok (.dmul, 1) := dk_107 (dk_at dksX3_bitsOf_4 16 rfl rfl)
theorem dX3_bitsOf_112 : decode cX3_bitsOf 112 = .ok (.dstore 4, 2) := dk_57 4 (dk_at dksX3_bitsOf_4 17 rfl rfl)
theorem dX3_bitsOf_114 : decode cX3_bitsOf 114 = .ok (.iinc 6 1, 3) := dk_132 6 1 (dk_at dksX3_bitsOf_4 19 rfl rfl)
theorem dX3_bitsOf_117 : decode cX3_bitsOf 117 = .ok (.goto (-20), 3) := dk_167 255 236 (dk_at dksX3_bitsOf_5 0 rfl rfl)
theorem dX3_bitsOf_120 : decode cX3_bitsOf 120 = .ok (.dload 4, 2) := dk_24 4 (dk_at dksX3_bitsOf_5 3 rfl rfl)
theorem dX3_bitsOf_122 : decode cX3_bitsOf 122 = .ok (.ldc2_w 124, 3) := dk_20 0 124 (dk_at dksX3_bitsOf_5 5 rfl rfl)
theorem dX3_bitsOf_125 : decode cX3_bitsOf 125 = .ok (.dcmp .g, 1) := dk_152 (dk_at dksX3_bitsOf_5 8 rfl rfl)
theorem dX3_bitsOf_126 : decode cX3_bitsOf 126 = .ok (.ifCond .ge 17, 3) := dk_156 0 17 (dk_at dksX3_bitsOf_5 9 rfl rfl)
theorem dX3_bitsOf_129 : decode cX3_bitsOf 129 = .ok (.dload 4, 2) := dk_24 4 (dk_at dksX3_bitsOf_5 12 rfl rfl)
theorem dX3_bitsOf_131 : decode cX3_bitsOf 131 = .ok (.ldc2_w 83, 3) := dk_20 0 83 (dk_at dksX3_bitsOf_5 14 rfl rfl)
theorem dX3_bitsOf_134 : decode cX3_bitsOf 134 = .ok (.dmul, 1) := dk_107 (dk_at dksX3_bitsOf_5 17 rfl rfl)
theorem dX3_bitsOf_135 : decode cX3_bitsOf 135 = .ok (.dstore 4, 2) := dk_57 4 (dk_at dksX3_bitsOf_5 18 rfl rfl)
theorem dX3_bitsOf_137 : decode cX3_bitsOf 137 = .ok (.iinc 6 (-1), 3) := dk_132 6 255 (dk_at dksX3_bitsOf_5 20 rfl rfl)
theorem dX3_bitsOf_140 : decode cX3_bitsOf 140 = .ok (.goto (-20), 3) := dk_167 255 236 (dk_at dksX3_bitsOf_6 0 rfl rfl)
theorem dX3_bitsOf_143 : decode cX3_bitsOf 143 = .ok (.lload_n 2, 1) := dk_32 (dk_at dksX3_bitsOf_6 3 rfl rfl)
theorem dX3_bitsOf_144 : decode cX3_bitsOf 144 = .ok (.iload 6, 2) := dk_21 6 (dk_at dksX3_bitsOf_6 4 rfl rfl)
theorem dX3_bitsOf_146 : decode cX3_bitsOf 146 = .ok (.sipush 1075, 3) := dk_17 4 51 (dk_at dksX3_bitsOf_6 6 rfl rfl)
theorem dX3_bitsOf_149 : decode cX3_bitsOf 149 = .ok (.iadd, 1) := dk_96 (dk_at dksX3_bitsOf_6 9 rfl rfl)
theorem dX3_bitsOf_150 : decode cX3_bitsOf 150 = .ok (.i2l, 1) := dk_133 (dk_at dksX3_bitsOf_6 10 rfl rfl)
theorem dX3_bitsOf_151 : decode cX3_bitsOf 151 = .ok (.bipush 52, 2) := dk_16 52 (dk_at dksX3_bitsOf_6 11 rfl rfl)
theorem dX3_bitsOf_153 : decode cX3_bitsOf 153 = .ok (.lshl, 1) := dk_121 (dk_at dksX3_bitsOf_6 13 rfl rfl)
theorem dX3_bitsOf_154 : decode cX3_bitsOf 154 = .ok (.lor, 1) := dk_129 (dk_at dksX3_bitsOf_6 14 rfl rfl)
theorem dX3_bitsOf_155 : decode cX3_bitsOf 155 = .ok (.dload 4, 2) := dk_24 4 (dk_at dksX3_bitsOf_6 15 rfl rfl)
theorem dX3_bitsOf_157 : decode cX3_bitsOf 157 = .ok (.d2l, 1) := dk_143 (dk_at dksX3_bitsOf_6 17 rfl rfl)
theorem dX3_bitsOf_158 : decode cX3_bitsOf 158 = .ok (.ldc2_w 89, 3) := dk_20 0 89 (dk_at dksX3_bitsOf_6 18 rfl rfl)
theorem dX3_bitsOf_161 : decode cX3_bitsOf 161 = .ok (.land, 1) := dk_127 (dk_at dksX3_bitsOf_6 21 rfl rfl)
theorem dX3_bitsOf_162 : decode cX3_bitsOf 162 = .ok (.lor, 1) := dk_129 (dk_at dksX3_bitsOf_6 22 rfl rfl)
theorem dX3_bitsOf_163 : decode cX3_bitsOf 163 = .ok (.lreturn, 1) := dk_173 (dk_at dksX3_bitsOf_6 23 rfl rfl)
abbrev cX3_clean : ByteArray := prog_11_method_21_code
def yX3_clean : MethodName := ⟨RX3, "clean", "(IJ)J"⟩
def dkwX3_clean_4 : List UInt8 := [31, 20, 0, 141, 127, 20, 0, 120, 148, 158, 0, 9, 20, 0, 112, 167, 0, 4, 31, 173]
abbrev dktX3_clean_4 : List UInt8 := dkwX3_clean_4 ++ []
def dkwX3_clean_3 : List UInt8 := [31, 173, 31, 20, 0, 135, 127, 20, 0, 137, 148, 158, 0, 9, 20, 0, 139, 167, 0, 6, 31, 136, 133, 173]
abbrev dktX3_clean_3 : List UInt8 := dkwX3_clean_3 ++ dktX3_clean_4
def dkwX3_clean_2 : List UInt8 := [31, 10, 127, 173, 31, 136, 145, 133, 173, 31, 20, 0, 133, 127, 173, 31, 136, 147, 133, 173, 31, 136, 133, 173]
abbrev dktX3_clean_2 : List UInt8 := dkwX3_clean_2 ++ dktX3_clean_3
def dkwX3_clean_1 : List UInt8 := [170, 0, 0, 0, 0, 0, 91, 0, 0, 0, 0, 0, 0, 0, 6, 0, 0, 0, 43, 0, 0, 0, 47, 0, 0, 0, 52, 0, 0, 0, 58, 0, 0, 0, 63, 0, 0, 0, 67, 0, 0, 0, 69]
abbrev dktX3_clean_1 : List UInt8 := dkwX3_clean_1 ++ dktX3_clean_2
def dkwX3_clean_0 : List UInt8 := [26]
abbrev dktX3_clean_0 : List UInt8 := dkwX3_clean_0 ++ dktX3_clean_1
theorem dksX3_clean_0 : cX3_clean.data.toList.drop 0 = dktX3_clean_0 := by decide +kernel
theorem dksX3_clean_1 : cX3_clean.data.toList.drop 1 = dktX3_clean_1 := dk_seg dksX3_clean_0 1 rfl rfl
theorem dksX3_clean_2 : cX3_clean.data.toList.drop 44 = dktX3_clean_2 := dk_seg dksX3_clean_1 43 rfl rfl
theorem dksX3_clean_3 : cX3_clean.data.toList.drop 68 = dktX3_clean_3 := dk_seg dksX3_clean_2 24 rfl rfl
theorem dksX3_clean_4 : cX3_clean.data.toList.drop 92 = dktX3_clean_4 := dk_seg dksX3_clean_3 24 rfl rfl
theorem dX3_clean_0 : decode cX3_clean 0 = .ok (.iload_n 0, 1) := dk_26 (dk_at dksX3_clean_0 0 rfl rfl)
theorem dX3_clean_1 : decode cX3_clean 1 = .ok (.tableswitch 91 0 6 #[43, 47, 52, 58, 63, 67, 69], 43) := by decide +kernel
theorem dX3_clean_44 : decode cX3_clean 44 = .ok (.lload_n 1, 1) := dk_31 (dk_at dksX3_clean_2 0 rfl rfl)
theorem dX3_clean_45 : decode cX3_clean 45 = .ok (.lconst 1, 1) := dk_10 (dk_at dksX3_clean_2 1 rfl rfl)
theorem dX3_clean_46 : decode cX3_clean 46 = .ok (.land, 1) := dk_127 (dk_at dksX3_clean_2 2 rfl rfl)
theorem dX3_clean_47 : decode cX3_clean 47 = .ok (.lreturn, 1) := dk_173 (dk_at dksX3_clean_2 3 rfl rfl)
theorem dX3_clean_48 : decode cX3_clean 48 = .ok (.lload_n 1, 1) := dk_31 (dk_at dksX3_clean_2 4 rfl rfl)
theorem dX3_clean_49 : decode cX3_clean 49 = .ok (.l2i, 1) := dk_136 (dk_at dksX3_clean_2 5 rfl rfl)
theorem dX3_clean_50 : decode cX3_clean 50 = .ok (.i2b, 1) := dk_145 (dk_at dksX3_clean_2 6 rfl rfl)
theorem dX3_clean_51 : decode cX3_clean 51 = .ok (.i2l, 1) := dk_133 (dk_at dksX3_clean_2 7 rfl rfl)
theorem dX3_clean_52 : decode cX3_clean 52 = .ok (.lreturn, 1) := dk_173 (dk_at dksX3_clean_2 8 rfl rfl)
theorem dX3_clean_53 : decode cX3_clean 53 = .ok (.lload_n 1, 1) := dk_31 (dk_at dksX3_clean_2 9 rfl rfl)
theorem dX3_clean_54 : decode cX3_clean 54 = .ok (.ldc2_w 133, 3) := dk_20 0 133 (dk_at dksX3_clean_2 10 rfl rfl)
theorem dX3_clean_57 : decode cX3_clean 57 = .ok (.land, 1) := dk_127 (dk_at dksX3_clean_2 13 rfl rfl)
theorem dX3_clean_58 : decode cX3_clean 58 = .ok (.lreturn, 1) := dk_173 (dk_at dksX3_clean_2 14 rfl rfl)
theorem dX3_clean_59 : decode cX3_clean 59 = .ok (.lload_n 1, 1) := dk_31 (dk_at dksX3_clean_2 15 rfl rfl)
theorem dX3_clean_60 : decode cX3_clean 60 = .ok (.l2i, 1) := dk_136 (dk_at dksX3_clean_2 16 rfl rfl)
theorem dX3_clean_61 : decode cX3_clean 61 = .ok (.i2s, 1) := dk_147 (dk_at dksX3_clean_2 17 rfl rfl)
theorem dX3_clean_62 : decode cX3_clean 62 = .ok (.i2l, 1) := dk_133 (dk_at dksX3_clean_2 18 rfl rfl)
theorem dX3_clean_63 : decode cX3_clean 63 = .ok (.lreturn, 1) := dk_173 (dk_at dksX3_clean_2 19 rfl rfl)
theorem dX3_clean_64 : decode cX3_clean 64 = .ok (.lload_n 1, 1) := dk_31 (dk_at dksX3_clean_2 20 rfl rfl)
theorem dX3_clean_65 : decode cX3_clean 65 = .ok (.l2i, 1) := dk_136 (dk_at dksX3_clean_2 21 rfl rfl)
theorem dX3_clean_66 : decode cX3_clean 66 = .ok (.i2l, 1) := dk_133 (dk_at dksX3_clean_2 22 rfl rfl)
theorem dX3_clean_67 : decode cX3_clean 67 = .ok (.lreturn, 1) := dk_173 (dk_at dksX3_clean_2 23 rfl rfl)
theorem dX3_clean_68 : decode cX3_clean 68 = .ok (.lload_n 1, 1) := dk_31 (dk_at dksX3_clean_3 0 rfl rfl)
theorem dX3_clean_69 : decode cX3_clean 69 = .ok (.lreturn, 1) := dk_173 (dk_at dksX3_clean_3 1 rfl rfl)
theorem dX3_clean_70 : decode cX3_clean 70 = .ok (.lload_n 1, 1) := dk_31 (dk_at dksX3_clean_3 2 rfl rfl)
theorem dX3_clean_71 : decode cX3_clean 71 = .ok (.ldc2_w 135, 3) := dk_20 0 135 (dk_at dksX3_clean_3 3 rfl rfl)
theorem dX3_clean_74 : decode cX3_clean 74 = .ok (.land, 1) := dk_127 (dk_at dksX3_clean_3 6 rfl rfl)
theorem dX3_clean_75 : decode cX3_clean 75 = .ok (.ldc2_w 137, 3) := dk_20 0 137 (dk_at dksX3_clean_3 7 rfl rfl)
theorem dX3_clean_78 : decode cX3_clean 78 = .ok (.lcmp, 1) := dk_148 (dk_at dksX3_clean_3 10 rfl rfl)
theorem dX3_clean_79 : decode cX3_clean 79 = .ok (.ifCond .le 9, 3) := dk_158 0 9 (dk_at dksX3_clean_3 11 rfl rfl)
theorem dX3_clean_82 : decode cX3_clean 82 = .ok (.ldc2_w 139, 3) := dk_20 0 139 (dk_at dksX3_clean_3 14 rfl rfl)
theorem dX3_clean_85 : decode cX3_clean 85 = .ok (.goto 6, 3) := dk_167 0 6 (dk_at dksX3_clean_3 17 rfl rfl)
theorem dX3_clean_88 : decode cX3_clean 88 = .ok (.lload_n 1, 1) := dk_31 (dk_at dksX3_clean_3 20 rfl rfl)
theorem dX3_clean_89 : decode cX3_clean 89 = .ok (.l2i, 1) := dk_136 (dk_at dksX3_clean_3 21 rfl rfl)
theorem dX3_clean_90 : decode cX3_clean 90 = .ok (.i2l, 1) := dk_133 (dk_at dksX3_clean_3 22 rfl rfl)
theorem dX3_clean_91 : decode cX3_clean 91 = .ok (.lreturn, 1) := dk_173 (dk_at dksX3_clean_3 23 rfl rfl)
theorem dX3_clean_92 : decode cX3_clean 92 = .ok (.lload_n 1, 1) := dk_31 (dk_at dksX3_clean_4 0 rfl rfl)
theorem dX3_clean_93 : decode cX3_clean 93 = .ok (.ldc2_w 141, 3) := dk_20 0 141 (dk_at dksX3_clean_4 1 rfl rfl)
theorem dX3_clean_96 : decode cX3_clean 96 = .ok (.land, 1) := dk_127 (dk_at dksX3_clean_4 4 rfl rfl)
theorem dX3_clean_97 : decode cX3_clean 97 = .ok (.ldc2_w 120, 3) := dk_20 0 120 (dk_at dksX3_clean_4 5 rfl rfl)
theorem dX3_clean_100 : decode cX3_clean 100 = .ok (.lcmp, 1) := dk_148 (dk_at dksX3_clean_4 8 rfl rfl)
theorem dX3_clean_101 : decode cX3_clean 101 = .ok (.ifCond .le 9, 3) := dk_158 0 9 (dk_at dksX3_clean_4 9 rfl rfl)
theorem dX3_clean_104 : decode cX3_clean 104 = .ok (.ldc2_w 112, 3) := dk_20 0 112 (dk_at dksX3_clean_4 12 rfl rfl)
theorem dX3_clean_107 : decode cX3_clean 107 = .ok (.goto 4, 3) := dk_167 0 4 (dk_at dksX3_clean_4 15 rfl rfl)
theorem dX3_clean_110 : decode cX3_clean 110 = .ok (.lload_n 1, 1) := dk_31 (dk_at dksX3_clean_4 18 rfl rfl)
theorem dX3_clean_111 : decode cX3_clean 111 = .ok (.lreturn, 1) := dk_173 (dk_at dksX3_clean_4 19 rfl rfl)
abbrev cX3_single : ByteArray := prog_11_method_17_code
def yX3_single : MethodName := ⟨RX3, "single", "(I)F"⟩
def dkwX3_single_3 : List UInt8 := [74, 26, 156, 0, 8, 41, 119, 167, 0, 4, 41, 144, 174]
abbrev dktX3_single_3 : List UInt8 := dkwX3_single_3 ++ []
def dkwX3_single_2 : List UInt8 := [28, 133, 17, 255, 107, 184, 0, 99, 167, 0, 16, 28, 18, 111, 128, 133, 27, 17, 0, 150, 100, 184, 0, 99]
abbrev dktX3_single_2 : List UInt8 := dkwX3_single_2 ++ dktX3_single_3
def dkwX3_single_1 : List UInt8 := [153, 0, 8, 18, 108, 167, 0, 14, 26, 156, 0, 8, 18, 109, 167, 0, 5, 18, 110, 174, 27, 154, 0, 14]
abbrev dktX3_single_1 : List UInt8 := dkwX3_single_1 ++ dktX3_single_2
def dkwX3_single_0 : List UInt8 := [26, 16, 23, 124, 17, 0, 255, 126, 60, 26, 18, 105, 126, 61, 27, 17, 0, 255, 160, 0, 24, 28]
abbrev dktX3_single_0 : List UInt8 := dkwX3_single_0 ++ dktX3_single_1
theorem dksX3_single_0 : cX3_single.data.toList.drop 0 = dktX3_single_0 := by decide +kernel
theorem dksX3_single_1 : cX3_single.data.toList.drop 22 = dktX3_single_1 := dk_seg dksX3_single_0 22 rfl rfl
theorem dksX3_single_2 : cX3_single.data.toList.drop 46 = dktX3_single_2 := dk_seg dksX3_single_1 24 rfl rfl
theorem dksX3_single_3 : cX3_single.data.toList.drop 70 = dktX3_single_3 := dk_seg dksX3_single_2 24 rfl rfl
theorem dX3_single_0 : decode cX3_single 0 = .ok (.iload_n 0, 1) := dk_26 (dk_at dksX3_single_0 0 rfl rfl)
theorem dX3_single_1 : decode cX3_single 1 = .ok (.bipush 23, 2) := dk_16 23 (dk_at dksX3_single_0 1 rfl rfl)
theorem dX3_single_3 : decode cX3_single 3 = .ok (.iushr, 1) := dk_124 (dk_at dksX3_single_0 3 rfl rfl)
theorem dX3_single_4 : decode cX3_single 4 = .ok (.sipush 255, 3) := dk_17 0 255 (dk_at dksX3_single_0 4 rfl rfl)
theorem dX3_single_7 : decode cX3_single 7 = .ok (.iand, 1) := dk_126 (dk_at dksX3_single_0 7 rfl rfl)
theorem dX3_single_8 : decode cX3_single 8 = .ok (.istore_n 1, 1) := dk_60 (dk_at dksX3_single_0 8 rfl rfl)
theorem dX3_single_9 : decode cX3_single 9 = .ok (.iload_n 0, 1) := dk_26 (dk_at dksX3_single_0 9 rfl rfl)
theorem dX3_single_10 : decode cX3_single 10 = .ok (.ldc 105, 2) := dk_18 105 (dk_at dksX3_single_0 10 rfl rfl)
theorem dX3_single_12 : decode cX3_single 12 = .ok (.iand, 1) := dk_126 (dk_at dksX3_single_0 12 rfl rfl)
theorem dX3_single_13 : decode cX3_single 13 = .ok (.istore_n 2, 1) := dk_61 (dk_at dksX3_single_0 13 rfl rfl)
theorem dX3_single_14 : decode cX3_single 14 = .ok (.iload_n 1, 1) := dk_27 (dk_at dksX3_single_0 14 rfl rfl)
theorem dX3_single_15 : decode cX3_single 15 = .ok (.sipush 255, 3) := dk_17 0 255 (dk_at dksX3_single_0 15 rfl rfl)
theorem dX3_single_18 : decode cX3_single 18 = .ok (.if_icmp .ne 24, 3) := dk_160 0 24 (dk_at dksX3_single_0 18 rfl rfl)
theorem dX3_single_21 : decode cX3_single 21 = .ok (.iload_n 2, 1) := dk_28 (dk_at dksX3_single_0 21 rfl rfl)
theorem dX3_single_22 : decode cX3_single 22 = .ok (.ifCond .eq 8, 3) := dk_153 0 8 (dk_at dksX3_single_1 0 rfl rfl)
theorem dX3_single_25 : decode cX3_single 25 = .ok (.ldc 108, 2) := dk_18 108 (dk_at dksX3_single_1 3 rfl rfl)
theorem dX3_single_27 : decode cX3_single 27 = .ok (.goto 14, 3) := dk_167 0 14 (dk_at dksX3_single_1 5 rfl rfl)
theorem dX3_single_30 : decode cX3_single 30 = .ok (.iload_n 0, 1) := dk_26 (dk_at dksX3_single_1 8 rfl rfl)
theorem dX3_single_31 : decode cX3_single 31 = .ok (.ifCond .ge 8, 3) := dk_156 0 8 (dk_at dksX3_single_1 9 rfl rfl)
theorem dX3_single_34 : decode cX3_single 34 = .ok (.ldc 109, 2) := dk_18 109 (dk_at dksX3_single_1 12 rfl rfl)
theorem dX3_single_36 : decode cX3_single 36 = .ok (.goto 5, 3) := dk_167 0 5 (dk_at dksX3_single_1 14 rfl rfl)
theorem dX3_single_39 : decode cX3_single 39 = .ok (.ldc 110, 2) := dk_18 110 (dk_at dksX3_single_1 17 rfl rfl)
theorem dX3_single_41 : decode cX3_single 41 = .ok (.freturn, 1) := dk_174 (dk_at dksX3_single_1 19 rfl rfl)
theorem dX3_single_42 : decode cX3_single 42 = .ok (.iload_n 1, 1) := dk_27 (dk_at dksX3_single_1 20 rfl rfl)
theorem dX3_single_43 : decode cX3_single 43 = .ok (.ifCond .ne 14, 3) := dk_154 0 14 (dk_at dksX3_single_1 21 rfl rfl)
theorem dX3_single_46 : decode cX3_single 46 = .ok (.iload_n 2, 1) := dk_28 (dk_at dksX3_single_2 0 rfl rfl)
theorem dX3_single_47 : decode cX3_single 47 = .ok (.i2l, 1) := dk_133 (dk_at dksX3_single_2 1 rfl rfl)
theorem dX3_single_48 : decode cX3_single 48 = .ok (.sipush (-149), 3) := dk_17 255 107 (dk_at dksX3_single_2 2 rfl rfl)
theorem dX3_single_51 : decode cX3_single 51 = .ok (.invokestatic 99, 3) := dk_184 0 99 (dk_at dksX3_single_2 5 rfl rfl)
theorem dX3_single_54 : decode cX3_single 54 = .ok (.goto 16, 3) := dk_167 0 16 (dk_at dksX3_single_2 8 rfl rfl)
theorem dX3_single_57 : decode cX3_single 57 = .ok (.iload_n 2, 1) := dk_28 (dk_at dksX3_single_2 11 rfl rfl)
theorem dX3_single_58 : decode cX3_single 58 = .ok (.ldc 111, 2) := dk_18 111 (dk_at dksX3_single_2 12 rfl rfl)
theorem dX3_single_60 : decode cX3_single 60 = .ok (.ior, 1) := dk_128 (dk_at dksX3_single_2 14 rfl rfl)
theorem dX3_single_61 : decode cX3_single 61 = .ok (.i2l, 1) := dk_133 (dk_at dksX3_single_2 15 rfl rfl)
theorem dX3_single_62 : decode cX3_single 62 = .ok (.iload_n 1, 1) := dk_27 (dk_at dksX3_single_2 16 rfl rfl)
theorem dX3_single_63 : decode cX3_single 63 = .ok (.sipush 150, 3) := dk_17 0 150 (dk_at dksX3_single_2 17 rfl rfl)
theorem dX3_single_66 : decode cX3_single 66 = .ok (.isub, 1) := dk_100 (dk_at dksX3_single_2 20 rfl rfl)
theorem dX3_single_67 : decode cX3_single 67 = .ok (.invokestatic 99, 3) := dk_184 0 99 (dk_at dksX3_single_2 21 rfl rfl)
theorem dX3_single_70 : decode cX3_single 70 = .ok (.dstore_n 3, 1) := dk_74 (dk_at dksX3_single_3 0 rfl rfl)
theorem dX3_single_71 : decode cX3_single 71 = .ok (.iload_n 0, 1) := dk_26 (dk_at dksX3_single_3 1 rfl rfl)
theorem dX3_single_72 : decode cX3_single 72 = .ok (.ifCond .ge 8, 3) := dk_156 0 8 (dk_at dksX3_single_3 2 rfl rfl)
theorem dX3_single_75 : decode cX3_single 75 = .ok (.dload_n 3, 1) := dk_41 (dk_at dksX3_single_3 5 rfl rfl)
theorem dX3_single_76 : decode cX3_single 76 = .ok (.dneg, 1) := dk_119 (dk_at dksX3_single_3 6 rfl rfl)
theorem dX3_single_77 : decode cX3_single 77 = .ok (.goto 4, 3) := dk_167 0 4 (dk_at dksX3_single_3 7 rfl rfl)
theorem dX3_single_80 : decode cX3_single 80 = .ok (.dload_n 3, 1) := dk_41 (dk_at dksX3_single_3 10 rfl rfl)
theorem dX3_single_81 : decode cX3_single 81 = .ok (.d2f, 1) := dk_144 (dk_at dksX3_single_3 11 rfl rfl)
theorem dX3_single_82 : decode cX3_single 82 = .ok (.freturn, 1) := dk_174 (dk_at dksX3_single_3 12 rfl rfl)
abbrev cX3_moved : ByteArray := prog_11_method_15_code
def yX3_moved : MethodName := ⟨RX3, "moved", "(JI)D"⟩
def dkwX3_moved_2 : List UInt8 := [184, 0, 85, 107, 74, 21, 5, 21, 6, 100, 54, 5, 167, 255, 204, 41, 175]
abbrev dktX3_moved_2 : List UInt8 := dkwX3_moved_2 ++ []
def dkwX3_moved_1 : List UInt8 := [167, 0, 19, 21, 5, 17, 254, 12, 162, 0, 9, 17, 254, 12, 167, 0, 5, 21, 5, 54, 6, 41, 21, 6]
abbrev dktX3_moved_1 : List UInt8 := dkwX3_moved_1 ++ dktX3_moved_2
def dkwX3_moved_0 : List UInt8 := [30, 138, 74, 28, 54, 5, 21, 5, 153, 0, 53, 21, 5, 17, 1, 244, 164, 0, 9, 17, 1, 244]
abbrev dktX3_moved_0 : List UInt8 := dkwX3_moved_0 ++ dktX3_moved_1
theorem dksX3_moved_0 : cX3_moved.data.toList.drop 0 = dktX3_moved_0 := by decide +kernel
theorem dksX3_moved_1 : cX3_moved.data.toList.drop 22 = dktX3_moved_1 := dk_seg dksX3_moved_0 22 rfl rfl
theorem dksX3_moved_2 : cX3_moved.data.toList.drop 46 = dktX3_moved_2 := dk_seg dksX3_moved_1 24 rfl rfl
theorem dX3_moved_0 : decode cX3_moved 0 = .ok (.lload_n 0, 1) := dk_30 (dk_at dksX3_moved_0 0 rfl rfl)
theorem dX3_moved_1 : decode cX3_moved 1 = .ok (.l2d, 1) := dk_138 (dk_at dksX3_moved_0 1 rfl rfl)
theorem dX3_moved_2 : decode cX3_moved 2 = .ok (.dstore_n 3, 1) := dk_74 (dk_at dksX3_moved_0 2 rfl rfl)
theorem dX3_moved_3 : decode cX3_moved 3 = .ok (.iload_n 2, 1) := dk_28 (dk_at dksX3_moved_0 3 rfl rfl)
theorem dX3_moved_4 : decode cX3_moved 4 = .ok (.istore 5, 2) := dk_54 5 (dk_at dksX3_moved_0 4 rfl rfl)
theorem dX3_moved_6 : decode cX3_moved 6 = .ok (.iload 5, 2) := dk_21 5 (dk_at dksX3_moved_0 6 rfl rfl)
theorem dX3_moved_8 : decode cX3_moved 8 = .ok (.ifCond .eq 53, 3) := dk_153 0 53 (dk_at dksX3_moved_0 8 rfl rfl)
theorem dX3_moved_11 : decode cX3_moved 11 = .ok (.iload 5, 2) := dk_21 5 (dk_at dksX3_moved_0 11 rfl rfl)
theorem dX3_moved_13 : decode cX3_moved 13 = .ok (.sipush 500, 3) := dk_17 1 244 (dk_at dksX3_moved_0 13 rfl rfl)
theorem dX3_moved_16 : decode cX3_moved 16 = .ok (.if_icmp .le 9, 3) := dk_164 0 9 (dk_at dksX3_moved_0 16 rfl rfl)
theorem dX3_moved_19 : decode cX3_moved 19 = .ok (.sipush 500, 3) := dk_17 1 244 (dk_at dksX3_moved_0 19 rfl rfl)
theorem dX3_moved_22 : decode cX3_moved 22 = .ok (.goto 19, 3) := dk_167 0 19 (dk_at dksX3_moved_1 0 rfl rfl)
theorem dX3_moved_25 : decode cX3_moved 25 = .ok (.iload 5, 2) := dk_21 5 (dk_at dksX3_moved_1 3 rfl rfl)
theorem dX3_moved_27 : decode cX3_moved 27 = .ok (.sipush (-500), 3) := dk_17 254 12 (dk_at dksX3_moved_1 5 rfl rfl)
theorem dX3_moved_30 : decode cX3_moved 30 = .ok (.if_icmp .ge 9, 3) := dk_162 0 9 (dk_at dksX3_moved_1 8 rfl rfl)
theorem dX3_moved_33 : decode cX3_moved 33 = .ok (.sipush (-500), 3) := dk_17 254 12 (dk_at dksX3_moved_1 11 rfl rfl)
theorem dX3_moved_36 : decode cX3_moved 36 = .ok (.goto 5, 3) := dk_167 0 5 (dk_at dksX3_moved_1 14 rfl rfl)
theorem dX3_moved_39 : decode cX3_moved 39 = .ok (.iload 5, 2) := dk_21 5 (dk_at dksX3_moved_1 17 rfl rfl)
theorem dX3_moved_41 : decode cX3_moved 41 = .ok (.istore 6, 2) := dk_54 6 (dk_at dksX3_moved_1 19 rfl rfl)
theorem dX3_moved_43 : decode cX3_moved 43 = .ok (.dload_n 3, 1) := dk_41 (dk_at dksX3_moved_1 21 rfl rfl)
theorem dX3_moved_44 : decode cX3_moved 44 = .ok (.iload 6, 2) := dk_21 6 (dk_at dksX3_moved_1 22 rfl rfl)
theorem dX3_moved_46 : decode cX3_moved 46 = .ok (.invokestatic 85, 3) := dk_184 0 85 (dk_at dksX3_moved_2 0 rfl rfl)
theorem dX3_moved_49 : decode cX3_moved 49 = .ok (.dmul, 1) := dk_107 (dk_at dksX3_moved_2 3 rfl rfl)
theorem dX3_moved_50 : decode cX3_moved 50 = .ok (.dstore_n 3, 1) := dk_74 (dk_at dksX3_moved_2 4 rfl rfl)
theorem dX3_moved_51 : decode cX3_moved 51 = .ok (.iload 5, 2) := dk_21 5 (dk_at dksX3_moved_2 5 rfl rfl)
theorem dX3_moved_53 : decode cX3_moved 53 = .ok (.iload 6, 2) := dk_21 6 (dk_at dksX3_moved_2 7 rfl rfl)
theorem dX3_moved_55 : decode cX3_moved 55 = .ok (.isub, 1) := dk_100 (dk_at dksX3_moved_2 9 rfl rfl)
theorem dX3_moved_56 : decode cX3_moved 56 = .ok (.istore 5, 2) := dk_54 5 (dk_at dksX3_moved_2 10 rfl rfl)
theorem dX3_moved_58 : decode cX3_moved 58 = .ok (.goto (-52), 3) := dk_167 255 204 (dk_at dksX3_moved_2 12 rfl rfl)
theorem dX3_moved_61 : decode cX3_moved 61 = .ok (.dload_n 3, 1) := dk_41 (dk_at dksX3_moved_2 15 rfl rfl)
theorem dX3_moved_62 : decode cX3_moved 62 = .ok (.dreturn, 1) := dk_175 (dk_at dksX3_moved_2 16 rfl rfl)
abbrev cX3_castSingle : ByteArray := prog_11_method_24_code
def yX3_castSingle : MethodName := ⟨RX3, "castSingle", "(IF)J"⟩
def dkwX3_castSingle_1 : List UInt8 := [26, 8, 160, 0, 8, 35, 140, 167, 0, 10, 26, 35, 139, 133, 184, 0, 171, 173]
abbrev dktX3_castSingle_1 : List UInt8 := dkwX3_castSingle_1 ++ []
def dkwX3_castSingle_0 : List UInt8 := [26, 16, 7, 160, 0, 21, 35, 35, 149, 153, 0, 9, 20, 0, 112, 167, 0, 8, 35, 141, 184, 0, 167, 173]
abbrev dktX3_castSingle_0 : List UInt8 := dkwX3_castSingle_0 ++ dktX3_castSingle_1
theorem dksX3_castSingle_0 : cX3_castSingle.data.toList.drop 0 = dktX3_castSingle_0 := by decide +kernel
theorem dksX3_castSingle_1 : cX3_castSingle.data.toList.drop 24 = dktX3_castSingle_1 := dk_seg dksX3_castSingle_0 24 rfl rfl
theorem dX3_castSingle_0 : decode cX3_castSingle 0 = .ok (.iload_n 0, 1) := dk_26 (dk_at dksX3_castSingle_0 0 rfl rfl)
theorem dX3_castSingle_1 : decode cX3_castSingle 1 = .ok (.bipush 7, 2) := dk_16 7 (dk_at dksX3_castSingle_0 1 rfl rfl)
theorem dX3_castSingle_3 : decode cX3_castSingle 3 = .ok (.if_icmp .ne 21, 3) := dk_160 0 21 (dk_at dksX3_castSingle_0 3 rfl rfl)
theorem dX3_castSingle_6 : decode cX3_castSingle 6 = .ok (.fload_n 1, 1) := dk_35 (dk_at dksX3_castSingle_0 6 rfl rfl)
theorem dX3_castSingle_7 : decode cX3_castSingle 7 = .ok (.fload_n 1, 1) := dk_35 (dk_at dksX3_castSingle_0 7 rfl rfl)
theorem dX3_castSingle_8 : decode cX3_castSingle 8 = .ok (.fcmp .l, 1) := dk_149 (dk_at dksX3_castSingle_0 8 rfl rfl)
theorem dX3_castSingle_9 : decode cX3_castSingle 9 = .ok (.ifCond .eq 9, 3) := dk_153 0 9 (dk_at dksX3_castSingle_0 9 rfl rfl)
theorem dX3_castSingle_12 : decode cX3_castSingle 12 = .ok (.ldc2_w 112, 3) := dk_20 0 112 (dk_at dksX3_castSingle_0 12 rfl rfl)
theorem dX3_castSingle_15 : decode cX3_castSingle 15 = .ok (.goto 8, 3) := dk_167 0 8 (dk_at dksX3_castSingle_0 15 rfl rfl)
theorem dX3_castSingle_18 : decode cX3_castSingle 18 = .ok (.fload_n 1, 1) := dk_35 (dk_at dksX3_castSingle_0 18 rfl rfl)
theorem dX3_castSingle_19 : decode cX3_castSingle 19 = .ok (.f2d, 1) := dk_141 (dk_at dksX3_castSingle_0 19 rfl rfl)
theorem dX3_castSingle_20 : decode cX3_castSingle 20 = .ok (.invokestatic 167, 3) := dk_184 0 167 (dk_at dksX3_castSingle_0 20 rfl rfl)
theorem dX3_castSingle_23 : decode cX3_castSingle 23 = .ok (.lreturn, 1) := dk_173 (dk_at dksX3_castSingle_0 23 rfl rfl)
theorem dX3_castSingle_24 : decode cX3_castSingle 24 = .ok (.iload_n 0, 1) := dk_26 (dk_at dksX3_castSingle_1 0 rfl rfl)
theorem dX3_castSingle_25 : decode cX3_castSingle 25 = .ok (.iconst 5, 1) := dk_8 (dk_at dksX3_castSingle_1 1 rfl rfl)
theorem dX3_castSingle_26 : decode cX3_castSingle 26 = .ok (.if_icmp .ne 8, 3) := dk_160 0 8 (dk_at dksX3_castSingle_1 2 rfl rfl)
theorem dX3_castSingle_29 : decode cX3_castSingle 29 = .ok (.fload_n 1, 1) := dk_35 (dk_at dksX3_castSingle_1 5 rfl rfl)
theorem dX3_castSingle_30 : decode cX3_castSingle 30 = .ok (.f2l, 1) := dk_140 (dk_at dksX3_castSingle_1 6 rfl rfl)
theorem dX3_castSingle_31 : decode cX3_castSingle 31 = .ok (.goto 10, 3) := dk_167 0 10 (dk_at dksX3_castSingle_1 7 rfl rfl)
theorem dX3_castSingle_34 : decode cX3_castSingle 34 = .ok (.iload_n 0, 1) := dk_26 (dk_at dksX3_castSingle_1 10 rfl rfl)
theorem dX3_castSingle_35 : decode cX3_castSingle 35 = .ok (.fload_n 1, 1) := dk_35 (dk_at dksX3_castSingle_1 11 rfl rfl)
theorem dX3_castSingle_36 : decode cX3_castSingle 36 = .ok (.f2i, 1) := dk_139 (dk_at dksX3_castSingle_1 12 rfl rfl)
theorem dX3_castSingle_37 : decode cX3_castSingle 37 = .ok (.i2l, 1) := dk_133 (dk_at dksX3_castSingle_1 13 rfl rfl)
theorem dX3_castSingle_38 : decode cX3_castSingle 38 = .ok (.invokestatic 171, 3) := dk_184 0 171 (dk_at dksX3_castSingle_1 14 rfl rfl)
theorem dX3_castSingle_41 : decode cX3_castSingle 41 = .ok (.lreturn, 1) := dk_173 (dk_at dksX3_castSingle_1 17 rfl rfl)
abbrev cX3_real : ByteArray := prog_11_method_16_code
def yX3_real : MethodName := ⟨RX3, "real", "(J)D"⟩
def dkwX3_real_3 : List UInt8 := [17, 4, 51, 100, 184, 0, 99, 57, 5, 30, 9, 148, 156, 0, 9, 24, 5, 119, 167, 0, 5, 24, 5, 175]
abbrev dktX3_real_3 : List UInt8 := dkwX3_real_3 ++ []
def dkwX3_real_2 : List UInt8 := [20, 0, 97, 175, 28, 154, 0, 13, 33, 17, 251, 206, 184, 0, 99, 167, 0, 16, 33, 20, 0, 103, 129, 28]
abbrev dktX3_real_2 : List UInt8 := dkwX3_real_2 ++ dktX3_real_3
def dkwX3_real_1 : List UInt8 := [9, 148, 153, 0, 9, 20, 0, 93, 167, 0, 18, 30, 9, 148, 156, 0, 9, 20, 0, 95, 167, 0, 6]
abbrev dktX3_real_1 : List UInt8 := dkwX3_real_1 ++ dktX3_real_2
def dkwX3_real_0 : List UInt8 := [30, 16, 52, 125, 136, 17, 7, 255, 126, 61, 30, 20, 0, 89, 127, 66, 28, 17, 7, 255, 160, 0, 31, 33]
abbrev dktX3_real_0 : List UInt8 := dkwX3_real_0 ++ dktX3_real_1
theorem dksX3_real_0 : cX3_real.data.toList.drop 0 = dktX3_real_0 := by decide +kernel
theorem dksX3_real_1 : cX3_real.data.toList.drop 24 = dktX3_real_1 := dk_seg dksX3_real_0 24 rfl rfl
theorem dksX3_real_2 : cX3_real.data.toList.drop 47 = dktX3_real_2 := dk_seg dksX3_real_1 23 rfl rfl
theorem dksX3_real_3 : cX3_real.data.toList.drop 71 = dktX3_real_3 := dk_seg dksX3_real_2 24 rfl rfl
theorem dX3_real_0 : decode cX3_real 0 = .ok (.lload_n 0, 1) := dk_30 (dk_at dksX3_real_0 0 rfl rfl)
theorem dX3_real_1 : decode cX3_real 1 = .ok (.bipush 52, 2) := dk_16 52 (dk_at dksX3_real_0 1 rfl rfl)
theorem dX3_real_3 : decode cX3_real 3 = .ok (.lushr, 1) := dk_125 (dk_at dksX3_real_0 3 rfl rfl)
theorem dX3_real_4 : decode cX3_real 4 = .ok (.l2i, 1) := dk_136 (dk_at dksX3_real_0 4 rfl rfl)
theorem dX3_real_5 : decode cX3_real 5 = .ok (.sipush 2047, 3) := dk_17 7 255 (dk_at dksX3_real_0 5 rfl rfl)
theorem dX3_real_8 : decode cX3_real 8 = .ok (.iand, 1) := dk_126 (dk_at dksX3_real_0 8 rfl rfl)
theorem dX3_real_9 : decode cX3_real 9 = .ok (.istore_n 2, 1) := dk_61 (dk_at dksX3_real_0 9 rfl rfl)
theorem dX3_real_10 : decode cX3_real 10 = .ok (.lload_n 0, 1) := dk_30 (dk_at dksX3_real_0 10 rfl rfl)
theorem dX3_real_11 : decode cX3_real 11 = .ok (.ldc2_w 89, 3) := dk_20 0 89 (dk_at dksX3_real_0 11 rfl rfl)
theorem dX3_real_14 : decode cX3_real 14 = .ok (.land, 1) := dk_127 (dk_at dksX3_real_0 14 rfl rfl)
theorem dX3_real_15 : decode cX3_real 15 = .ok (.lstore_n 3, 1) := dk_66 (dk_at dksX3_real_0 15 rfl rfl)
theorem dX3_real_16 : decode cX3_real 16 = .ok (.iload_n 2, 1) := dk_28 (dk_at dksX3_real_0 16 rfl rfl)
theorem dX3_real_17 : decode cX3_real 17 = .ok (.sipush 2047, 3) := dk_17 7 255 (dk_at dksX3_real_0 17 rfl rfl)
theorem dX3_real_20 : decode cX3_real 20 = .ok (.if_icmp .ne 31, 3) := dk_160 0 31 (dk_at dksX3_real_0 20 rfl rfl)
theorem dX3_real_23 : decode cX3_real 23 = .ok (.lload_n 3, 1) := dk_33 (dk_at dksX3_real_0 23 rfl rfl)
theorem dX3_real_24 : decode cX3_real 24 = .ok (.lconst 0, 1) := dk_9 (dk_at dksX3_real_1 0 rfl rfl)
theorem dX3_real_25 : decode cX3_real 25 = .ok (.lcmp, 1) := dk_148 (dk_at dksX3_real_1 1 rfl rfl)
theorem dX3_real_26 : decode cX3_real 26 = .ok (.ifCond .eq 9, 3) := dk_153 0 9 (dk_at dksX3_real_1 2 rfl rfl)
theorem dX3_real_29 : decode cX3_real 29 = .ok (.ldc2_w 93, 3) := dk_20 0 93 (dk_at dksX3_real_1 5 rfl rfl)
theorem dX3_real_32 : decode cX3_real 32 = .ok (.goto 18, 3) := dk_167 0 18 (dk_at dksX3_real_1 8 rfl rfl)
theorem dX3_real_35 : decode cX3_real 35 = .ok (.lload_n 0, 1) := dk_30 (dk_at dksX3_real_1 11 rfl rfl)
theorem dX3_real_36 : decode cX3_real 36 = .ok (.lconst 0, 1) := dk_9 (dk_at dksX3_real_1 12 rfl rfl)
theorem dX3_real_37 : decode cX3_real 37 = .ok (.lcmp, 1) := dk_148 (dk_at dksX3_real_1 13 rfl rfl)
theorem dX3_real_38 : decode cX3_real 38 = .ok (.ifCond .ge 9, 3) := dk_156 0 9 (dk_at dksX3_real_1 14 rfl rfl)
theorem dX3_real_41 : decode cX3_real 41 = .ok (.ldc2_w 95, 3) := dk_20 0 95 (dk_at dksX3_real_1 17 rfl rfl)
theorem dX3_real_44 : decode cX3_real 44 = .ok (.goto 6, 3) := dk_167 0 6 (dk_at dksX3_real_1 20 rfl rfl)
theorem dX3_real_47 : decode cX3_real 47 = .ok (.ldc2_w 97, 3) := dk_20 0 97 (dk_at dksX3_real_2 0 rfl rfl)
theorem dX3_real_50 : decode cX3_real 50 = .ok (.dreturn, 1) := dk_175 (dk_at dksX3_real_2 3 rfl rfl)
theorem dX3_real_51 : decode cX3_real 51 = .ok (.iload_n 2, 1) := dk_28 (dk_at dksX3_real_2 4 rfl rfl)
theorem dX3_real_52 : decode cX3_real 52 = .ok (.ifCond .ne 13, 3) := dk_154 0 13 (dk_at dksX3_real_2 5 rfl rfl)
theorem dX3_real_55 : decode cX3_real 55 = .ok (.lload_n 3, 1) := dk_33 (dk_at dksX3_real_2 8 rfl rfl)
theorem dX3_real_56 : decode cX3_real 56 = .ok (.sipush (-1074), 3) := dk_17 251 206 (dk_at dksX3_real_2 9 rfl rfl)
theorem dX3_real_59 : decode cX3_real 59 = .ok (.invokestatic 99, 3) := dk_184 0 99 (dk_at dksX3_real_2 12 rfl rfl)
theorem dX3_real_62 : decode cX3_real 62 = .ok (.goto 16, 3) := dk_167 0 16 (dk_at dksX3_real_2 15 rfl rfl)
theorem dX3_real_65 : decode cX3_real 65 = .ok (.lload_n 3, 1) := dk_33 (dk_at dksX3_real_2 18 rfl rfl)
theorem dX3_real_66 : decode cX3_real 66 = .ok (.ldc2_w 103, 3) := dk_20 0 103 (dk_at dksX3_real_2 19 rfl rfl)
theorem dX3_real_69 : decode cX3_real 69 = .ok (.lor, 1) := dk_129 (dk_at dksX3_real_2 22 rfl rfl)
theorem dX3_real_70 : decode cX3_real 70 = .ok (.iload_n 2, 1) := dk_28 (dk_at dksX3_real_2 23 rfl rfl)
theorem dX3_real_71 : decode cX3_real 71 = .ok (.sipush 1075, 3) := dk_17 4 51 (dk_at dksX3_real_3 0 rfl rfl)
theorem dX3_real_74 : decode cX3_real 74 = .ok (.isub, 1) := dk_100 (dk_at dksX3_real_3 3 rfl rfl)
theorem dX3_real_75 : decode cX3_real 75 = .ok (.invokestatic 99, 3) := dk_184 0 99 (dk_at dksX3_real_3 4 rfl rfl)
theorem dX3_real_78 : decode cX3_real 78 = .ok (.dstore 5, 2) := dk_57 5 (dk_at dksX3_real_3 7 rfl rfl)
theorem dX3_real_80 : decode cX3_real 80 = .ok (.lload_n 0, 1) := dk_30 (dk_at dksX3_real_3 9 rfl rfl)
theorem dX3_real_81 : decode cX3_real 81 = .ok (.lconst 0, 1) := dk_9 (dk_at dksX3_real_3 10 rfl rfl)
theorem dX3_real_82 : decode cX3_real 82 = .ok (.lcmp, 1) := dk_148 (dk_at dksX3_real_3 11 rfl rfl)
theorem dX3_real_83 : decode cX3_real 83 = .ok (.ifCond .ge 9, 3) := dk_156 0 9 (dk_at dksX3_real_3 12 rfl rfl)
theorem dX3_real_86 : decode cX3_real 86 = .ok (.dload 5, 2) := dk_24 5 (dk_at dksX3_real_3 15 rfl rfl)
theorem dX3_real_88 : decode cX3_real 88 = .ok (.dneg, 1) := dk_119 (dk_at dksX3_real_3 17 rfl rfl)
theorem dX3_real_89 : decode cX3_real 89 = .ok (.goto 5, 3) := dk_167 0 5 (dk_at dksX3_real_3 18 rfl rfl)
theorem dX3_real_92 : decode cX3_real 92 = .ok (.dload 5, 2) := dk_24 5 (dk_at dksX3_real_3 21 rfl rfl)
theorem dX3_real_94 : decode cX3_real 94 = .ok (.dreturn, 1) := dk_175 (dk_at dksX3_real_3 23 rfl rfl)
abbrev cX3_castReal : ByteArray := prog_11_method_25_code
def yX3_castReal : MethodName := ⟨RX3, "castReal", "(ID)J"⟩
def dkwX3_castReal_1 : List UInt8 := [173, 26, 8, 160, 0, 8, 39, 143, 167, 0, 10, 26, 39, 142, 133, 184, 0, 171, 173]
abbrev dktX3_castReal_1 : List UInt8 := dkwX3_castReal_1 ++ []
def dkwX3_castReal_0 : List UInt8 := [26, 16, 6, 160, 0, 22, 39, 39, 151, 153, 0, 9, 20, 0, 139, 167, 0, 9, 39, 144, 184, 0, 163, 133]
abbrev dktX3_castReal_0 : List UInt8 := dkwX3_castReal_0 ++ dktX3_castReal_1
theorem dksX3_castReal_0 : cX3_castReal.data.toList.drop 0 = dktX3_castReal_0 := by decide +kernel
theorem dksX3_castReal_1 : cX3_castReal.data.toList.drop 24 = dktX3_castReal_1 := dk_seg dksX3_castReal_0 24 rfl rfl
theorem dX3_castReal_0 : decode cX3_castReal 0 = .ok (.iload_n 0, 1) := dk_26 (dk_at dksX3_castReal_0 0 rfl rfl)
theorem dX3_castReal_1 : decode cX3_castReal 1 = .ok (.bipush 6, 2) := dk_16 6 (dk_at dksX3_castReal_0 1 rfl rfl)
theorem dX3_castReal_3 : decode cX3_castReal 3 = .ok (.if_icmp .ne 22, 3) := dk_160 0 22 (dk_at dksX3_castReal_0 3 rfl rfl)
theorem dX3_castReal_6 : decode cX3_castReal 6 = .ok (.dload_n 1, 1) := dk_39 (dk_at dksX3_castReal_0 6 rfl rfl)
theorem dX3_castReal_7 : decode cX3_castReal 7 = .ok (.dload_n 1, 1) := dk_39 (dk_at dksX3_castReal_0 7 rfl rfl)
theorem dX3_castReal_8 : decode cX3_castReal 8 = .ok (.dcmp .l, 1) := dk_151 (dk_at dksX3_castReal_0 8 rfl rfl)
theorem dX3_castReal_9 : decode cX3_castReal 9 = .ok (.ifCond .eq 9, 3) := dk_153 0 9 (dk_at dksX3_castReal_0 9 rfl rfl)
theorem dX3_castReal_12 : decode cX3_castReal 12 = .ok (.ldc2_w 139, 3) := dk_20 0 139 (dk_at dksX3_castReal_0 12 rfl rfl)
theorem dX3_castReal_15 : decode cX3_castReal 15 = .ok (.goto 9, 3) := dk_167 0 9 (dk_at dksX3_castReal_0 15 rfl rfl)
theorem dX3_castReal_18 : decode cX3_castReal 18 = .ok (.dload_n 1, 1) := dk_39 (dk_at dksX3_castReal_0 18 rfl rfl)
theorem dX3_castReal_19 : decode cX3_castReal 19 = .ok (.d2f, 1) := dk_144 (dk_at dksX3_castReal_0 19 rfl rfl)
theorem dX3_castReal_20 : decode cX3_castReal 20 = .ok (.invokestatic 163, 3) := dk_184 0 163 (dk_at dksX3_castReal_0 20 rfl rfl)
theorem dX3_castReal_23 : decode cX3_castReal 23 = .ok (.i2l, 1) := dk_133 (dk_at dksX3_castReal_0 23 rfl rfl)
theorem dX3_castReal_24 : decode cX3_castReal 24 = .ok (.lreturn, 1) := dk_173 (dk_at dksX3_castReal_1 0 rfl rfl)
theorem dX3_castReal_25 : decode cX3_castReal 25 = .ok (.iload_n 0, 1) := dk_26 (dk_at dksX3_castReal_1 1 rfl rfl)
theorem dX3_castReal_26 : decode cX3_castReal 26 = .ok (.iconst 5, 1) := dk_8 (dk_at dksX3_castReal_1 2 rfl rfl)
theorem dX3_castReal_27 : decode cX3_castReal 27 = .ok (.if_icmp .ne 8, 3) := dk_160 0 8 (dk_at dksX3_castReal_1 3 rfl rfl)
theorem dX3_castReal_30 : decode cX3_castReal 30 = .ok (.dload_n 1, 1) := dk_39 (dk_at dksX3_castReal_1 6 rfl rfl)
theorem dX3_castReal_31 : decode cX3_castReal 31 = .ok (.d2l, 1) := dk_143 (dk_at dksX3_castReal_1 7 rfl rfl)
theorem dX3_castReal_32 : decode cX3_castReal 32 = .ok (.goto 10, 3) := dk_167 0 10 (dk_at dksX3_castReal_1 8 rfl rfl)
theorem dX3_castReal_35 : decode cX3_castReal 35 = .ok (.iload_n 0, 1) := dk_26 (dk_at dksX3_castReal_1 11 rfl rfl)
theorem dX3_castReal_36 : decode cX3_castReal 36 = .ok (.dload_n 1, 1) := dk_39 (dk_at dksX3_castReal_1 12 rfl rfl)
theorem dX3_castReal_37 : decode cX3_castReal 37 = .ok (.d2i, 1) := dk_142 (dk_at dksX3_castReal_1 13 rfl rfl)
theorem dX3_castReal_38 : decode cX3_castReal 38 = .ok (.i2l, 1) := dk_133 (dk_at dksX3_castReal_1 14 rfl rfl)
theorem dX3_castReal_39 : decode cX3_castReal 39 = .ok (.invokestatic 171, 3) := dk_184 0 171 (dk_at dksX3_castReal_1 15 rfl rfl)
theorem dX3_castReal_42 : decode cX3_castReal 42 = .ok (.lreturn, 1) := dk_173 (dk_at dksX3_castReal_1 18 rfl rfl)
abbrev cX3_put : ByteArray := prog_11_method_42_code
def yX3_put : MethodName := ⟨RX3, "put", "(IIIJ)I"⟩
def dkwX3_put_4 : List UInt8 := [46, 29, 22, 4, 184, 0, 171, 184, 0, 207, 80, 4, 172]
abbrev dktX3_put_4 : List UInt8 := dkwX3_put_4 ++ []
def dkwX3_put_3 : List UInt8 := [42, 5, 182, 0, 177, 172, 42, 180, 0, 27, 16, 40, 21, 6, 104, 28, 96, 29, 42, 180, 0, 16, 21, 6]
abbrev dktX3_put_3 : List UInt8 := dkwX3_put_3 ++ dktX3_put_4
def dkwX3_put_2 : List UInt8 := [46, 29, 184, 0, 201, 154, 0, 9, 42, 4, 182, 0, 177, 172, 42, 21, 6, 28, 182, 0, 204, 154, 0, 9]
abbrev dktX3_put_2 : List UInt8 := dkwX3_put_2 ++ dktX3_put_3
def dkwX3_put_1 : List UInt8 := [21, 6, 182, 0, 198, 153, 0, 27, 29, 3, 16, 7, 184, 0, 67, 153, 0, 17, 42, 180, 0, 16, 21, 6]
abbrev dktX3_put_1 : List UInt8 := dkwX3_put_1 ++ dktX3_put_2
def dkwX3_put_0 : List UInt8 := [42, 182, 0, 174, 42, 27, 182, 0, 187, 54, 6, 21, 6, 154, 0, 9, 42, 6, 182, 0, 177, 172, 42]
abbrev dktX3_put_0 : List UInt8 := dkwX3_put_0 ++ dktX3_put_1
theorem dksX3_put_0 : cX3_put.data.toList.drop 0 = dktX3_put_0 := by decide +kernel
theorem dksX3_put_1 : cX3_put.data.toList.drop 23 = dktX3_put_1 := dk_seg dksX3_put_0 23 rfl rfl
theorem dksX3_put_2 : cX3_put.data.toList.drop 47 = dktX3_put_2 := dk_seg dksX3_put_1 24 rfl rfl
theorem dksX3_put_3 : cX3_put.data.toList.drop 71 = dktX3_put_3 := dk_seg dksX3_put_2 24 rfl rfl
theorem dksX3_put_4 : cX3_put.data.toList.drop 95 = dktX3_put_4 := dk_seg dksX3_put_3 24 rfl rfl
theorem dX3_put_0 : decode cX3_put 0 = .ok (.aload_n 0, 1) := dk_42 (dk_at dksX3_put_0 0 rfl rfl)
theorem dX3_put_1 : decode cX3_put 1 = .ok (.invokevirtual 174, 3) := dk_182 0 174 (dk_at dksX3_put_0 1 rfl rfl)
theorem dX3_put_4 : decode cX3_put 4 = .ok (.aload_n 0, 1) := dk_42 (dk_at dksX3_put_0 4 rfl rfl)
theorem dX3_put_5 : decode cX3_put 5 = .ok (.iload_n 1, 1) := dk_27 (dk_at dksX3_put_0 5 rfl rfl)
theorem dX3_put_6 : decode cX3_put 6 = .ok (.invokevirtual 187, 3) := dk_182 0 187 (dk_at dksX3_put_0 6 rfl rfl)
theorem dX3_put_9 : decode cX3_put 9 = .ok (.istore 6, 2) := dk_54 6 (dk_at dksX3_put_0 9 rfl rfl)
theorem dX3_put_11 : decode cX3_put 11 = .ok (.iload 6, 2) := dk_21 6 (dk_at dksX3_put_0 11 rfl rfl)
theorem dX3_put_13 : decode cX3_put 13 = .ok (.ifCond .ne 9, 3) := dk_154 0 9 (dk_at dksX3_put_0 13 rfl rfl)
theorem dX3_put_16 : decode cX3_put 16 = .ok (.aload_n 0, 1) := dk_42 (dk_at dksX3_put_0 16 rfl rfl)
theorem dX3_put_17 : decode cX3_put 17 = .ok (.iconst 3, 1) := dk_6 (dk_at dksX3_put_0 17 rfl rfl)
theorem dX3_put_18 : decode cX3_put 18 = .ok (.invokevirtual 177, 3) := dk_182 0 177 (dk_at dksX3_put_0 18 rfl rfl)
theorem dX3_put_21 : decode cX3_put 21 = .ok (.ireturn, 1) := dk_172 (dk_at dksX3_put_0 21 rfl rfl)
theorem dX3_put_22 : decode cX3_put 22 = .ok (.aload_n 0, 1) := dk_42 (dk_at dksX3_put_0 22 rfl rfl)
theorem dX3_put_23 : decode cX3_put 23 = .ok (.iload 6, 2) := dk_21 6 (dk_at dksX3_put_1 0 rfl rfl)
theorem dX3_put_25 : decode cX3_put 25 = .ok (.invokevirtual 198, 3) := dk_182 0 198 (dk_at dksX3_put_1 2 rfl rfl)
theorem dX3_put_28 : decode cX3_put 28 = .ok (.ifCond .eq 27, 3) := dk_153 0 27 (dk_at dksX3_put_1 5 rfl rfl)
theorem dX3_put_31 : decode cX3_put 31 = .ok (.iload_n 3, 1) := dk_29 (dk_at dksX3_put_1 8 rfl rfl)
theorem dX3_put_32 : decode cX3_put 32 = .ok (.iconst 0, 1) := dk_3 (dk_at dksX3_put_1 9 rfl rfl)
theorem dX3_put_33 : decode cX3_put 33 = .ok (.bipush 7, 2) := dk_16 7 (dk_at dksX3_put_1 10 rfl rfl)
theorem dX3_put_35 : decode cX3_put 35 = .ok (.invokestatic 67, 3) := dk_184 0 67 (dk_at dksX3_put_1 12 rfl rfl)
theorem dX3_put_38 : decode cX3_put 38 = .ok (.ifCond .eq 17, 3) := dk_153 0 17 (dk_at dksX3_put_1 15 rfl rfl)
theorem dX3_put_41 : decode cX3_put 41 = .ok (.aload_n 0, 1) := dk_42 (dk_at dksX3_put_1 18 rfl rfl)
theorem dX3_put_42 : decode cX3_put 42 = .ok (.getfield 16, 3) := dk_180 0 16 (dk_at dksX3_put_1 19 rfl rfl)
theorem dX3_put_45 : decode cX3_put 45 = .ok (.iload 6, 2) := dk_21 6 (dk_at dksX3_put_1 22 rfl rfl)
theorem dX3_put_47 : decode cX3_put 47 = .ok (.iaload, 1) := dk_46 (dk_at dksX3_put_2 0 rfl rfl)
theorem dX3_put_48 : decode cX3_put 48 = .ok (.iload_n 3, 1) := dk_29 (dk_at dksX3_put_2 1 rfl rfl)
theorem dX3_put_49 : decode cX3_put 49 = .ok (.invokestatic 201, 3) := dk_184 0 201 (dk_at dksX3_put_2 2 rfl rfl)
theorem dX3_put_52 : decode cX3_put 52 = .ok (.ifCond .ne 9, 3) := dk_154 0 9 (dk_at dksX3_put_2 5 rfl rfl)
theorem dX3_put_55 : decode cX3_put 55 = .ok (.aload_n 0, 1) := dk_42 (dk_at dksX3_put_2 8 rfl rfl)
theorem dX3_put_56 : decode cX3_put 56 = .ok (.iconst 1, 1) := dk_4 (dk_at dksX3_put_2 9 rfl rfl)
theorem dX3_put_57 : decode cX3_put 57 = .ok (.invokevirtual 177, 3) := dk_182 0 177 (dk_at dksX3_put_2 10 rfl rfl)
theorem dX3_put_60 : decode cX3_put 60 = .ok (.ireturn, 1) := dk_172 (dk_at dksX3_put_2 13 rfl rfl)
theorem dX3_put_61 : decode cX3_put 61 = .ok (.aload_n 0, 1) := dk_42 (dk_at dksX3_put_2 14 rfl rfl)
theorem dX3_put_62 : decode cX3_put 62 = .ok (.iload 6, 2) := dk_21 6 (dk_at dksX3_put_2 15 rfl rfl)
theorem dX3_put_64 : decode cX3_put 64 = .ok (.iload_n 2, 1) := dk_28 (dk_at dksX3_put_2 17 rfl rfl)
theorem dX3_put_65 : decode cX3_put 65 = .ok (.invokevirtual 204, 3) := dk_182 0 204 (dk_at dksX3_put_2 18 rfl rfl)
theorem dX3_put_68 : decode cX3_put 68 = .ok (.ifCond .ne 9, 3) := dk_154 0 9 (dk_at dksX3_put_2 21 rfl rfl)
theorem dX3_put_71 : decode cX3_put 71 = .ok (.aload_n 0, 1) := dk_42 (dk_at dksX3_put_3 0 rfl rfl)
theorem dX3_put_72 : decode cX3_put 72 = .ok (.iconst 2, 1) := dk_5 (dk_at dksX3_put_3 1 rfl rfl)
theorem dX3_put_73 : decode cX3_put 73 = .ok (.invokevirtual 177, 3) := dk_182 0 177 (dk_at dksX3_put_3 2 rfl rfl)
theorem dX3_put_76 : decode cX3_put 76 = .ok (.ireturn, 1) := dk_172 (dk_at dksX3_put_3 5 rfl rfl)
theorem dX3_put_77 : decode cX3_put 77 = .ok (.aload_n 0, 1) := dk_42 (dk_at dksX3_put_3 6 rfl rfl)
theorem dX3_put_78 : decode cX3_put 78 = .ok (.getfield 27, 3) := dk_180 0 27 (dk_at dksX3_put_3 7 rfl rfl)
theorem dX3_put_81 : decode cX3_put 81 = .ok (.bipush 40, 2) := dk_16 40 (dk_at dksX3_put_3 10 rfl rfl)
theorem dX3_put_83 : decode cX3_put 83 = .ok (.iload 6, 2) := dk_21 6 (dk_at dksX3_put_3 12 rfl rfl)
theorem dX3_put_85 : decode cX3_put 85 = .ok (.imul, 1) := dk_104 (dk_at dksX3_put_3 14 rfl rfl)
theorem dX3_put_86 : decode cX3_put 86 = .ok (.iload_n 2, 1) := dk_28 (dk_at dksX3_put_3 15 rfl rfl)
theorem dX3_put_87 : decode cX3_put 87 = .ok (.iadd, 1) := dk_96 (dk_at dksX3_put_3 16 rfl rfl)
theorem dX3_put_88 : decode cX3_put 88 = .ok (.iload_n 3, 1) := dk_29 (dk_at dksX3_put_3 17 rfl rfl)
theorem dX3_put_89 : decode cX3_put 89 = .ok (.aload_n 0, 1) := dk_42 (dk_at dksX3_put_3 18 rfl rfl)
theorem dX3_put_90 : decode cX3_put 90 = .ok (.getfield 16, 3) := dk_180 0 16 (dk_at dksX3_put_3 19 rfl rfl)
theorem dX3_put_93 : decode cX3_put 93 = .ok (.iload 6, 2) := dk_21 6 (dk_at dksX3_put_3 22 rfl rfl)
theorem dX3_put_95 : decode cX3_put 95 = .ok (.iaload, 1) := dk_46 (dk_at dksX3_put_4 0 rfl rfl)
theorem dX3_put_96 : decode cX3_put 96 = .ok (.iload_n 3, 1) := dk_29 (dk_at dksX3_put_4 1 rfl rfl)
theorem dX3_put_97 : decode cX3_put 97 = .ok (.lload 4, 2) := dk_22 4 (dk_at dksX3_put_4 2 rfl rfl)
theorem dX3_put_99 : decode cX3_put 99 = .ok (.invokestatic 171, 3) := dk_184 0 171 (dk_at dksX3_put_4 4 rfl rfl)
theorem dX3_put_102 : decode cX3_put 102 = .ok (.invokestatic 207, 3) := dk_184 0 207 (dk_at dksX3_put_4 7 rfl rfl)
theorem dX3_put_105 : decode cX3_put 105 = .ok (.lastore, 1) := dk_80 (dk_at dksX3_put_4 10 rfl rfl)
theorem dX3_put_106 : decode cX3_put 106 = .ok (.iconst 1, 1) := dk_4 (dk_at dksX3_put_4 11 rfl rfl)
theorem dX3_put_107 : decode cX3_put 107 = .ok (.ireturn, 1) := dk_172 (dk_at dksX3_put_4 12 rfl rfl)
abbrev cX3_take : ByteArray := prog_11_method_43_code
def yX3_take : MethodName := ⟨RX3, "take", "(III)I"⟩
def dkwX3_take_3 : List UInt8 := [21, 4, 28, 182, 0, 71, 136, 79, 42, 42, 29, 182, 0, 187, 182, 0, 63, 172]
abbrev dktX3_take_3 : List UInt8 := dkwX3_take_3 ++ []
def dkwX3_take_2 : List UInt8 := [21, 4, 28, 182, 0, 204, 154, 0, 9, 42, 5, 182, 0, 177, 172, 42, 180, 0, 13, 29, 16, 15, 126, 42]
abbrev dktX3_take_2 : List UInt8 := dkwX3_take_2 ++ dktX3_take_3
def dkwX3_take_1 : List UInt8 := [180, 0, 16, 21, 4, 46, 16, 8, 16, 10, 184, 0, 67, 154, 0, 9, 42, 4, 182, 0, 177, 172, 42]
abbrev dktX3_take_1 : List UInt8 := dkwX3_take_1 ++ dktX3_take_2
def dkwX3_take_0 : List UInt8 := [42, 182, 0, 174, 42, 27, 182, 0, 187, 54, 4, 21, 4, 154, 0, 9, 42, 6, 182, 0, 177, 172, 42]
abbrev dktX3_take_0 : List UInt8 := dkwX3_take_0 ++ dktX3_take_1
theorem dksX3_take_0 : cX3_take.data.toList.drop 0 = dktX3_take_0 := by decide +kernel
theorem dksX3_take_1 : cX3_take.data.toList.drop 23 = dktX3_take_1 := dk_seg dksX3_take_0 23 rfl rfl
theorem dksX3_take_2 : cX3_take.data.toList.drop 46 = dktX3_take_2 := dk_seg dksX3_take_1 23 rfl rfl
theorem dksX3_take_3 : cX3_take.data.toList.drop 70 = dktX3_take_3 := dk_seg dksX3_take_2 24 rfl rfl
theorem dX3_take_0 : decode cX3_take 0 = .ok (.aload_n 0, 1) := dk_42 (dk_at dksX3_take_0 0 rfl rfl)
theorem dX3_take_1 : decode cX3_take 1 = .ok (.invokevirtual 174, 3) := dk_182 0 174 (dk_at dksX3_take_0 1 rfl rfl)
theorem dX3_take_4 : decode cX3_take 4 = .ok (.aload_n 0, 1) := dk_42 (dk_at dksX3_take_0 4 rfl rfl)
theorem dX3_take_5 : decode cX3_take 5 = .ok (.iload_n 1, 1) := dk_27 (dk_at dksX3_take_0 5 rfl rfl)
theorem dX3_take_6 : decode cX3_take 6 = .ok (.invokevirtual 187, 3) := dk_182 0 187 (dk_at dksX3_take_0 6 rfl rfl)
theorem dX3_take_9 : decode cX3_take 9 = .ok (.istore 4, 2) := dk_54 4 (dk_at dksX3_take_0 9 rfl rfl)
theorem dX3_take_11 : decode cX3_take 11 = .ok (.iload 4, 2) := dk_21 4 (dk_at dksX3_take_0 11 rfl rfl)
theorem dX3_take_13 : decode cX3_take 13 = .ok (.ifCond .ne 9, 3) := dk_154 0 9 (dk_at dksX3_take_0 13 rfl rfl)
theorem dX3_take_16 : decode cX3_take 16 = .ok (.aload_n 0, 1) := dk_42 (dk_at dksX3_take_0 16 rfl rfl)
theorem dX3_take_17 : decode cX3_take 17 = .ok (.iconst 3, 1) := dk_6 (dk_at dksX3_take_0 17 rfl rfl)
theorem dX3_take_18 : decode cX3_take 18 = .ok (.invokevirtual 177, 3) := dk_182 0 177 (dk_at dksX3_take_0 18 rfl rfl)
theorem dX3_take_21 : decode cX3_take 21 = .ok (.ireturn, 1) := dk_172 (dk_at dksX3_take_0 21 rfl rfl)
theorem dX3_take_22 : decode cX3_take 22 = .ok (.aload_n 0, 1) := dk_42 (dk_at dksX3_take_0 22 rfl rfl)
theorem dX3_take_23 : decode cX3_take 23 = .ok (.getfield 16, 3) := dk_180 0 16 (dk_at dksX3_take_1 0 rfl rfl)
theorem dX3_take_26 : decode cX3_take 26 = .ok (.iload 4, 2) := dk_21 4 (dk_at dksX3_take_1 3 rfl rfl)
theorem dX3_take_28 : decode cX3_take 28 = .ok (.iaload, 1) := dk_46 (dk_at dksX3_take_1 5 rfl rfl)
theorem dX3_take_29 : decode cX3_take 29 = .ok (.bipush 8, 2) := dk_16 8 (dk_at dksX3_take_1 6 rfl rfl)
theorem dX3_take_31 : decode cX3_take 31 = .ok (.bipush 10, 2) := dk_16 10 (dk_at dksX3_take_1 8 rfl rfl)
theorem dX3_take_33 : decode cX3_take 33 = .ok (.invokestatic 67, 3) := dk_184 0 67 (dk_at dksX3_take_1 10 rfl rfl)
theorem dX3_take_36 : decode cX3_take 36 = .ok (.ifCond .ne 9, 3) := dk_154 0 9 (dk_at dksX3_take_1 13 rfl rfl)
theorem dX3_take_39 : decode cX3_take 39 = .ok (.aload_n 0, 1) := dk_42 (dk_at dksX3_take_1 16 rfl rfl)
theorem dX3_take_40 : decode cX3_take 40 = .ok (.iconst 1, 1) := dk_4 (dk_at dksX3_take_1 17 rfl rfl)
theorem dX3_take_41 : decode cX3_take 41 = .ok (.invokevirtual 177, 3) := dk_182 0 177 (dk_at dksX3_take_1 18 rfl rfl)
theorem dX3_take_44 : decode cX3_take 44 = .ok (.ireturn, 1) := dk_172 (dk_at dksX3_take_1 21 rfl rfl)
theorem dX3_take_45 : decode cX3_take 45 = .ok (.aload_n 0, 1) := dk_42 (dk_at dksX3_take_1 22 rfl rfl)
theorem dX3_take_46 : decode cX3_take 46 = .ok (.iload 4, 2) := dk_21 4 (dk_at dksX3_take_2 0 rfl rfl)
theorem dX3_take_48 : decode cX3_take 48 = .ok (.iload_n 2, 1) := dk_28 (dk_at dksX3_take_2 2 rfl rfl)
theorem dX3_take_49 : decode cX3_take 49 = .ok (.invokevirtual 204, 3) := dk_182 0 204 (dk_at dksX3_take_2 3 rfl rfl)
theorem dX3_take_52 : decode cX3_take 52 = .ok (.ifCond .ne 9, 3) := dk_154 0 9 (dk_at dksX3_take_2 6 rfl rfl)
theorem dX3_take_55 : decode cX3_take 55 = .ok (.aload_n 0, 1) := dk_42 (dk_at dksX3_take_2 9 rfl rfl)
theorem dX3_take_56 : decode cX3_take 56 = .ok (.iconst 2, 1) := dk_5 (dk_at dksX3_take_2 10 rfl rfl)
theorem dX3_take_57 : decode cX3_take 57 = .ok (.invokevirtual 177, 3) := dk_182 0 177 (dk_at dksX3_take_2 11 rfl rfl)
theorem dX3_take_60 : decode cX3_take 60 = .ok (.ireturn, 1) := dk_172 (dk_at dksX3_take_2 14 rfl rfl)
theorem dX3_take_61 : decode cX3_take 61 = .ok (.aload_n 0, 1) := dk_42 (dk_at dksX3_take_2 15 rfl rfl)
theorem dX3_take_62 : decode cX3_take 62 = .ok (.getfield 13, 3) := dk_180 0 13 (dk_at dksX3_take_2 16 rfl rfl)
theorem dX3_take_65 : decode cX3_take 65 = .ok (.iload_n 3, 1) := dk_29 (dk_at dksX3_take_2 19 rfl rfl)
theorem dX3_take_66 : decode cX3_take 66 = .ok (.bipush 15, 2) := dk_16 15 (dk_at dksX3_take_2 20 rfl rfl)
theorem dX3_take_68 : decode cX3_take 68 = .ok (.iand, 1) := dk_126 (dk_at dksX3_take_2 22 rfl rfl)
theorem dX3_take_69 : decode cX3_take 69 = .ok (.aload_n 0, 1) := dk_42 (dk_at dksX3_take_2 23 rfl rfl)
theorem dX3_take_70 : decode cX3_take 70 = .ok (.iload 4, 2) := dk_21 4 (dk_at dksX3_take_3 0 rfl rfl)
theorem dX3_take_72 : decode cX3_take 72 = .ok (.iload_n 2, 1) := dk_28 (dk_at dksX3_take_3 2 rfl rfl)
theorem dX3_take_73 : decode cX3_take 73 = .ok (.invokevirtual 71, 3) := dk_182 0 71 (dk_at dksX3_take_3 3 rfl rfl)
theorem dX3_take_76 : decode cX3_take 76 = .ok (.l2i, 1) := dk_136 (dk_at dksX3_take_3 6 rfl rfl)
theorem dX3_take_77 : decode cX3_take 77 = .ok (.iastore, 1) := dk_79 (dk_at dksX3_take_3 7 rfl rfl)
theorem dX3_take_78 : decode cX3_take 78 = .ok (.aload_n 0, 1) := dk_42 (dk_at dksX3_take_3 8 rfl rfl)
theorem dX3_take_79 : decode cX3_take 79 = .ok (.aload_n 0, 1) := dk_42 (dk_at dksX3_take_3 9 rfl rfl)
theorem dX3_take_80 : decode cX3_take 80 = .ok (.iload_n 3, 1) := dk_29 (dk_at dksX3_take_3 10 rfl rfl)
theorem dX3_take_81 : decode cX3_take 81 = .ok (.invokevirtual 187, 3) := dk_182 0 187 (dk_at dksX3_take_3 11 rfl rfl)
theorem dX3_take_84 : decode cX3_take 84 = .ok (.invokevirtual 63, 3) := dk_182 0 63 (dk_at dksX3_take_3 14 rfl rfl)
theorem dX3_take_87 : decode cX3_take 87 = .ok (.ireturn, 1) := dk_172 (dk_at dksX3_take_3 17 rfl rfl)
abbrev cX3_give : ByteArray := prog_11_method_45_code
def yX3_give : MethodName := ⟨RX3, "give", "(IIIZ)I"⟩
def dkwX3_give_7 : List UInt8 := [28, 96, 21, 6, 133, 80, 4, 172]
abbrev dktX3_give_7 : List UInt8 := dkwX3_give_7 ++ []
def dkwX3_give_6 : List UInt8 := [21, 5, 46, 182, 0, 211, 154, 0, 9, 42, 8, 182, 0, 177, 172, 42, 180, 0, 27, 16, 40, 21, 5, 104]
abbrev dktX3_give_6 : List UInt8 := dkwX3_give_6 ++ dktX3_give_7
def dkwX3_give_5 : List UInt8 := [42, 21, 5, 28, 182, 0, 204, 154, 0, 9, 42, 5, 182, 0, 177, 172, 42, 21, 6, 42, 180, 0, 16]
abbrev dktX3_give_5 : List UInt8 := dkwX3_give_5 ++ dktX3_give_6
def dkwX3_give_4 : List UInt8 := [182, 0, 211, 154, 0, 10, 42, 16, 6, 182, 0, 177, 172, 21, 5, 154, 0, 9, 42, 6, 182, 0, 177, 172]
abbrev dktX3_give_4 : List UInt8 := dkwX3_give_4 ++ dktX3_give_5
def dkwX3_give_3 : List UInt8 := [3, 54, 7, 21, 7, 153, 0, 24, 42, 21, 6, 21, 4, 153, 0, 8, 16, 8, 167, 0, 5, 16, 9]
abbrev dktX3_give_3 : List UInt8 := dkwX3_give_3 ++ dktX3_give_4
def dkwX3_give_2 : List UInt8 := [21, 5, 46, 16, 9, 159, 0, 15, 42, 180, 0, 16, 21, 5, 46, 16, 10, 160, 0, 7, 4, 167, 0, 4]
abbrev dktX3_give_2 : List UInt8 := dkwX3_give_2 ++ dktX3_give_3
def dkwX3_give_1 : List UInt8 := [21, 4, 153, 0, 18, 42, 180, 0, 16, 21, 5, 46, 16, 8, 160, 0, 34, 167, 0, 27, 42, 180, 0, 16]
abbrev dktX3_give_1 : List UInt8 := dkwX3_give_1 ++ dktX3_give_2
def dkwX3_give_0 : List UInt8 := [42, 182, 0, 174, 42, 27, 182, 0, 187, 54, 5, 42, 29, 182, 0, 187, 54, 6, 21, 5, 153, 0, 47]
abbrev dktX3_give_0 : List UInt8 := dkwX3_give_0 ++ dktX3_give_1
theorem dksX3_give_0 : cX3_give.data.toList.drop 0 = dktX3_give_0 := by decide +kernel
theorem dksX3_give_1 : cX3_give.data.toList.drop 23 = dktX3_give_1 := dk_seg dksX3_give_0 23 rfl rfl
theorem dksX3_give_2 : cX3_give.data.toList.drop 47 = dktX3_give_2 := dk_seg dksX3_give_1 24 rfl rfl
theorem dksX3_give_3 : cX3_give.data.toList.drop 71 = dktX3_give_3 := dk_seg dksX3_give_2 24 rfl rfl
theorem dksX3_give_4 : cX3_give.data.toList.drop 94 = dktX3_give_4 := dk_seg dksX3_give_3 23 rfl rfl
theorem dksX3_give_5 : cX3_give.data.toList.drop 118 = dktX3_give_5 := dk_seg dksX3_give_4 24 rfl rfl
theorem dksX3_give_6 : cX3_give.data.toList.drop 141 = dktX3_give_6 := dk_seg dksX3_give_5 23 rfl rfl
theorem dksX3_give_7 : cX3_give.data.toList.drop 165 = dktX3_give_7 := dk_seg dksX3_give_6 24 rfl rfl
theorem dX3_give_0 : decode cX3_give 0 = .ok (.aload_n 0, 1) := dk_42 (dk_at dksX3_give_0 0 rfl rfl)
theorem dX3_give_1 : decode cX3_give 1 = .ok (.invokevirtual 174, 3) := dk_182 0 174 (dk_at dksX3_give_0 1 rfl rfl)
theorem dX3_give_4 : decode cX3_give 4 = .ok (.aload_n 0, 1) := dk_42 (dk_at dksX3_give_0 4 rfl rfl)
theorem dX3_give_5 : decode cX3_give 5 = .ok (.iload_n 1, 1) := dk_27 (dk_at dksX3_give_0 5 rfl rfl)
theorem dX3_give_6 : decode cX3_give 6 = .ok (.invokevirtual 187, 3) := dk_182 0 187 (dk_at dksX3_give_0 6 rfl rfl)
theorem dX3_give_9 : decode cX3_give 9 = .ok (.istore 5, 2) := dk_54 5 (dk_at dksX3_give_0 9 rfl rfl)
theorem dX3_give_11 : decode cX3_give 11 = .ok (.aload_n 0, 1) := dk_42 (dk_at dksX3_give_0 11 rfl rfl)
theorem dX3_give_12 : decode cX3_give 12 = .ok (.iload_n 3, 1) := dk_29 (dk_at dksX3_give_0 12 rfl rfl)
theorem dX3_give_13 : decode cX3_give 13 = .ok (.invokevirtual 187, 3) := dk_182 0 187 (dk_at dksX3_give_0 13 rfl rfl)
theorem dX3_give_16 : decode cX3_give 16 = .ok (.istore 6, 2) := dk_54 6 (dk_at dksX3_give_0 16 rfl rfl)
theorem dX3_give_18 : decode cX3_give 18 = .ok (.iload 5, 2) := dk_21 5 (dk_at dksX3_give_0 18 rfl rfl)
theorem dX3_give_20 : decode cX3_give 20 = .ok (.ifCond .eq 47, 3) := dk_153 0 47 (dk_at dksX3_give_0 20 rfl rfl)
theorem dX3_give_23 : decode cX3_give 23 = .ok (.iload 4, 2) := dk_21 4 (dk_at dksX3_give_1 0 rfl rfl)
theorem dX3_give_25 : decode cX3_give 25 = .ok (.ifCond .eq 18, 3) := dk_153 0 18 (dk_at dksX3_give_1 2 rfl rfl)
theorem dX3_give_28 : decode cX3_give 28 = .ok (.aload_n 0, 1) := dk_42 (dk_at dksX3_give_1 5 rfl rfl)
theorem dX3_give_29 : decode cX3_give 29 = .ok (.getfield 16, 3) := dk_180 0 16 (dk_at dksX3_give_1 6 rfl rfl)
theorem dX3_give_32 : decode cX3_give 32 = .ok (.iload 5, 2) := dk_21 5 (dk_at dksX3_give_1 9 rfl rfl)
theorem dX3_give_34 : decode cX3_give 34 = .ok (.iaload, 1) := dk_46 (dk_at dksX3_give_1 11 rfl rfl)
theorem dX3_give_35 : decode cX3_give 35 = .ok (.bipush 8, 2) := dk_16 8 (dk_at dksX3_give_1 12 rfl rfl)
theorem dX3_give_37 : decode cX3_give 37 = .ok (.if_icmp .ne 34, 3) := dk_160 0 34 (dk_at dksX3_give_1 14 rfl rfl)
theorem dX3_give_40 : decode cX3_give 40 = .ok (.goto 27, 3) := dk_167 0 27 (dk_at dksX3_give_1 17 rfl rfl)
theorem dX3_give_43 : decode cX3_give 43 = .ok (.aload_n 0, 1) := dk_42 (dk_at dksX3_give_1 20 rfl rfl)
theorem dX3_give_44 : decode cX3_give 44 = .ok (.getfield 16, 3) := dk_180 0 16 (dk_at dksX3_give_1 21 rfl rfl)
theorem dX3_give_47 : decode cX3_give 47 = .ok (.iload 5, 2) := dk_21 5 (dk_at dksX3_give_2 0 rfl rfl)
theorem dX3_give_49 : decode cX3_give 49 = .ok (.iaload, 1) := dk_46 (dk_at dksX3_give_2 2 rfl rfl)
theorem dX3_give_50 : decode cX3_give 50 = .ok (.bipush 9, 2) := dk_16 9 (dk_at dksX3_give_2 3 rfl rfl)
theorem dX3_give_52 : decode cX3_give 52 = .ok (.if_icmp .eq 15, 3) := dk_159 0 15 (dk_at dksX3_give_2 5 rfl rfl)
theorem dX3_give_55 : decode cX3_give 55 = .ok (.aload_n 0, 1) := dk_42 (dk_at dksX3_give_2 8 rfl rfl)
theorem dX3_give_56 : decode cX3_give 56 = .ok (.getfield 16, 3) := dk_180 0 16 (dk_at dksX3_give_2 9 rfl rfl)
theorem dX3_give_59 : decode cX3_give 59 = .ok (.iload 5, 2) := dk_21 5 (dk_at dksX3_give_2 12 rfl rfl)
theorem dX3_give_61 : decode cX3_give 61 = .ok (.iaload, 1) := dk_46 (dk_at dksX3_give_2 14 rfl rfl)
theorem dX3_give_62 : decode cX3_give 62 = .ok (.bipush 10, 2) := dk_16 10 (dk_at dksX3_give_2 15 rfl rfl)
theorem dX3_give_64 : decode cX3_give 64 = .ok (.if_icmp .ne 7, 3) := dk_160 0 7 (dk_at dksX3_give_2 17 rfl rfl)
theorem dX3_give_67 : decode cX3_give 67 = .ok (.iconst 1, 1) := dk_4 (dk_at dksX3_give_2 20 rfl rfl)
theorem dX3_give_68 : decode cX3_give 68 = .ok (.goto 4, 3) := dk_167 0 4 (dk_at dksX3_give_2 21 rfl rfl)
theorem dX3_give_71 : decode cX3_give 71 = .ok (.iconst 0, 1) := dk_3 (dk_at dksX3_give_3 0 rfl rfl)
theorem dX3_give_72 : decode cX3_give 72 = .ok (.istore 7, 2) := dk_54 7 (dk_at dksX3_give_3 1 rfl rfl)
theorem dX3_give_74 : decode cX3_give 74 = .ok (.iload 7, 2) := dk_21 7 (dk_at dksX3_give_3 3 rfl rfl)
theorem dX3_give_76 : decode cX3_give 76 = .ok (.ifCond .eq 24, 3) := dk_153 0 24 (dk_at dksX3_give_3 5 rfl rfl)
theorem dX3_give_79 : decode cX3_give 79 = .ok (.aload_n 0, 1) := dk_42 (dk_at dksX3_give_3 8 rfl rfl)
theorem dX3_give_80 : decode cX3_give 80 = .ok (.iload 6, 2) := dk_21 6 (dk_at dksX3_give_3 9 rfl rfl)
theorem dX3_give_82 : decode cX3_give 82 = .ok (.iload 4, 2) := dk_21 4 (dk_at dksX3_give_3 11 rfl rfl)
theorem dX3_give_84 : decode cX3_give 84 = .ok (.ifCond .eq 8, 3) := dk_153 0 8 (dk_at dksX3_give_3 13 rfl rfl)
theorem dX3_give_87 : decode cX3_give 87 = .ok (.bipush 8, 2) := dk_16 8 (dk_at dksX3_give_3 16 rfl rfl)
theorem dX3_give_89 : decode cX3_give 89 = .ok (.goto 5, 3) := dk_167 0 5 (dk_at dksX3_give_3 18 rfl rfl)
theorem dX3_give_92 : decode cX3_give 92 = .ok (.bipush 9, 2) := dk_16 9 (dk_at dksX3_give_3 21 rfl rfl)
theorem dX3_give_94 : decode cX3_give 94 = .ok (.invokevirtual 211, 3) := dk_182 0 211 (dk_at dksX3_give_4 0 rfl rfl)
theorem dX3_give_97 : decode cX3_give 97 = .ok (.ifCond .ne 10, 3) := dk_154 0 10 (dk_at dksX3_give_4 3 rfl rfl)
theorem dX3_give_100 : decode cX3_give 100 = .ok (.aload_n 0, 1) := dk_42 (dk_at dksX3_give_4 6 rfl rfl)
theorem dX3_give_101 : decode cX3_give 101 = .ok (.bipush 6, 2) := dk_16 6 (dk_at dksX3_give_4 7 rfl rfl)
theorem dX3_give_103 : decode cX3_give 103 = .ok (.invokevirtual 177, 3) := dk_182 0 177 (dk_at dksX3_give_4 9 rfl rfl)
theorem dX3_give_106 : decode cX3_give 106 = .ok (.ireturn, 1) := dk_172 (dk_at dksX3_give_4 12 rfl rfl)
theorem dX3_give_107 : decode cX3_give 107 = .ok (.iload 5, 2) := dk_21 5 (dk_at dksX3_give_4 13 rfl rfl)
theorem dX3_give_109 : decode cX3_give 109 = .ok (.ifCond .ne 9, 3) := dk_154 0 9 (dk_at dksX3_give_4 15 rfl rfl)
theorem dX3_give_112 : decode cX3_give 112 = .ok (.aload_n 0, 1) := dk_42 (dk_at dksX3_give_4 18 rfl rfl)
theorem dX3_give_113 : decode cX3_give 113 = .ok (.iconst 3, 1) := dk_6 (dk_at dksX3_give_4 19 rfl rfl)
theorem dX3_give_114 : decode cX3_give 114 = .ok (.invokevirtual 177, 3) := dk_182 0 177 (dk_at dksX3_give_4 20 rfl rfl)
theorem dX3_give_117 : decode cX3_give 117 = .ok (.ireturn, 1) := dk_172 (dk_at dksX3_give_4 23 rfl rfl)
theorem dX3_give_118 : decode cX3_give 118 = .ok (.aload_n 0, 1) := dk_42 (dk_at dksX3_give_5 0 rfl rfl)
theorem dX3_give_119 : decode cX3_give 119 = .ok (.iload 5, 2) := dk_21 5 (dk_at dksX3_give_5 1 rfl rfl)
theorem dX3_give_121 : decode cX3_give 121 = .ok (.iload_n 2, 1) := dk_28 (dk_at dksX3_give_5 3 rfl rfl)
theorem dX3_give_122 : decode cX3_give 122 = .ok (.invokevirtual 204, 3) := dk_182 0 204 (dk_at dksX3_give_5 4 rfl rfl)
theorem dX3_give_125 : decode cX3_give 125 = .ok (.ifCond .ne 9, 3) := dk_154 0 9 (dk_at dksX3_give_5 7 rfl rfl)
theorem dX3_give_128 : decode cX3_give 128 = .ok (.aload_n 0, 1) := dk_42 (dk_at dksX3_give_5 10 rfl rfl)
theorem dX3_give_129 : decode cX3_give 129 = .ok (.iconst 2, 1) := dk_5 (dk_at dksX3_give_5 11 rfl rfl)
theorem dX3_give_130 : decode cX3_give 130 = .ok (.invokevirtual 177, 3) := dk_182 0 177 (dk_at dksX3_give_5 12 rfl rfl)
theorem dX3_give_133 : decode cX3_give 133 = .ok (.ireturn, 1) := dk_172 (dk_at dksX3_give_5 15 rfl rfl)
theorem dX3_give_134 : decode cX3_give 134 = .ok (.aload_n 0, 1) := dk_42 (dk_at dksX3_give_5 16 rfl rfl)
theorem dX3_give_135 : decode cX3_give 135 = .ok (.iload 6, 2) := dk_21 6 (dk_at dksX3_give_5 17 rfl rfl)
theorem dX3_give_137 : decode cX3_give 137 = .ok (.aload_n 0, 1) := dk_42 (dk_at dksX3_give_5 19 rfl rfl)
theorem dX3_give_138 : decode cX3_give 138 = .ok (.getfield 16, 3) := dk_180 0 16 (dk_at dksX3_give_5 20 rfl rfl)
theorem dX3_give_141 : decode cX3_give 141 = .ok (.iload 5, 2) := dk_21 5 (dk_at dksX3_give_6 0 rfl rfl)
theorem dX3_give_143 : decode cX3_give 143 = .ok (.iaload, 1) := dk_46 (dk_at dksX3_give_6 2 rfl rfl)
theorem dX3_give_144 : decode cX3_give 144 = .ok (.invokevirtual 211, 3) := dk_182 0 211 (dk_at dksX3_give_6 3 rfl rfl)
theorem dX3_give_147 : decode cX3_give 147 = .ok (.ifCond .ne 9, 3) := dk_154 0 9 (dk_at dksX3_give_6 6 rfl rfl)
theorem dX3_give_150 : decode cX3_give 150 = .ok (.aload_n 0, 1) := dk_42 (dk_at dksX3_give_6 9 rfl rfl)
theorem dX3_give_151 : decode cX3_give 151 = .ok (.iconst 5, 1) := dk_8 (dk_at dksX3_give_6 10 rfl rfl)
theorem dX3_give_152 : decode cX3_give 152 = .ok (.invokevirtual 177, 3) := dk_182 0 177 (dk_at dksX3_give_6 11 rfl rfl)
theorem dX3_give_155 : decode cX3_give 155 = .ok (.ireturn, 1) := dk_172 (dk_at dksX3_give_6 14 rfl rfl)
theorem dX3_give_156 : decode cX3_give 156 = .ok (.aload_n 0, 1) := dk_42 (dk_at dksX3_give_6 15 rfl rfl)
theorem dX3_give_157 : decode cX3_give 157 = .ok (.getfield 27, 3) := dk_180 0 27 (dk_at dksX3_give_6 16 rfl rfl)
theorem dX3_give_160 : decode cX3_give 160 = .ok (.bipush 40, 2) := dk_16 40 (dk_at dksX3_give_6 19 rfl rfl)
theorem dX3_give_162 : decode cX3_give 162 = .ok (.iload 5, 2) := dk_21 5 (dk_at dksX3_give_6 21 rfl rfl)
theorem dX3_give_164 : decode cX3_give 164 = .ok (.imul, 1) := dk_104 (dk_at dksX3_give_6 23 rfl rfl)
theorem dX3_give_165 : decode cX3_give 165 = .ok (.iload_n 2, 1) := dk_28 (dk_at dksX3_give_7 0 rfl rfl)
theorem dX3_give_166 : decode cX3_give 166 = .ok (.iadd, 1) := dk_96 (dk_at dksX3_give_7 1 rfl rfl)
theorem dX3_give_167 : decode cX3_give 167 = .ok (.iload 6, 2) := dk_21 6 (dk_at dksX3_give_7 2 rfl rfl)
theorem dX3_give_169 : decode cX3_give 169 = .ok (.i2l, 1) := dk_133 (dk_at dksX3_give_7 4 rfl rfl)
theorem dX3_give_170 : decode cX3_give 170 = .ok (.lastore, 1) := dk_80 (dk_at dksX3_give_7 5 rfl rfl)
theorem dX3_give_171 : decode cX3_give 171 = .ok (.iconst 1, 1) := dk_4 (dk_at dksX3_give_7 6 rfl rfl)
theorem dX3_give_172 : decode cX3_give 172 = .ok (.ireturn, 1) := dk_172 (dk_at dksX3_give_7 7 rfl rfl)
abbrev cX3_mayStand : ByteArray := prog_11_method_44_code
def yX3_mayStand : MethodName := ⟨RX3, "mayStand", "(II)Z"⟩
def dkwX3_mayStand_2 : List UInt8 := [16, 12, 184, 0, 190, 172]
abbrev dktX3_mayStand_2 : List UInt8 := dkwX3_mayStand_2 ++ []
def dkwX3_mayStand_1 : List UInt8 := [167, 0, 29, 3, 167, 0, 25, 42, 180, 0, 16, 27, 46, 28, 16, 9, 160, 0, 8, 16, 11, 167, 0, 5]
abbrev dktX3_mayStand_1 : List UInt8 := dkwX3_mayStand_1 ++ dktX3_mayStand_2
def dkwX3_mayStand_0 : List UInt8 := [27, 154, 0, 5, 4, 172, 28, 16, 8, 160, 0, 21, 42, 180, 0, 16, 27, 46, 7, 160, 0, 7, 4]
abbrev dktX3_mayStand_0 : List UInt8 := dkwX3_mayStand_0 ++ dktX3_mayStand_1
theorem dksX3_mayStand_0 : cX3_mayStand.data.toList.drop 0 = dktX3_mayStand_0 := by decide +kernel
theorem dksX3_mayStand_1 : cX3_mayStand.data.toList.drop 23 = dktX3_mayStand_1 := dk_seg dksX3_mayStand_0 23 rfl rfl
theorem dksX3_mayStand_2 : cX3_mayStand.data.toList.drop 47 = dktX3_mayStand_2 := dk_seg dksX3_mayStand_1 24 rfl rfl
theorem dX3_mayStand_0 : decode cX3_mayStand 0 = .ok (.iload_n 1, 1) := dk_27 (dk_at dksX3_mayStand_0 0 rfl rfl)
theorem dX3_mayStand_1 : decode cX3_mayStand 1 = .ok (.ifCond .ne 5, 3) := dk_154 0 5 (dk_at dksX3_mayStand_0 1 rfl rfl)
theorem dX3_mayStand_4 : decode cX3_mayStand 4 = .ok (.iconst 1, 1) := dk_4 (dk_at dksX3_mayStand_0 4 rfl rfl)
theorem dX3_mayStand_5 : decode cX3_mayStand 5 = .ok (.ireturn, 1) := dk_172 (dk_at dksX3_mayStand_0 5 rfl rfl)
theorem dX3_mayStand_6 : decode cX3_mayStand 6 = .ok (.iload_n 2, 1) := dk_28 (dk_at dksX3_mayStand_0 6 rfl rfl)
theorem dX3_mayStand_7 : decode cX3_mayStand 7 = .ok (.bipush 8, 2) := dk_16 8 (dk_at dksX3_mayStand_0 7 rfl rfl)
theorem dX3_mayStand_9 : decode cX3_mayStand 9 = .ok (.if_icmp .ne 21, 3) := dk_160 0 21 (dk_at dksX3_mayStand_0 9 rfl rfl)
theorem dX3_mayStand_12 : decode cX3_mayStand 12 = .ok (.aload_n 0, 1) := dk_42 (dk_at dksX3_mayStand_0 12 rfl rfl)
theorem dX3_mayStand_13 : decode cX3_mayStand 13 = .ok (.getfield 16, 3) := dk_180 0 16 (dk_at dksX3_mayStand_0 13 rfl rfl)
theorem dX3_mayStand_16 : decode cX3_mayStand 16 = .ok (.iload_n 1, 1) := dk_27 (dk_at dksX3_mayStand_0 16 rfl rfl)
theorem dX3_mayStand_17 : decode cX3_mayStand 17 = .ok (.iaload, 1) := dk_46 (dk_at dksX3_mayStand_0 17 rfl rfl)
theorem dX3_mayStand_18 : decode cX3_mayStand 18 = .ok (.iconst 4, 1) := dk_7 (dk_at dksX3_mayStand_0 18 rfl rfl)
theorem dX3_mayStand_19 : decode cX3_mayStand 19 = .ok (.if_icmp .ne 7, 3) := dk_160 0 7 (dk_at dksX3_mayStand_0 19 rfl rfl)
theorem dX3_mayStand_22 : decode cX3_mayStand 22 = .ok (.iconst 1, 1) := dk_4 (dk_at dksX3_mayStand_0 22 rfl rfl)
theorem dX3_mayStand_23 : decode cX3_mayStand 23 = .ok (.goto 29, 3) := dk_167 0 29 (dk_at dksX3_mayStand_1 0 rfl rfl)
theorem dX3_mayStand_26 : decode cX3_mayStand 26 = .ok (.iconst 0, 1) := dk_3 (dk_at dksX3_mayStand_1 3 rfl rfl)
theorem dX3_mayStand_27 : decode cX3_mayStand 27 = .ok (.goto 25, 3) := dk_167 0 25 (dk_at dksX3_mayStand_1 4 rfl rfl)
theorem dX3_mayStand_30 : decode cX3_mayStand 30 = .ok (.aload_n 0, 1) := dk_42 (dk_at dksX3_mayStand_1 7 rfl rfl)
theorem dX3_mayStand_31 : decode cX3_mayStand 31 = .ok (.getfield 16, 3) := dk_180 0 16 (dk_at dksX3_mayStand_1 8 rfl rfl)
theorem dX3_mayStand_34 : decode cX3_mayStand 34 = .ok (.iload_n 1, 1) := dk_27 (dk_at dksX3_mayStand_1 11 rfl rfl)
theorem dX3_mayStand_35 : decode cX3_mayStand 35 = .ok (.iaload, 1) := dk_46 (dk_at dksX3_mayStand_1 12 rfl rfl)
theorem dX3_mayStand_36 : decode cX3_mayStand 36 = .ok (.iload_n 2, 1) := dk_28 (dk_at dksX3_mayStand_1 13 rfl rfl)
theorem dX3_mayStand_37 : decode cX3_mayStand 37 = .ok (.bipush 9, 2) := dk_16 9 (dk_at dksX3_mayStand_1 14 rfl rfl)
theorem dX3_mayStand_39 : decode cX3_mayStand 39 = .ok (.if_icmp .ne 8, 3) := dk_160 0 8 (dk_at dksX3_mayStand_1 16 rfl rfl)
theorem dX3_mayStand_42 : decode cX3_mayStand 42 = .ok (.bipush 11, 2) := dk_16 11 (dk_at dksX3_mayStand_1 19 rfl rfl)
theorem dX3_mayStand_44 : decode cX3_mayStand 44 = .ok (.goto 5, 3) := dk_167 0 5 (dk_at dksX3_mayStand_1 21 rfl rfl)
theorem dX3_mayStand_47 : decode cX3_mayStand 47 = .ok (.bipush 12, 2) := dk_16 12 (dk_at dksX3_mayStand_2 0 rfl rfl)
theorem dX3_mayStand_49 : decode cX3_mayStand 49 = .ok (.invokestatic 190, 3) := dk_184 0 190 (dk_at dksX3_mayStand_2 2 rfl rfl)
theorem dX3_mayStand_52 : decode cX3_mayStand 52 = .ok (.ireturn, 1) := dk_172 (dk_at dksX3_mayStand_2 5 rfl rfl)
abbrev cX3_deep : ByteArray := prog_11_method_47_code
def yX3_deep : MethodName := ⟨RX3, "deep", "(III)I"⟩
def dkwX3_deep_1 : List UInt8 := [21, 4, 29, 182, 0, 71, 136, 172]
abbrev dktX3_deep_1 : List UInt8 := dkwX3_deep_1 ++ []
def dkwX3_deep_0 : List UInt8 := [42, 182, 0, 174, 42, 27, 28, 29, 182, 0, 214, 54, 4, 21, 4, 154, 0, 7, 3, 167, 0, 11, 42]
abbrev dktX3_deep_0 : List UInt8 := dkwX3_deep_0 ++ dktX3_deep_1
theorem dksX3_deep_0 : cX3_deep.data.toList.drop 0 = dktX3_deep_0 := by decide +kernel
theorem dksX3_deep_1 : cX3_deep.data.toList.drop 23 = dktX3_deep_1 := dk_seg dksX3_deep_0 23 rfl rfl
theorem dX3_deep_0 : decode cX3_deep 0 = .ok (.aload_n 0, 1) := dk_42 (dk_at dksX3_deep_0 0 rfl rfl)
theorem dX3_deep_1 : decode cX3_deep 1 = .ok (.invokevirtual 174, 3) := dk_182 0 174 (dk_at dksX3_deep_0 1 rfl rfl)
theorem dX3_deep_4 : decode cX3_deep 4 = .ok (.aload_n 0, 1) := dk_42 (dk_at dksX3_deep_0 4 rfl rfl)
theorem dX3_deep_5 : decode cX3_deep 5 = .ok (.iload_n 1, 1) := dk_27 (dk_at dksX3_deep_0 5 rfl rfl)
theorem dX3_deep_6 : decode cX3_deep 6 = .ok (.iload_n 2, 1) := dk_28 (dk_at dksX3_deep_0 6 rfl rfl)
theorem dX3_deep_7 : decode cX3_deep 7 = .ok (.iload_n 3, 1) := dk_29 (dk_at dksX3_deep_0 7 rfl rfl)
theorem dX3_deep_8 : decode cX3_deep 8 = .ok (.invokevirtual 214, 3) := dk_182 0 214 (dk_at dksX3_deep_0 8 rfl rfl)
theorem dX3_deep_11 : decode cX3_deep 11 = .ok (.istore 4, 2) := dk_54 4 (dk_at dksX3_deep_0 11 rfl rfl)
theorem dX3_deep_13 : decode cX3_deep 13 = .ok (.iload 4, 2) := dk_21 4 (dk_at dksX3_deep_0 13 rfl rfl)
theorem dX3_deep_15 : decode cX3_deep 15 = .ok (.ifCond .ne 7, 3) := dk_154 0 7 (dk_at dksX3_deep_0 15 rfl rfl)
theorem dX3_deep_18 : decode cX3_deep 18 = .ok (.iconst 0, 1) := dk_3 (dk_at dksX3_deep_0 18 rfl rfl)
theorem dX3_deep_19 : decode cX3_deep 19 = .ok (.goto 11, 3) := dk_167 0 11 (dk_at dksX3_deep_0 19 rfl rfl)
theorem dX3_deep_22 : decode cX3_deep 22 = .ok (.aload_n 0, 1) := dk_42 (dk_at dksX3_deep_0 22 rfl rfl)
theorem dX3_deep_23 : decode cX3_deep 23 = .ok (.iload 4, 2) := dk_21 4 (dk_at dksX3_deep_1 0 rfl rfl)
theorem dX3_deep_25 : decode cX3_deep 25 = .ok (.iload_n 3, 1) := dk_29 (dk_at dksX3_deep_1 2 rfl rfl)
theorem dX3_deep_26 : decode cX3_deep 26 = .ok (.invokevirtual 71, 3) := dk_182 0 71 (dk_at dksX3_deep_1 3 rfl rfl)
theorem dX3_deep_29 : decode cX3_deep 29 = .ok (.l2i, 1) := dk_136 (dk_at dksX3_deep_1 6 rfl rfl)
theorem dX3_deep_30 : decode cX3_deep 30 = .ok (.ireturn, 1) := dk_172 (dk_at dksX3_deep_1 7 rfl rfl)
abbrev cX3_inner : ByteArray := prog_11_method_46_code
def yX3_inner : MethodName := ⟨RX3, "inner", "(III)I"⟩
def dkwX3_inner_4 : List UInt8 := [42, 5, 182, 0, 177, 172]
abbrev dktX3_inner_4 : List UInt8 := dkwX3_inner_4 ++ []
def dkwX3_inner_3 : List UInt8 := [154, 0, 9, 42, 6, 182, 0, 177, 172, 42, 21, 5, 29, 182, 0, 204, 153, 0, 8, 21, 5, 167, 0, 8]
abbrev dktX3_inner_3 : List UInt8 := dkwX3_inner_3 ++ dktX3_inner_4
def dkwX3_inner_2 : List UInt8 := [182, 0, 204, 154, 0, 9, 42, 5, 182, 0, 177, 172, 42, 21, 4, 28, 182, 0, 71, 136, 54, 5, 21, 5]
abbrev dktX3_inner_2 : List UInt8 := dkwX3_inner_2 ++ dktX3_inner_3
def dkwX3_inner_1 : List UInt8 := [42, 16, 6, 182, 0, 177, 172, 21, 4, 154, 0, 9, 42, 6, 182, 0, 177, 172, 42, 21, 4, 28]
abbrev dktX3_inner_1 : List UInt8 := dkwX3_inner_1 ++ dktX3_inner_2
def dkwX3_inner_0 : List UInt8 := [42, 27, 182, 0, 187, 54, 4, 21, 4, 153, 0, 22, 42, 180, 0, 16, 21, 4, 46, 16, 8, 159, 0, 10]
abbrev dktX3_inner_0 : List UInt8 := dkwX3_inner_0 ++ dktX3_inner_1
theorem dksX3_inner_0 : cX3_inner.data.toList.drop 0 = dktX3_inner_0 := by decide +kernel
theorem dksX3_inner_1 : cX3_inner.data.toList.drop 24 = dktX3_inner_1 := dk_seg dksX3_inner_0 24 rfl rfl
theorem dksX3_inner_2 : cX3_inner.data.toList.drop 46 = dktX3_inner_2 := dk_seg dksX3_inner_1 22 rfl rfl
theorem dksX3_inner_3 : cX3_inner.data.toList.drop 70 = dktX3_inner_3 := dk_seg dksX3_inner_2 24 rfl rfl
theorem dksX3_inner_4 : cX3_inner.data.toList.drop 94 = dktX3_inner_4 := dk_seg dksX3_inner_3 24 rfl rfl
theorem dX3_inner_0 : decode cX3_inner 0 = .ok (.aload_n 0, 1) := dk_42 (dk_at dksX3_inner_0 0 rfl rfl)
theorem dX3_inner_1 : decode cX3_inner 1 = .ok (.iload_n 1, 1) := dk_27 (dk_at dksX3_inner_0 1 rfl rfl)
theorem dX3_inner_2 : decode cX3_inner 2 = .ok (.invokevirtual 187, 3) := dk_182 0 187 (dk_at dksX3_inner_0 2 rfl rfl)
theorem dX3_inner_5 : decode cX3_inner 5 = .ok (.istore 4, 2) := dk_54 4 (dk_at dksX3_inner_0 5 rfl rfl)
theorem dX3_inner_7 : decode cX3_inner 7 = .ok (.iload 4, 2) := dk_21 4 (dk_at dksX3_inner_0 7 rfl rfl)
theorem dX3_inner_9 : decode cX3_inner 9 = .ok (.ifCond .eq 22, 3) := dk_153 0 22 (dk_at dksX3_inner_0 9 rfl rfl)
theorem dX3_inner_12 : decode cX3_inner 12 = .ok (.aload_n 0, 1) := dk_42 (dk_at dksX3_inner_0 12 rfl rfl)
theorem dX3_inner_13 : decode cX3_inner 13 = .ok (.getfield 16, 3) := dk_180 0 16 (dk_at dksX3_inner_0 13 rfl rfl)
theorem dX3_inner_16 : decode cX3_inner 16 = .ok (.iload 4, 2) := dk_21 4 (dk_at dksX3_inner_0 16 rfl rfl)
theorem dX3_inner_18 : decode cX3_inner 18 = .ok (.iaload, 1) := dk_46 (dk_at dksX3_inner_0 18 rfl rfl)
theorem dX3_inner_19 : decode cX3_inner 19 = .ok (.bipush 8, 2) := dk_16 8 (dk_at dksX3_inner_0 19 rfl rfl)
theorem dX3_inner_21 : decode cX3_inner 21 = .ok (.if_icmp .eq 10, 3) := dk_159 0 10 (dk_at dksX3_inner_0 21 rfl rfl)
theorem dX3_inner_24 : decode cX3_inner 24 = .ok (.aload_n 0, 1) := dk_42 (dk_at dksX3_inner_1 0 rfl rfl)
theorem dX3_inner_25 : decode cX3_inner 25 = .ok (.bipush 6, 2) := dk_16 6 (dk_at dksX3_inner_1 1 rfl rfl)
theorem dX3_inner_27 : decode cX3_inner 27 = .ok (.invokevirtual 177, 3) := dk_182 0 177 (dk_at dksX3_inner_1 3 rfl rfl)
theorem dX3_inner_30 : decode cX3_inner 30 = .ok (.ireturn, 1) := dk_172 (dk_at dksX3_inner_1 6 rfl rfl)
theorem dX3_inner_31 : decode cX3_inner 31 = .ok (.iload 4, 2) := dk_21 4 (dk_at dksX3_inner_1 7 rfl rfl)
theorem dX3_inner_33 : decode cX3_inner 33 = .ok (.ifCond .ne 9, 3) := dk_154 0 9 (dk_at dksX3_inner_1 9 rfl rfl)
theorem dX3_inner_36 : decode cX3_inner 36 = .ok (.aload_n 0, 1) := dk_42 (dk_at dksX3_inner_1 12 rfl rfl)
theorem dX3_inner_37 : decode cX3_inner 37 = .ok (.iconst 3, 1) := dk_6 (dk_at dksX3_inner_1 13 rfl rfl)
theorem dX3_inner_38 : decode cX3_inner 38 = .ok (.invokevirtual 177, 3) := dk_182 0 177 (dk_at dksX3_inner_1 14 rfl rfl)
theorem dX3_inner_41 : decode cX3_inner 41 = .ok (.ireturn, 1) := dk_172 (dk_at dksX3_inner_1 17 rfl rfl)
theorem dX3_inner_42 : decode cX3_inner 42 = .ok (.aload_n 0, 1) := dk_42 (dk_at dksX3_inner_1 18 rfl rfl)
theorem dX3_inner_43 : decode cX3_inner 43 = .ok (.iload 4, 2) := dk_21 4 (dk_at dksX3_inner_1 19 rfl rfl)
theorem dX3_inner_45 : decode cX3_inner 45 = .ok (.iload_n 2, 1) := dk_28 (dk_at dksX3_inner_1 21 rfl rfl)
theorem dX3_inner_46 : decode cX3_inner 46 = .ok (.invokevirtual 204, 3) := dk_182 0 204 (dk_at dksX3_inner_2 0 rfl rfl)
theorem dX3_inner_49 : decode cX3_inner 49 = .ok (.ifCond .ne 9, 3) := dk_154 0 9 (dk_at dksX3_inner_2 3 rfl rfl)
theorem dX3_inner_52 : decode cX3_inner 52 = .ok (.aload_n 0, 1) := dk_42 (dk_at dksX3_inner_2 6 rfl rfl)
theorem dX3_inner_53 : decode cX3_inner 53 = .ok (.iconst 2, 1) := dk_5 (dk_at dksX3_inner_2 7 rfl rfl)
theorem dX3_inner_54 : decode cX3_inner 54 = .ok (.invokevirtual 177, 3) := dk_182 0 177 (dk_at dksX3_inner_2 8 rfl rfl)
theorem dX3_inner_57 : decode cX3_inner 57 = .ok (.ireturn, 1) := dk_172 (dk_at dksX3_inner_2 11 rfl rfl)
theorem dX3_inner_58 : decode cX3_inner 58 = .ok (.aload_n 0, 1) := dk_42 (dk_at dksX3_inner_2 12 rfl rfl)
theorem dX3_inner_59 : decode cX3_inner 59 = .ok (.iload 4, 2) := dk_21 4 (dk_at dksX3_inner_2 13 rfl rfl)
theorem dX3_inner_61 : decode cX3_inner 61 = .ok (.iload_n 2, 1) := dk_28 (dk_at dksX3_inner_2 15 rfl rfl)
theorem dX3_inner_62 : decode cX3_inner 62 = .ok (.invokevirtual 71, 3) := dk_182 0 71 (dk_at dksX3_inner_2 16 rfl rfl)
theorem dX3_inner_65 : decode cX3_inner 65 = .ok (.l2i, 1) := dk_136 (dk_at dksX3_inner_2 19 rfl rfl)
theorem dX3_inner_66 : decode cX3_inner 66 = .ok (.istore 5, 2) := dk_54 5 (dk_at dksX3_inner_2 20 rfl rfl)
theorem dX3_inner_68 : decode cX3_inner 68 = .ok (.iload 5, 2) := dk_21 5 (dk_at dksX3_inner_2 22 rfl rfl)
theorem dX3_inner_70 : decode cX3_inner 70 = .ok (.ifCond .ne 9, 3) := dk_154 0 9 (dk_at dksX3_inner_3 0 rfl rfl)
theorem dX3_inner_73 : decode cX3_inner 73 = .ok (.aload_n 0, 1) := dk_42 (dk_at dksX3_inner_3 3 rfl rfl)
theorem dX3_inner_74 : decode cX3_inner 74 = .ok (.iconst 3, 1) := dk_6 (dk_at dksX3_inner_3 4 rfl rfl)
theorem dX3_inner_75 : decode cX3_inner 75 = .ok (.invokevirtual 177, 3) := dk_182 0 177 (dk_at dksX3_inner_3 5 rfl rfl)
theorem dX3_inner_78 : decode cX3_inner 78 = .ok (.ireturn, 1) := dk_172 (dk_at dksX3_inner_3 8 rfl rfl)
theorem dX3_inner_79 : decode cX3_inner 79 = .ok (.aload_n 0, 1) := dk_42 (dk_at dksX3_inner_3 9 rfl rfl)
theorem dX3_inner_80 : decode cX3_inner 80 = .ok (.iload 5, 2) := dk_21 5 (dk_at dksX3_inner_3 10 rfl rfl)
theorem dX3_inner_82 : decode cX3_inner 82 = .ok (.iload_n 3, 1) := dk_29 (dk_at dksX3_inner_3 12 rfl rfl)
theorem dX3_inner_83 : decode cX3_inner 83 = .ok (.invokevirtual 204, 3) := dk_182 0 204 (dk_at dksX3_inner_3 13 rfl rfl)
theorem dX3_inner_86 : decode cX3_inner 86 = .ok (.ifCond .eq 8, 3) := dk_153 0 8 (dk_at dksX3_inner_3 16 rfl rfl)
theorem dX3_inner_89 : decode cX3_inner 89 = .ok (.iload 5, 2) := dk_21 5 (dk_at dksX3_inner_3 19 rfl rfl)
theorem dX3_inner_91 : decode cX3_inner 91 = .ok (.goto 8, 3) := dk_167 0 8 (dk_at dksX3_inner_3 21 rfl rfl)
theorem dX3_inner_94 : decode cX3_inner 94 = .ok (.aload_n 0, 1) := dk_42 (dk_at dksX3_inner_4 0 rfl rfl)
theorem dX3_inner_95 : decode cX3_inner 95 = .ok (.iconst 2, 1) := dk_5 (dk_at dksX3_inner_4 1 rfl rfl)
theorem dX3_inner_96 : decode cX3_inner 96 = .ok (.invokevirtual 177, 3) := dk_182 0 177 (dk_at dksX3_inner_4 2 rfl rfl)
theorem dX3_inner_99 : decode cX3_inner 99 = .ok (.ireturn, 1) := dk_172 (dk_at dksX3_inner_4 5 rfl rfl)
abbrev cX3_deepPut : ByteArray := prog_11_method_48_code
def yX3_deepPut : MethodName := ⟨RX3, "deepPut", "(IIII)I"⟩
def dkwX3_deepPut_1 : List UInt8 := [16, 40, 21, 5, 104, 29, 96, 21, 4, 133, 80, 4, 172]
abbrev dktX3_deepPut_1 : List UInt8 := dkwX3_deepPut_1 ++ []
def dkwX3_deepPut_0 : List UInt8 := [42, 182, 0, 174, 42, 27, 28, 29, 182, 0, 214, 54, 5, 21, 5, 154, 0, 5, 3, 172, 42, 180, 0, 27]
abbrev dktX3_deepPut_0 : List UInt8 := dkwX3_deepPut_0 ++ dktX3_deepPut_1
theorem dksX3_deepPut_0 : cX3_deepPut.data.toList.drop 0 = dktX3_deepPut_0 := by decide +kernel
theorem dksX3_deepPut_1 : cX3_deepPut.data.toList.drop 24 = dktX3_deepPut_1 := dk_seg dksX3_deepPut_0 24 rfl rfl
theorem dX3_deepPut_0 : decode cX3_deepPut 0 = .ok (.aload_n 0, 1) := dk_42 (dk_at dksX3_deepPut_0 0 rfl rfl)
theorem dX3_deepPut_1 : decode cX3_deepPut 1 = .ok (.invokevirtual 174, 3) := dk_182 0 174 (dk_at dksX3_deepPut_0 1 rfl rfl)
theorem dX3_deepPut_4 : decode cX3_deepPut 4 = .ok (.aload_n 0, 1) := dk_42 (dk_at dksX3_deepPut_0 4 rfl rfl)
theorem dX3_deepPut_5 : decode cX3_deepPut 5 = .ok (.iload_n 1, 1) := dk_27 (dk_at dksX3_deepPut_0 5 rfl rfl)
theorem dX3_deepPut_6 : decode cX3_deepPut 6 = .ok (.iload_n 2, 1) := dk_28 (dk_at dksX3_deepPut_0 6 rfl rfl)
theorem dX3_deepPut_7 : decode cX3_deepPut 7 = .ok (.iload_n 3, 1) := dk_29 (dk_at dksX3_deepPut_0 7 rfl rfl)
theorem dX3_deepPut_8 : decode cX3_deepPut 8 = .ok (.invokevirtual 214, 3) := dk_182 0 214 (dk_at dksX3_deepPut_0 8 rfl rfl)
theorem dX3_deepPut_11 : decode cX3_deepPut 11 = .ok (.istore 5, 2) := dk_54 5 (dk_at dksX3_deepPut_0 11 rfl rfl)
theorem dX3_deepPut_13 : decode cX3_deepPut 13 = .ok (.iload 5, 2) := dk_21 5 (dk_at dksX3_deepPut_0 13 rfl rfl)
theorem dX3_deepPut_15 : decode cX3_deepPut 15 = .ok (.ifCond .ne 5, 3) := dk_154 0 5 (dk_at dksX3_deepPut_0 15 rfl rfl)
theorem dX3_deepPut_18 : decode cX3_deepPut 18 = .ok (.iconst 0, 1) := dk_3 (dk_at dksX3_deepPut_0 18 rfl rfl)
theorem dX3_deepPut_19 : decode cX3_deepPut 19 = .ok (.ireturn, 1) := dk_172 (dk_at dksX3_deepPut_0 19 rfl rfl)
theorem dX3_deepPut_20 : decode cX3_deepPut 20 = .ok (.aload_n 0, 1) := dk_42 (dk_at dksX3_deepPut_0 20 rfl rfl)
theorem dX3_deepPut_21 : decode cX3_deepPut 21 = .ok (.getfield 27, 3) := dk_180 0 27 (dk_at dksX3_deepPut_0 21 rfl rfl)
theorem dX3_deepPut_24 : decode cX3_deepPut 24 = .ok (.bipush 40, 2) := dk_16 40 (dk_at dksX3_deepPut_1 0 rfl rfl)
theorem dX3_deepPut_26 : decode cX3_deepPut 26 = .ok (.iload 5, 2) := dk_21 5 (dk_at dksX3_deepPut_1 2 rfl rfl)
theorem dX3_deepPut_28 : decode cX3_deepPut 28 = .ok (.imul, 1) := dk_104 (dk_at dksX3_deepPut_1 4 rfl rfl)
theorem dX3_deepPut_29 : decode cX3_deepPut 29 = .ok (.iload_n 3, 1) := dk_29 (dk_at dksX3_deepPut_1 5 rfl rfl)
theorem dX3_deepPut_30 : decode cX3_deepPut 30 = .ok (.iadd, 1) := dk_96 (dk_at dksX3_deepPut_1 6 rfl rfl)
theorem dX3_deepPut_31 : decode cX3_deepPut 31 = .ok (.iload 4, 2) := dk_21 4 (dk_at dksX3_deepPut_1 7 rfl rfl)
theorem dX3_deepPut_33 : decode cX3_deepPut 33 = .ok (.i2l, 1) := dk_133 (dk_at dksX3_deepPut_1 9 rfl rfl)
theorem dX3_deepPut_34 : decode cX3_deepPut 34 = .ok (.lastore, 1) := dk_80 (dk_at dksX3_deepPut_1 10 rfl rfl)
theorem dX3_deepPut_35 : decode cX3_deepPut 35 = .ok (.iconst 1, 1) := dk_4 (dk_at dksX3_deepPut_1 11 rfl rfl)
theorem dX3_deepPut_36 : decode cX3_deepPut 36 = .ok (.ireturn, 1) := dk_172 (dk_at dksX3_deepPut_1 12 rfl rfl)
abbrev cX3_copy : ByteArray := prog_11_method_49_code
def yX3_copy : MethodName := ⟨RX3, "copy", "(IIIII)I"⟩
def dkwX3_copy_10 : List UInt8 := [21, 8, 96, 42, 180, 0, 35, 21, 8, 47, 80, 132, 8, 1, 167, 255, 186, 21, 5, 172]
abbrev dktX3_copy_10 : List UInt8 := dkwX3_copy_10 ++ []
def dkwX3_copy_9 : List UInt8 := [182, 0, 211, 154, 0, 9, 42, 8, 182, 0, 177, 172, 42, 180, 0, 27, 16, 40, 21, 7, 104, 21, 4, 96]
abbrev dktX3_copy_9 : List UInt8 := dkwX3_copy_9 ++ dktX3_copy_10
def dkwX3_copy_8 : List UInt8 := [182, 0, 198, 154, 0, 31, 42, 42, 180, 0, 35, 21, 8, 47, 136, 42, 180, 0, 16, 21, 7, 46]
abbrev dktX3_copy_8 : List UInt8 := dkwX3_copy_8 ++ dktX3_copy_9
def dkwX3_copy_7 : List UInt8 := [182, 0, 71, 80, 132, 8, 1, 167, 255, 229, 3, 54, 8, 21, 8, 21, 5, 162, 0, 69, 42, 21, 7]
abbrev dktX3_copy_7 : List UInt8 := dkwX3_copy_7 ++ dktX3_copy_8
def dkwX3_copy_6 : List UInt8 := [3, 54, 8, 21, 8, 21, 5, 162, 0, 26, 42, 180, 0, 35, 21, 8, 42, 21, 6, 28, 21, 8, 96]
abbrev dktX3_copy_6 : List UInt8 := dkwX3_copy_6 ++ dktX3_copy_7
def dkwX3_copy_5 : List UInt8 := [163, 0, 18, 21, 5, 42, 180, 0, 19, 21, 7, 46, 21, 4, 100, 164, 0, 9, 42, 5, 182, 0, 177, 172]
abbrev dktX3_copy_5 : List UInt8 := dkwX3_copy_5 ++ dktX3_copy_6
def dkwX3_copy_4 : List UInt8 := [155, 0, 42, 21, 4, 155, 0, 37, 21, 5, 155, 0, 32, 21, 5, 42, 180, 0, 19, 21, 6, 46, 28, 100]
abbrev dktX3_copy_4 : List UInt8 := dkwX3_copy_4 ++ dktX3_copy_5
def dkwX3_copy_3 : List UInt8 := [42, 180, 0, 16, 21, 6, 46, 42, 180, 0, 16, 21, 7, 46, 159, 0, 9, 42, 8, 182, 0, 177, 172, 28]
abbrev dktX3_copy_3 : List UInt8 := dkwX3_copy_3 ++ dktX3_copy_4
def dkwX3_copy_2 : List UInt8 := [182, 0, 194, 153, 0, 38, 42, 21, 6, 182, 0, 198, 154, 0, 12, 42, 21, 7, 182, 0, 198, 153, 0, 26]
abbrev dktX3_copy_2 : List UInt8 := dkwX3_copy_2 ++ dktX3_copy_3
def dkwX3_copy_1 : List UInt8 := [21, 7, 154, 0, 9, 42, 6, 182, 0, 177, 172, 42, 21, 6, 182, 0, 194, 153, 0, 47, 42, 21, 7]
abbrev dktX3_copy_1 : List UInt8 := dkwX3_copy_1 ++ dktX3_copy_2
def dkwX3_copy_0 : List UInt8 := [42, 182, 0, 174, 42, 27, 182, 0, 187, 54, 6, 42, 29, 182, 0, 187, 54, 7, 21, 6, 153, 0, 8]
abbrev dktX3_copy_0 : List UInt8 := dkwX3_copy_0 ++ dktX3_copy_1
theorem dksX3_copy_0 : cX3_copy.data.toList.drop 0 = dktX3_copy_0 := by decide +kernel
theorem dksX3_copy_1 : cX3_copy.data.toList.drop 23 = dktX3_copy_1 := dk_seg dksX3_copy_0 23 rfl rfl
theorem dksX3_copy_2 : cX3_copy.data.toList.drop 46 = dktX3_copy_2 := dk_seg dksX3_copy_1 23 rfl rfl
theorem dksX3_copy_3 : cX3_copy.data.toList.drop 70 = dktX3_copy_3 := dk_seg dksX3_copy_2 24 rfl rfl
theorem dksX3_copy_4 : cX3_copy.data.toList.drop 94 = dktX3_copy_4 := dk_seg dksX3_copy_3 24 rfl rfl
theorem dksX3_copy_5 : cX3_copy.data.toList.drop 118 = dktX3_copy_5 := dk_seg dksX3_copy_4 24 rfl rfl
theorem dksX3_copy_6 : cX3_copy.data.toList.drop 142 = dktX3_copy_6 := dk_seg dksX3_copy_5 24 rfl rfl
theorem dksX3_copy_7 : cX3_copy.data.toList.drop 165 = dktX3_copy_7 := dk_seg dksX3_copy_6 23 rfl rfl
theorem dksX3_copy_8 : cX3_copy.data.toList.drop 188 = dktX3_copy_8 := dk_seg dksX3_copy_7 23 rfl rfl
theorem dksX3_copy_9 : cX3_copy.data.toList.drop 210 = dktX3_copy_9 := dk_seg dksX3_copy_8 22 rfl rfl
theorem dksX3_copy_10 : cX3_copy.data.toList.drop 234 = dktX3_copy_10 := dk_seg dksX3_copy_9 24 rfl rfl
theorem dX3_copy_0 : decode cX3_copy 0 = .ok (.aload_n 0, 1) := dk_42 (dk_at dksX3_copy_0 0 rfl rfl)
theorem dX3_copy_1 : decode cX3_copy 1 = .ok (.invokevirtual 174, 3) := dk_182 0 174 (dk_at dksX3_copy_0 1 rfl rfl)
theorem dX3_copy_4 : decode cX3_copy 4 = .ok (.aload_n 0, 1) := dk_42 (dk_at dksX3_copy_0 4 rfl rfl)
theorem dX3_copy_5 : decode cX3_copy 5 = .ok (.iload_n 1, 1) := dk_27 (dk_at dksX3_copy_0 5 rfl rfl)
theorem dX3_copy_6 : decode cX3_copy 6 = .ok (.invokevirtual 187, 3) := dk_182 0 187 (dk_at dksX3_copy_0 6 rfl rfl)
theorem dX3_copy_9 : decode cX3_copy 9 = .ok (.istore 6, 2) := dk_54 6 (dk_at dksX3_copy_0 9 rfl rfl)
theorem dX3_copy_11 : decode cX3_copy 11 = .ok (.aload_n 0, 1) := dk_42 (dk_at dksX3_copy_0 11 rfl rfl)
theorem dX3_copy_12 : decode cX3_copy 12 = .ok (.iload_n 3, 1) := dk_29 (dk_at dksX3_copy_0 12 rfl rfl)
theorem dX3_copy_13 : decode cX3_copy 13 = .ok (.invokevirtual 187, 3) := dk_182 0 187 (dk_at dksX3_copy_0 13 rfl rfl)
theorem dX3_copy_16 : decode cX3_copy 16 = .ok (.istore 7, 2) := dk_54 7 (dk_at dksX3_copy_0 16 rfl rfl)
theorem dX3_copy_18 : decode cX3_copy 18 = .ok (.iload 6, 2) := dk_21 6 (dk_at dksX3_copy_0 18 rfl rfl)
theorem dX3_copy_20 : decode cX3_copy 20 = .ok (.ifCond .eq 8, 3) := dk_153 0 8 (dk_at dksX3_copy_0 20 rfl rfl)
theorem dX3_copy_23 : decode cX3_copy 23 = .ok (.iload 7, 2) := dk_21 7 (dk_at dksX3_copy_1 0 rfl rfl)
theorem dX3_copy_25 : decode cX3_copy 25 = .ok (.ifCond .ne 9, 3) := dk_154 0 9 (dk_at dksX3_copy_1 2 rfl rfl)
theorem dX3_copy_28 : decode cX3_copy 28 = .ok (.aload_n 0, 1) := dk_42 (dk_at dksX3_copy_1 5 rfl rfl)
theorem dX3_copy_29 : decode cX3_copy 29 = .ok (.iconst 3, 1) := dk_6 (dk_at dksX3_copy_1 6 rfl rfl)
theorem dX3_copy_30 : decode cX3_copy 30 = .ok (.invokevirtual 177, 3) := dk_182 0 177 (dk_at dksX3_copy_1 7 rfl rfl)
theorem dX3_copy_33 : decode cX3_copy 33 = .ok (.ireturn, 1) := dk_172 (dk_at dksX3_copy_1 10 rfl rfl)
theorem dX3_copy_34 : decode cX3_copy 34 = .ok (.aload_n 0, 1) := dk_42 (dk_at dksX3_copy_1 11 rfl rfl)
theorem dX3_copy_35 : decode cX3_copy 35 = .ok (.iload 6, 2) := dk_21 6 (dk_at dksX3_copy_1 12 rfl rfl)
theorem dX3_copy_37 : decode cX3_copy 37 = .ok (.invokevirtual 194, 3) := dk_182 0 194 (dk_at dksX3_copy_1 14 rfl rfl)
theorem dX3_copy_40 : decode cX3_copy 40 = .ok (.ifCond .eq 47, 3) := dk_153 0 47 (dk_at dksX3_copy_1 17 rfl rfl)
theorem dX3_copy_43 : decode cX3_copy 43 = .ok (.aload_n 0, 1) := dk_42 (dk_at dksX3_copy_1 20 rfl rfl)
theorem dX3_copy_44 : decode cX3_copy 44 = .ok (.iload 7, 2) := dk_21 7 (dk_at dksX3_copy_1 21 rfl rfl)
theorem dX3_copy_46 : decode cX3_copy 46 = .ok (.invokevirtual 194, 3) := dk_182 0 194 (dk_at dksX3_copy_2 0 rfl rfl)
theorem dX3_copy_49 : decode cX3_copy 49 = .ok (.ifCond .eq 38, 3) := dk_153 0 38 (dk_at dksX3_copy_2 3 rfl rfl)
theorem dX3_copy_52 : decode cX3_copy 52 = .ok (.aload_n 0, 1) := dk_42 (dk_at dksX3_copy_2 6 rfl rfl)
theorem dX3_copy_53 : decode cX3_copy 53 = .ok (.iload 6, 2) := dk_21 6 (dk_at dksX3_copy_2 7 rfl rfl)
theorem dX3_copy_55 : decode cX3_copy 55 = .ok (.invokevirtual 198, 3) := dk_182 0 198 (dk_at dksX3_copy_2 9 rfl rfl)
theorem dX3_copy_58 : decode cX3_copy 58 = .ok (.ifCond .ne 12, 3) := dk_154 0 12 (dk_at dksX3_copy_2 12 rfl rfl)
theorem dX3_copy_61 : decode cX3_copy 61 = .ok (.aload_n 0, 1) := dk_42 (dk_at dksX3_copy_2 15 rfl rfl)
theorem dX3_copy_62 : decode cX3_copy 62 = .ok (.iload 7, 2) := dk_21 7 (dk_at dksX3_copy_2 16 rfl rfl)
theorem dX3_copy_64 : decode cX3_copy 64 = .ok (.invokevirtual 198, 3) := dk_182 0 198 (dk_at dksX3_copy_2 18 rfl rfl)
theorem dX3_copy_67 : decode cX3_copy 67 = .ok (.ifCond .eq 26, 3) := dk_153 0 26 (dk_at dksX3_copy_2 21 rfl rfl)
theorem dX3_copy_70 : decode cX3_copy 70 = .ok (.aload_n 0, 1) := dk_42 (dk_at dksX3_copy_3 0 rfl rfl)
theorem dX3_copy_71 : decode cX3_copy 71 = .ok (.getfield 16, 3) := dk_180 0 16 (dk_at dksX3_copy_3 1 rfl rfl)
theorem dX3_copy_74 : decode cX3_copy 74 = .ok (.iload 6, 2) := dk_21 6 (dk_at dksX3_copy_3 4 rfl rfl)
theorem dX3_copy_76 : decode cX3_copy 76 = .ok (.iaload, 1) := dk_46 (dk_at dksX3_copy_3 6 rfl rfl)
theorem dX3_copy_77 : decode cX3_copy 77 = .ok (.aload_n 0, 1) := dk_42 (dk_at dksX3_copy_3 7 rfl rfl)
theorem dX3_copy_78 : decode cX3_copy 78 = .ok (.getfield 16, 3) := dk_180 0 16 (dk_at dksX3_copy_3 8 rfl rfl)
theorem dX3_copy_81 : decode cX3_copy 81 = .ok (.iload 7, 2) := dk_21 7 (dk_at dksX3_copy_3 11 rfl rfl)
theorem dX3_copy_83 : decode cX3_copy 83 = .ok (.iaload, 1) := dk_46 (dk_at dksX3_copy_3 13 rfl rfl)
theorem dX3_copy_84 : decode cX3_copy 84 = .ok (.if_icmp .eq 9, 3) := dk_159 0 9 (dk_at dksX3_copy_3 14 rfl rfl)
theorem dX3_copy_87 : decode cX3_copy 87 = .ok (.aload_n 0, 1) := dk_42 (dk_at dksX3_copy_3 17 rfl rfl)
theorem dX3_copy_88 : decode cX3_copy 88 = .ok (.iconst 5, 1) := dk_8 (dk_at dksX3_copy_3 18 rfl rfl)
theorem dX3_copy_89 : decode cX3_copy 89 = .ok (.invokevirtual 177, 3) := dk_182 0 177 (dk_at dksX3_copy_3 19 rfl rfl)
theorem dX3_copy_92 : decode cX3_copy 92 = .ok (.ireturn, 1) := dk_172 (dk_at dksX3_copy_3 22 rfl rfl)
theorem dX3_copy_93 : decode cX3_copy 93 = .ok (.iload_n 2, 1) := dk_28 (dk_at dksX3_copy_3 23 rfl rfl)
theorem dX3_copy_94 : decode cX3_copy 94 = .ok (.ifCond .lt 42, 3) := dk_155 0 42 (dk_at dksX3_copy_4 0 rfl rfl)
theorem dX3_copy_97 : decode cX3_copy 97 = .ok (.iload 4, 2) := dk_21 4 (dk_at dksX3_copy_4 3 rfl rfl)
theorem dX3_copy_99 : decode cX3_copy 99 = .ok (.ifCond .lt 37, 3) := dk_155 0 37 (dk_at dksX3_copy_4 5 rfl rfl)
theorem dX3_copy_102 : decode cX3_copy 102 = .ok (.iload 5, 2) := dk_21 5 (dk_at dksX3_copy_4 8 rfl rfl)
theorem dX3_copy_104 : decode cX3_copy 104 = .ok (.ifCond .lt 32, 3) := dk_155 0 32 (dk_at dksX3_copy_4 10 rfl rfl)
theorem dX3_copy_107 : decode cX3_copy 107 = .ok (.iload 5, 2) := dk_21 5 (dk_at dksX3_copy_4 13 rfl rfl)
theorem dX3_copy_109 : decode cX3_copy 109 = .ok (.aload_n 0, 1) := dk_42 (dk_at dksX3_copy_4 15 rfl rfl)
theorem dX3_copy_110 : decode cX3_copy 110 = .ok (.getfield 19, 3) := dk_180 0 19 (dk_at dksX3_copy_4 16 rfl rfl)
theorem dX3_copy_113 : decode cX3_copy 113 = .ok (.iload 6, 2) := dk_21 6 (dk_at dksX3_copy_4 19 rfl rfl)
theorem dX3_copy_115 : decode cX3_copy 115 = .ok (.iaload, 1) := dk_46 (dk_at dksX3_copy_4 21 rfl rfl)
theorem dX3_copy_116 : decode cX3_copy 116 = .ok (.iload_n 2, 1) := dk_28 (dk_at dksX3_copy_4 22 rfl rfl)
theorem dX3_copy_117 : decode cX3_copy 117 = .ok (.isub, 1) := dk_100 (dk_at dksX3_copy_4 23 rfl rfl)
theorem dX3_copy_118 : decode cX3_copy 118 = .ok (.if_icmp .gt 18, 3) := dk_163 0 18 (dk_at dksX3_copy_5 0 rfl rfl)
theorem dX3_copy_121 : decode cX3_copy 121 = .ok (.iload 5, 2) := dk_21 5 (dk_at dksX3_copy_5 3 rfl rfl)
theorem dX3_copy_123 : decode cX3_copy 123 = .ok (.aload_n 0, 1) := dk_42 (dk_at dksX3_copy_5 5 rfl rfl)
theorem dX3_copy_124 : decode cX3_copy 124 = .ok (.getfield 19, 3) := dk_180 0 19 (dk_at dksX3_copy_5 6 rfl rfl)
theorem dX3_copy_127 : decode cX3_copy 127 = .ok (.iload 7, 2) := dk_21 7 (dk_at dksX3_copy_5 9 rfl rfl)
theorem dX3_copy_129 : decode cX3_copy 129 = .ok (.iaload, 1) := dk_46 (dk_at dksX3_copy_5 11 rfl rfl)
theorem dX3_copy_130 : decode cX3_copy 130 = .ok (.iload 4, 2) := dk_21 4 (dk_at dksX3_copy_5 12 rfl rfl)
theorem dX3_copy_132 : decode cX3_copy 132 = .ok (.isub, 1) := dk_100 (dk_at dksX3_copy_5 14 rfl rfl)
theorem dX3_copy_133 : decode cX3_copy 133 = .ok (.if_icmp .le 9, 3) := dk_164 0 9 (dk_at dksX3_copy_5 15 rfl rfl)
theorem dX3_copy_136 : decode cX3_copy 136 = .ok (.aload_n 0, 1) := dk_42 (dk_at dksX3_copy_5 18 rfl rfl)
theorem dX3_copy_137 : decode cX3_copy 137 = .ok (.iconst 2, 1) := dk_5 (dk_at dksX3_copy_5 19 rfl rfl)
theorem dX3_copy_138 : decode cX3_copy 138 = .ok (.invokevirtual 177, 3) := dk_182 0 177 (dk_at dksX3_copy_5 20 rfl rfl)
theorem dX3_copy_141 : decode cX3_copy 141 = .ok (.ireturn, 1) := dk_172 (dk_at dksX3_copy_5 23 rfl rfl)
theorem dX3_copy_142 : decode cX3_copy 142 = .ok (.iconst 0, 1) := dk_3 (dk_at dksX3_copy_6 0 rfl rfl)
theorem dX3_copy_143 : decode cX3_copy 143 = .ok (.istore 8, 2) := dk_54 8 (dk_at dksX3_copy_6 1 rfl rfl)
theorem dX3_copy_145 : decode cX3_copy 145 = .ok (.iload 8, 2) := dk_21 8 (dk_at dksX3_copy_6 3 rfl rfl)
theorem dX3_copy_147 : decode cX3_copy 147 = .ok (.iload 5, 2) := dk_21 5 (dk_at dksX3_copy_6 5 rfl rfl)
theorem dX3_copy_149 : decode cX3_copy 149 = .ok (.if_icmp .ge 26, 3) := dk_162 0 26 (dk_at dksX3_copy_6 7 rfl rfl)
theorem dX3_copy_152 : decode cX3_copy 152 = .ok (.aload_n 0, 1) := dk_42 (dk_at dksX3_copy_6 10 rfl rfl)
theorem dX3_copy_153 : decode cX3_copy 153 = .ok (.getfield 35, 3) := dk_180 0 35 (dk_at dksX3_copy_6 11 rfl rfl)
theorem dX3_copy_156 : decode cX3_copy 156 = .ok (.iload 8, 2) := dk_21 8 (dk_at dksX3_copy_6 14 rfl rfl)
theorem dX3_copy_158 : decode cX3_copy 158 = .ok (.aload_n 0, 1) := dk_42 (dk_at dksX3_copy_6 16 rfl rfl)
theorem dX3_copy_159 : decode cX3_copy 159 = .ok (.iload 6, 2) := dk_21 6 (dk_at dksX3_copy_6 17 rfl rfl)
theorem dX3_copy_161 : decode cX3_copy 161 = .ok (.iload_n 2, 1) := dk_28 (dk_at dksX3_copy_6 19 rfl rfl)
theorem dX3_copy_162 : decode cX3_copy 162 = .ok (.iload 8, 2) := dk_21 8 (dk_at dksX3_copy_6 20 rfl rfl)
theorem dX3_copy_164 : decode cX3_copy 164 = .ok (.iadd, 1) := dk_96 (dk_at dksX3_copy_6 22 rfl rfl)
theorem dX3_copy_165 : decode cX3_copy 165 = .ok (.invokevirtual 71, 3) := dk_182 0 71 (dk_at dksX3_copy_7 0 rfl rfl)
theorem dX3_copy_168 : decode cX3_copy 168 = .ok (.lastore, 1) := dk_80 (dk_at dksX3_copy_7 3 rfl rfl)
theorem dX3_copy_169 : decode cX3_copy 169 = .ok (.iinc 8 1, 3) := dk_132 8 1 (dk_at dksX3_copy_7 4 rfl rfl)
theorem dX3_copy_172 : decode cX3_copy 172 = .ok (.goto (-27), 3) := dk_167 255 229 (dk_at dksX3_copy_7 7 rfl rfl)
theorem dX3_copy_175 : decode cX3_copy 175 = .ok (.iconst 0, 1) := dk_3 (dk_at dksX3_copy_7 10 rfl rfl)
theorem dX3_copy_176 : decode cX3_copy 176 = .ok (.istore 8, 2) := dk_54 8 (dk_at dksX3_copy_7 11 rfl rfl)
theorem dX3_copy_178 : decode cX3_copy 178 = .ok (.iload 8, 2) := dk_21 8 (dk_at dksX3_copy_7 13 rfl rfl)
theorem dX3_copy_180 : decode cX3_copy 180 = .ok (.iload 5, 2) := dk_21 5 (dk_at dksX3_copy_7 15 rfl rfl)
theorem dX3_copy_182 : decode cX3_copy 182 = .ok (.if_icmp .ge 69, 3) := dk_162 0 69 (dk_at dksX3_copy_7 17 rfl rfl)
theorem dX3_copy_185 : decode cX3_copy 185 = .ok (.aload_n 0, 1) := dk_42 (dk_at dksX3_copy_7 20 rfl rfl)
theorem dX3_copy_186 : decode cX3_copy 186 = .ok (.iload 7, 2) := dk_21 7 (dk_at dksX3_copy_7 21 rfl rfl)
theorem dX3_copy_188 : decode cX3_copy 188 = .ok (.invokevirtual 198, 3) := dk_182 0 198 (dk_at dksX3_copy_8 0 rfl rfl)
theorem dX3_copy_191 : decode cX3_copy 191 = .ok (.ifCond .ne 31, 3) := dk_154 0 31 (dk_at dksX3_copy_8 3 rfl rfl)
theorem dX3_copy_194 : decode cX3_copy 194 = .ok (.aload_n 0, 1) := dk_42 (dk_at dksX3_copy_8 6 rfl rfl)
theorem dX3_copy_195 : decode cX3_copy 195 = .ok (.aload_n 0, 1) := dk_42 (dk_at dksX3_copy_8 7 rfl rfl)
theorem dX3_copy_196 : decode cX3_copy 196 = .ok (.getfield 35, 3) := dk_180 0 35 (dk_at dksX3_copy_8 8 rfl rfl)
theorem dX3_copy_199 : decode cX3_copy 199 = .ok (.iload 8, 2) := dk_21 8 (dk_at dksX3_copy_8 11 rfl rfl)
theorem dX3_copy_201 : decode cX3_copy 201 = .ok (.laload, 1) := dk_47 (dk_at dksX3_copy_8 13 rfl rfl)
theorem dX3_copy_202 : decode cX3_copy 202 = .ok (.l2i, 1) := dk_136 (dk_at dksX3_copy_8 14 rfl rfl)
theorem dX3_copy_203 : decode cX3_copy 203 = .ok (.aload_n 0, 1) := dk_42 (dk_at dksX3_copy_8 15 rfl rfl)
theorem dX3_copy_204 : decode cX3_copy 204 = .ok (.getfield 16, 3) := dk_180 0 16 (dk_at dksX3_copy_8 16 rfl rfl)
theorem dX3_copy_207 : decode cX3_copy 207 = .ok (.iload 7, 2) := dk_21 7 (dk_at dksX3_copy_8 19 rfl rfl)
theorem dX3_copy_209 : decode cX3_copy 209 = .ok (.iaload, 1) := dk_46 (dk_at dksX3_copy_8 21 rfl rfl)
theorem dX3_copy_210 : decode cX3_copy 210 = .ok (.invokevirtual 211, 3) := dk_182 0 211 (dk_at dksX3_copy_9 0 rfl rfl)
theorem dX3_copy_213 : decode cX3_copy 213 = .ok (.ifCond .ne 9, 3) := dk_154 0 9 (dk_at dksX3_copy_9 3 rfl rfl)
theorem dX3_copy_216 : decode cX3_copy 216 = .ok (.aload_n 0, 1) := dk_42 (dk_at dksX3_copy_9 6 rfl rfl)
theorem dX3_copy_217 : decode cX3_copy 217 = .ok (.iconst 5, 1) := dk_8 (dk_at dksX3_copy_9 7 rfl rfl)
theorem dX3_copy_218 : decode cX3_copy 218 = .ok (.invokevirtual 177, 3) := dk_182 0 177 (dk_at dksX3_copy_9 8 rfl rfl)
theorem dX3_copy_221 : decode cX3_copy 221 = .ok (.ireturn, 1) := dk_172 (dk_at dksX3_copy_9 11 rfl rfl)
theorem dX3_copy_222 : decode cX3_copy 222 = .ok (.aload_n 0, 1) := dk_42 (dk_at dksX3_copy_9 12 rfl rfl)
theorem dX3_copy_223 : decode cX3_copy 223 = .ok (.getfield 27, 3) := dk_180 0 27 (dk_at dksX3_copy_9 13 rfl rfl)
theorem dX3_copy_226 : decode cX3_copy 226 = .ok (.bipush 40, 2) := dk_16 40 (dk_at dksX3_copy_9 16 rfl rfl)
theorem dX3_copy_228 : decode cX3_copy 228 = .ok (.iload 7, 2) := dk_21 7 (dk_at dksX3_copy_9 18 rfl rfl)
theorem dX3_copy_230 : decode cX3_copy 230 = .ok (.imul, 1) := dk_104 (dk_at dksX3_copy_9 20 rfl rfl)
theorem dX3_copy_231 : decode cX3_copy 231 = .ok (.iload 4, 2) := dk_21 4 (dk_at dksX3_copy_9 21 rfl rfl)
theorem dX3_copy_233 : decode cX3_copy 233 = .ok (.iadd, 1) := dk_96 (dk_at dksX3_copy_9 23 rfl rfl)
theorem dX3_copy_234 : decode cX3_copy 234 = .ok (.iload 8, 2) := dk_21 8 (dk_at dksX3_copy_10 0 rfl rfl)
theorem dX3_copy_236 : decode cX3_copy 236 = .ok (.iadd, 1) := dk_96 (dk_at dksX3_copy_10 2 rfl rfl)
theorem dX3_copy_237 : decode cX3_copy 237 = .ok (.aload_n 0, 1) := dk_42 (dk_at dksX3_copy_10 3 rfl rfl)
theorem dX3_copy_238 : decode cX3_copy 238 = .ok (.getfield 35, 3) := dk_180 0 35 (dk_at dksX3_copy_10 4 rfl rfl)
theorem dX3_copy_241 : decode cX3_copy 241 = .ok (.iload 8, 2) := dk_21 8 (dk_at dksX3_copy_10 7 rfl rfl)
theorem dX3_copy_243 : decode cX3_copy 243 = .ok (.laload, 1) := dk_47 (dk_at dksX3_copy_10 9 rfl rfl)
theorem dX3_copy_244 : decode cX3_copy 244 = .ok (.lastore, 1) := dk_80 (dk_at dksX3_copy_10 10 rfl rfl)
theorem dX3_copy_245 : decode cX3_copy 245 = .ok (.iinc 8 1, 3) := dk_132 8 1 (dk_at dksX3_copy_10 11 rfl rfl)
theorem dX3_copy_248 : decode cX3_copy 248 = .ok (.goto (-70), 3) := dk_167 255 186 (dk_at dksX3_copy_10 14 rfl rfl)
theorem dX3_copy_251 : decode cX3_copy 251 = .ok (.iload 5, 2) := dk_21 5 (dk_at dksX3_copy_10 17 rfl rfl)
theorem dX3_copy_253 : decode cX3_copy 253 = .ok (.ireturn, 1) := dk_172 (dk_at dksX3_copy_10 19 rfl rfl)
abbrev cX3_twin : ByteArray := prog_11_method_50_code
def yX3_twin : MethodName := ⟨RX3, "twin", "(II)I"⟩
def dkwX3_twin_5 : List UInt8 := [180, 0, 19, 29, 46, 172]
abbrev dktX3_twin_5 : List UInt8 := dkwX3_twin_5 ++ []
def dkwX3_twin_4 : List UInt8 := [182, 0, 71, 80, 132, 5, 1, 167, 255, 222, 42, 180, 0, 13, 28, 16, 15, 126, 21, 4, 79, 42]
abbrev dktX3_twin_4 : List UInt8 := dkwX3_twin_4 ++ dktX3_twin_5
def dkwX3_twin_3 : List UInt8 := [180, 0, 19, 29, 46, 162, 0, 29, 42, 180, 0, 27, 16, 40, 21, 4, 104, 21, 5, 96, 42, 29, 21, 5]
abbrev dktX3_twin_3 : List UInt8 := dkwX3_twin_3 ++ dktX3_twin_4
def dkwX3_twin_2 : List UInt8 := [180, 0, 16, 29, 46, 42, 180, 0, 19, 29, 46, 182, 0, 183, 54, 4, 3, 54, 5, 21, 5, 42]
abbrev dktX3_twin_2 : List UInt8 := dkwX3_twin_2 ++ dktX3_twin_3
def dkwX3_twin_1 : List UInt8 := [182, 0, 194, 154, 0, 9, 42, 4, 182, 0, 177, 172, 42, 182, 0, 180, 42, 27, 182, 0, 187, 62, 42, 42]
abbrev dktX3_twin_1 : List UInt8 := dkwX3_twin_1 ++ dktX3_twin_2
def dkwX3_twin_0 : List UInt8 := [42, 182, 0, 174, 42, 27, 182, 0, 187, 154, 0, 9, 42, 6, 182, 0, 177, 172, 42, 42, 27, 182, 0, 187]
abbrev dktX3_twin_0 : List UInt8 := dkwX3_twin_0 ++ dktX3_twin_1
theorem dksX3_twin_0 : cX3_twin.data.toList.drop 0 = dktX3_twin_0 := by decide +kernel
theorem dksX3_twin_1 : cX3_twin.data.toList.drop 24 = dktX3_twin_1 := dk_seg dksX3_twin_0 24 rfl rfl
theorem dksX3_twin_2 : cX3_twin.data.toList.drop 48 = dktX3_twin_2 := dk_seg dksX3_twin_1 24 rfl rfl
theorem dksX3_twin_3 : cX3_twin.data.toList.drop 70 = dktX3_twin_3 := dk_seg dksX3_twin_2 22 rfl rfl
theorem dksX3_twin_4 : cX3_twin.data.toList.drop 94 = dktX3_twin_4 := dk_seg dksX3_twin_3 24 rfl rfl
theorem dksX3_twin_5 : cX3_twin.data.toList.drop 116 = dktX3_twin_5 := dk_seg dksX3_twin_4 22 rfl rfl
theorem dX3_twin_0 : decode cX3_twin 0 = .ok (.aload_n 0, 1) := dk_42 (dk_at dksX3_twin_0 0 rfl rfl)
theorem dX3_twin_1 : decode cX3_twin 1 = .ok (.invokevirtual 174, 3) := dk_182 0 174 (dk_at dksX3_twin_0 1 rfl rfl)
theorem dX3_twin_4 : decode cX3_twin 4 = .ok (.aload_n 0, 1) := dk_42 (dk_at dksX3_twin_0 4 rfl rfl)
theorem dX3_twin_5 : decode cX3_twin 5 = .ok (.iload_n 1, 1) := dk_27 (dk_at dksX3_twin_0 5 rfl rfl)
theorem dX3_twin_6 : decode cX3_twin 6 = .ok (.invokevirtual 187, 3) := dk_182 0 187 (dk_at dksX3_twin_0 6 rfl rfl)
theorem dX3_twin_9 : decode cX3_twin 9 = .ok (.ifCond .ne 9, 3) := dk_154 0 9 (dk_at dksX3_twin_0 9 rfl rfl)
theorem dX3_twin_12 : decode cX3_twin 12 = .ok (.aload_n 0, 1) := dk_42 (dk_at dksX3_twin_0 12 rfl rfl)
theorem dX3_twin_13 : decode cX3_twin 13 = .ok (.iconst 3, 1) := dk_6 (dk_at dksX3_twin_0 13 rfl rfl)
theorem dX3_twin_14 : decode cX3_twin 14 = .ok (.invokevirtual 177, 3) := dk_182 0 177 (dk_at dksX3_twin_0 14 rfl rfl)
theorem dX3_twin_17 : decode cX3_twin 17 = .ok (.ireturn, 1) := dk_172 (dk_at dksX3_twin_0 17 rfl rfl)
theorem dX3_twin_18 : decode cX3_twin 18 = .ok (.aload_n 0, 1) := dk_42 (dk_at dksX3_twin_0 18 rfl rfl)
theorem dX3_twin_19 : decode cX3_twin 19 = .ok (.aload_n 0, 1) := dk_42 (dk_at dksX3_twin_0 19 rfl rfl)
theorem dX3_twin_20 : decode cX3_twin 20 = .ok (.iload_n 1, 1) := dk_27 (dk_at dksX3_twin_0 20 rfl rfl)
theorem dX3_twin_21 : decode cX3_twin 21 = .ok (.invokevirtual 187, 3) := dk_182 0 187 (dk_at dksX3_twin_0 21 rfl rfl)
theorem dX3_twin_24 : decode cX3_twin 24 = .ok (.invokevirtual 194, 3) := dk_182 0 194 (dk_at dksX3_twin_1 0 rfl rfl)
theorem dX3_twin_27 : decode cX3_twin 27 = .ok (.ifCond .ne 9, 3) := dk_154 0 9 (dk_at dksX3_twin_1 3 rfl rfl)
theorem dX3_twin_30 : decode cX3_twin 30 = .ok (.aload_n 0, 1) := dk_42 (dk_at dksX3_twin_1 6 rfl rfl)
theorem dX3_twin_31 : decode cX3_twin 31 = .ok (.iconst 1, 1) := dk_4 (dk_at dksX3_twin_1 7 rfl rfl)
theorem dX3_twin_32 : decode cX3_twin 32 = .ok (.invokevirtual 177, 3) := dk_182 0 177 (dk_at dksX3_twin_1 8 rfl rfl)
theorem dX3_twin_35 : decode cX3_twin 35 = .ok (.ireturn, 1) := dk_172 (dk_at dksX3_twin_1 11 rfl rfl)
theorem dX3_twin_36 : decode cX3_twin 36 = .ok (.aload_n 0, 1) := dk_42 (dk_at dksX3_twin_1 12 rfl rfl)
theorem dX3_twin_37 : decode cX3_twin 37 = .ok (.invokevirtual 180, 3) := dk_182 0 180 (dk_at dksX3_twin_1 13 rfl rfl)
theorem dX3_twin_40 : decode cX3_twin 40 = .ok (.aload_n 0, 1) := dk_42 (dk_at dksX3_twin_1 16 rfl rfl)
theorem dX3_twin_41 : decode cX3_twin 41 = .ok (.iload_n 1, 1) := dk_27 (dk_at dksX3_twin_1 17 rfl rfl)
theorem dX3_twin_42 : decode cX3_twin 42 = .ok (.invokevirtual 187, 3) := dk_182 0 187 (dk_at dksX3_twin_1 18 rfl rfl)
theorem dX3_twin_45 : decode cX3_twin 45 = .ok (.istore_n 3, 1) := dk_62 (dk_at dksX3_twin_1 21 rfl rfl)
theorem dX3_twin_46 : decode cX3_twin 46 = .ok (.aload_n 0, 1) := dk_42 (dk_at dksX3_twin_1 22 rfl rfl)
theorem dX3_twin_47 : decode cX3_twin 47 = .ok (.aload_n 0, 1) := dk_42 (dk_at dksX3_twin_1 23 rfl rfl)
theorem dX3_twin_48 : decode cX3_twin 48 = .ok (.getfield 16, 3) := dk_180 0 16 (dk_at dksX3_twin_2 0 rfl rfl)
theorem dX3_twin_51 : decode cX3_twin 51 = .ok (.iload_n 3, 1) := dk_29 (dk_at dksX3_twin_2 3 rfl rfl)
theorem dX3_twin_52 : decode cX3_twin 52 = .ok (.iaload, 1) := dk_46 (dk_at dksX3_twin_2 4 rfl rfl)
theorem dX3_twin_53 : decode cX3_twin 53 = .ok (.aload_n 0, 1) := dk_42 (dk_at dksX3_twin_2 5 rfl rfl)
theorem dX3_twin_54 : decode cX3_twin 54 = .ok (.getfield 19, 3) := dk_180 0 19 (dk_at dksX3_twin_2 6 rfl rfl)
theorem dX3_twin_57 : decode cX3_twin 57 = .ok (.iload_n 3, 1) := dk_29 (dk_at dksX3_twin_2 9 rfl rfl)
theorem dX3_twin_58 : decode cX3_twin 58 = .ok (.iaload, 1) := dk_46 (dk_at dksX3_twin_2 10 rfl rfl)
theorem dX3_twin_59 : decode cX3_twin 59 = .ok (.invokevirtual 183, 3) := dk_182 0 183 (dk_at dksX3_twin_2 11 rfl rfl)
theorem dX3_twin_62 : decode cX3_twin 62 = .ok (.istore 4, 2) := dk_54 4 (dk_at dksX3_twin_2 14 rfl rfl)
theorem dX3_twin_64 : decode cX3_twin 64 = .ok (.iconst 0, 1) := dk_3 (dk_at dksX3_twin_2 16 rfl rfl)
theorem dX3_twin_65 : decode cX3_twin 65 = .ok (.istore 5, 2) := dk_54 5 (dk_at dksX3_twin_2 17 rfl rfl)
theorem dX3_twin_67 : decode cX3_twin 67 = .ok (.iload 5, 2) := dk_21 5 (dk_at dksX3_twin_2 19 rfl rfl)
theorem dX3_twin_69 : decode cX3_twin 69 = .ok (.aload_n 0, 1) := dk_42 (dk_at dksX3_twin_2 21 rfl rfl)
theorem dX3_twin_70 : decode cX3_twin 70 = .ok (.getfield 19, 3) := dk_180 0 19 (dk_at dksX3_twin_3 0 rfl rfl)
theorem dX3_twin_73 : decode cX3_twin 73 = .ok (.iload_n 3, 1) := dk_29 (dk_at dksX3_twin_3 3 rfl rfl)
theorem dX3_twin_74 : decode cX3_twin 74 = .ok (.iaload, 1) := dk_46 (dk_at dksX3_twin_3 4 rfl rfl)
theorem dX3_twin_75 : decode cX3_twin 75 = .ok (.if_icmp .ge 29, 3) := dk_162 0 29 (dk_at dksX3_twin_3 5 rfl rfl)
theorem dX3_twin_78 : decode cX3_twin 78 = .ok (.aload_n 0, 1) := dk_42 (dk_at dksX3_twin_3 8 rfl rfl)
theorem dX3_twin_79 : decode cX3_twin 79 = .ok (.getfield 27, 3) := dk_180 0 27 (dk_at dksX3_twin_3 9 rfl rfl)
theorem dX3_twin_82 : decode cX3_twin 82 = .ok (.bipush 40, 2) := dk_16 40 (dk_at dksX3_twin_3 12 rfl rfl)
theorem dX3_twin_84 : decode cX3_twin 84 = .ok (.iload 4, 2) := dk_21 4 (dk_at dksX3_twin_3 14 rfl rfl)
theorem dX3_twin_86 : decode cX3_twin 86 = .ok (.imul, 1) := dk_104 (dk_at dksX3_twin_3 16 rfl rfl)
theorem dX3_twin_87 : decode cX3_twin 87 = .ok (.iload 5, 2) := dk_21 5 (dk_at dksX3_twin_3 17 rfl rfl)
theorem dX3_twin_89 : decode cX3_twin 89 = .ok (.iadd, 1) := dk_96 (dk_at dksX3_twin_3 19 rfl rfl)
theorem dX3_twin_90 : decode cX3_twin 90 = .ok (.aload_n 0, 1) := dk_42 (dk_at dksX3_twin_3 20 rfl rfl)
theorem dX3_twin_91 : decode cX3_twin 91 = .ok (.iload_n 3, 1) := dk_29 (dk_at dksX3_twin_3 21 rfl rfl)
theorem dX3_twin_92 : decode cX3_twin 92 = .ok (.iload 5, 2) := dk_21 5 (dk_at dksX3_twin_3 22 rfl rfl)
theorem dX3_twin_94 : decode cX3_twin 94 = .ok (.invokevirtual 71, 3) := dk_182 0 71 (dk_at dksX3_twin_4 0 rfl rfl)
theorem dX3_twin_97 : decode cX3_twin 97 = .ok (.lastore, 1) := dk_80 (dk_at dksX3_twin_4 3 rfl rfl)
theorem dX3_twin_98 : decode cX3_twin 98 = .ok (.iinc 5 1, 3) := dk_132 5 1 (dk_at dksX3_twin_4 4 rfl rfl)
theorem dX3_twin_101 : decode cX3_twin 101 = .ok (.goto (-34), 3) := dk_167 255 222 (dk_at dksX3_twin_4 7 rfl rfl)
theorem dX3_twin_104 : decode cX3_twin 104 = .ok (.aload_n 0, 1) := dk_42 (dk_at dksX3_twin_4 10 rfl rfl)
theorem dX3_twin_105 : decode cX3_twin 105 = .ok (.getfield 13, 3) := dk_180 0 13 (dk_at dksX3_twin_4 11 rfl rfl)
theorem dX3_twin_108 : decode cX3_twin 108 = .ok (.iload_n 2, 1) := dk_28 (dk_at dksX3_twin_4 14 rfl rfl)
theorem dX3_twin_109 : decode cX3_twin 109 = .ok (.bipush 15, 2) := dk_16 15 (dk_at dksX3_twin_4 15 rfl rfl)
theorem dX3_twin_111 : decode cX3_twin 111 = .ok (.iand, 1) := dk_126 (dk_at dksX3_twin_4 17 rfl rfl)
theorem dX3_twin_112 : decode cX3_twin 112 = .ok (.iload 4, 2) := dk_21 4 (dk_at dksX3_twin_4 18 rfl rfl)
theorem dX3_twin_114 : decode cX3_twin 114 = .ok (.iastore, 1) := dk_79 (dk_at dksX3_twin_4 20 rfl rfl)
theorem dX3_twin_115 : decode cX3_twin 115 = .ok (.aload_n 0, 1) := dk_42 (dk_at dksX3_twin_4 21 rfl rfl)
theorem dX3_twin_116 : decode cX3_twin 116 = .ok (.getfield 19, 3) := dk_180 0 19 (dk_at dksX3_twin_5 0 rfl rfl)
theorem dX3_twin_119 : decode cX3_twin 119 = .ok (.iload_n 3, 1) := dk_29 (dk_at dksX3_twin_5 3 rfl rfl)
theorem dX3_twin_120 : decode cX3_twin 120 = .ok (.iaload, 1) := dk_46 (dk_at dksX3_twin_5 4 rfl rfl)
theorem dX3_twin_121 : decode cX3_twin 121 = .ok (.ireturn, 1) := dk_172 (dk_at dksX3_twin_5 5 rfl rfl)
abbrev cX3_call : ByteArray := prog_11_method_51_code
def yX3_call : MethodName := ⟨RX3, "call", "(II)I"⟩
def dkwX3_call_15 : List UInt8 := [16, 100, 96, 172, 21, 4, 21, 4, 104, 172]
abbrev dktX3_call_15 : List UInt8 := dkwX3_call_15 ++ []
def dkwX3_call_14 : List UInt8 := [96, 104, 6, 100, 167, 0, 23, 21, 5, 153, 0, 13, 5, 21, 4, 16, 100, 96, 104, 167, 0, 8, 21, 4]
abbrev dktX3_call_14 : List UInt8 := dkwX3_call_14 ++ dktX3_call_15
def dkwX3_call_13 : List UInt8 := [21, 4, 104, 172, 21, 7, 153, 0, 8, 21, 4, 167, 0, 40, 21, 6, 153, 0, 15, 5, 21, 4, 16, 100]
abbrev dktX3_call_13 : List UInt8 := dkwX3_call_13 ++ dktX3_call_14
def dkwX3_call_12 : List UInt8 := [153, 0, 7, 3, 167, 0, 23, 21, 6, 153, 0, 13, 16, 7, 21, 4, 104, 8, 96, 167, 0, 8, 16, 7]
abbrev dktX3_call_12 : List UInt8 := dkwX3_call_12 ++ dktX3_call_13
def dkwX3_call_11 : List UInt8 := [167, 0, 21, 21, 5, 153, 0, 12, 5, 21, 4, 104, 4, 96, 167, 0, 7, 5, 21, 4, 104, 172, 21, 7]
abbrev dktX3_call_11 : List UInt8 := dkwX3_call_11 ++ dktX3_call_12
def dkwX3_call_10 : List UInt8 := [153, 0, 10, 5, 21, 8, 104, 167, 0, 37, 21, 6, 153, 0, 14, 6, 5, 21, 4, 104, 4, 96, 104]
abbrev dktX3_call_10 : List UInt8 := dkwX3_call_10 ++ dktX3_call_11
def dkwX3_call_9 : List UInt8 := [21, 8, 172, 21, 5, 153, 0, 9, 17, 3, 242, 167, 0, 5, 16, 10, 21, 8, 96, 172, 21, 7]
abbrev dktX3_call_9 : List UInt8 := dkwX3_call_9 ++ dktX3_call_10
def dkwX3_call_8 : List UInt8 := [170, 0, 0, 0, 0, 0, 0, 181, 0, 0, 0, 0, 0, 0, 0, 4, 0, 0, 0, 36, 0, 0, 0, 39, 0, 0, 0, 56, 0, 0, 0, 103, 0, 0, 0, 133]
abbrev dktX3_call_8 : List UInt8 := dkwX3_call_8 ++ dktX3_call_9
def dkwX3_call_7 : List UInt8 := [167, 0, 5, 21, 4, 54, 8, 28]
abbrev dktX3_call_7 : List UInt8 := dkwX3_call_7 ++ dktX3_call_8
def dkwX3_call_6 : List UInt8 := [54, 7, 21, 7, 153, 0, 9, 21, 4, 116, 167, 0, 17, 21, 5, 153, 0, 10, 21, 4, 4, 96]
abbrev dktX3_call_6 : List UInt8 := dkwX3_call_6 ++ dktX3_call_7
def dkwX3_call_5 : List UInt8 := [4, 167, 0, 4, 3, 54, 6, 42, 180, 0, 16, 29, 46, 16, 14, 160, 0, 7, 4, 167, 0, 4, 3]
abbrev dktX3_call_5 : List UInt8 := dkwX3_call_5 ++ dktX3_call_6
def dkwX3_call_4 : List UInt8 := [46, 16, 13, 160, 0, 7, 4, 167, 0, 4, 3, 54, 5, 42, 180, 0, 16, 29, 46, 16, 13, 160, 0, 7]
abbrev dktX3_call_4 : List UInt8 := dkwX3_call_4 ++ dktX3_call_5
def dkwX3_call_3 : List UInt8 := [29, 3, 182, 0, 71, 136, 54, 4, 42, 180, 0, 16, 29, 46, 16, 12, 159, 0, 14, 42, 180, 0, 16, 29]
abbrev dktX3_call_3 : List UInt8 := dkwX3_call_3 ++ dktX3_call_4
def dkwX3_call_2 : List UInt8 := [184, 0, 190, 154, 0, 10, 42, 16, 6, 182, 0, 177, 172, 29, 154, 0, 9, 42, 6, 182, 0, 177, 172, 42]
abbrev dktX3_call_2 : List UInt8 := dkwX3_call_2 ++ dktX3_call_3
def dkwX3_call_1 : List UInt8 := [62, 29, 153, 0, 34, 42, 180, 0, 16, 29, 46, 28, 8, 160, 0, 8, 16, 11, 167, 0, 5, 16, 16]
abbrev dktX3_call_1 : List UInt8 := dkwX3_call_1 ++ dktX3_call_2
def dkwX3_call_0 : List UInt8 := [42, 182, 0, 174, 28, 3, 8, 184, 0, 67, 154, 0, 9, 42, 4, 182, 0, 177, 172, 42, 27, 182, 0, 187]
abbrev dktX3_call_0 : List UInt8 := dkwX3_call_0 ++ dktX3_call_1
theorem dksX3_call_0 : cX3_call.data.toList.drop 0 = dktX3_call_0 := by decide +kernel
theorem dksX3_call_1 : cX3_call.data.toList.drop 24 = dktX3_call_1 := dk_seg dksX3_call_0 24 rfl rfl
theorem dksX3_call_2 : cX3_call.data.toList.drop 47 = dktX3_call_2 := dk_seg dksX3_call_1 23 rfl rfl
theorem dksX3_call_3 : cX3_call.data.toList.drop 71 = dktX3_call_3 := dk_seg dksX3_call_2 24 rfl rfl
theorem dksX3_call_4 : cX3_call.data.toList.drop 95 = dktX3_call_4 := dk_seg dksX3_call_3 24 rfl rfl
theorem dksX3_call_5 : cX3_call.data.toList.drop 119 = dktX3_call_5 := dk_seg dksX3_call_4 24 rfl rfl
theorem dksX3_call_6 : cX3_call.data.toList.drop 142 = dktX3_call_6 := dk_seg dksX3_call_5 23 rfl rfl
theorem dksX3_call_7 : cX3_call.data.toList.drop 164 = dktX3_call_7 := dk_seg dksX3_call_6 22 rfl rfl
theorem dksX3_call_8 : cX3_call.data.toList.drop 172 = dktX3_call_8 := dk_seg dksX3_call_7 8 rfl rfl
theorem dksX3_call_9 : cX3_call.data.toList.drop 208 = dktX3_call_9 := dk_seg dksX3_call_8 36 rfl rfl
theorem dksX3_call_10 : cX3_call.data.toList.drop 230 = dktX3_call_10 := dk_seg dksX3_call_9 22 rfl rfl
theorem dksX3_call_11 : cX3_call.data.toList.drop 253 = dktX3_call_11 := dk_seg dksX3_call_10 23 rfl rfl
theorem dksX3_call_12 : cX3_call.data.toList.drop 277 = dktX3_call_12 := dk_seg dksX3_call_11 24 rfl rfl
theorem dksX3_call_13 : cX3_call.data.toList.drop 301 = dktX3_call_13 := dk_seg dksX3_call_12 24 rfl rfl
theorem dksX3_call_14 : cX3_call.data.toList.drop 325 = dktX3_call_14 := dk_seg dksX3_call_13 24 rfl rfl
theorem dksX3_call_15 : cX3_call.data.toList.drop 349 = dktX3_call_15 := dk_seg dksX3_call_14 24 rfl rfl
theorem dX3_call_0 : decode cX3_call 0 = .ok (.aload_n 0, 1) := dk_42 (dk_at dksX3_call_0 0 rfl rfl)
theorem dX3_call_1 : decode cX3_call 1 = .ok (.invokevirtual 174, 3) := dk_182 0 174 (dk_at dksX3_call_0 1 rfl rfl)
theorem dX3_call_4 : decode cX3_call 4 = .ok (.iload_n 2, 1) := dk_28 (dk_at dksX3_call_0 4 rfl rfl)
theorem dX3_call_5 : decode cX3_call 5 = .ok (.iconst 0, 1) := dk_3 (dk_at dksX3_call_0 5 rfl rfl)
theorem dX3_call_6 : decode cX3_call 6 = .ok (.iconst 5, 1) := dk_8 (dk_at dksX3_call_0 6 rfl rfl)
theorem dX3_call_7 : decode cX3_call 7 = .ok (.invokestatic 67, 3) := dk_184 0 67 (dk_at dksX3_call_0 7 rfl rfl)
theorem dX3_call_10 : decode cX3_call 10 = .ok (.ifCond .ne 9, 3) := dk_154 0 9 (dk_at dksX3_call_0 10 rfl rfl)
theorem dX3_call_13 : decode cX3_call 13 = .ok (.aload_n 0, 1) := dk_42 (dk_at dksX3_call_0 13 rfl rfl)
theorem dX3_call_14 : decode cX3_call 14 = .ok (.iconst 1, 1) := dk_4 (dk_at dksX3_call_0 14 rfl rfl)
theorem dX3_call_15 : decode cX3_call 15 = .ok (.invokevirtual 177, 3) := dk_182 0 177 (dk_at dksX3_call_0 15 rfl rfl)
theorem dX3_call_18 : decode cX3_call 18 = .ok (.ireturn, 1) := dk_172 (dk_at dksX3_call_0 18 rfl rfl)
theorem dX3_call_19 : decode cX3_call 19 = .ok (.aload_n 0, 1) := dk_42 (dk_at dksX3_call_0 19 rfl rfl)
theorem dX3_call_20 : decode cX3_call 20 = .ok (.iload_n 1, 1) := dk_27 (dk_at dksX3_call_0 20 rfl rfl)
theorem dX3_call_21 : decode cX3_call 21 = .ok (.invokevirtual 187, 3) := dk_182 0 187 (dk_at dksX3_call_0 21 rfl rfl)
theorem dX3_call_24 : decode cX3_call 24 = .ok (.istore_n 3, 1) := dk_62 (dk_at dksX3_call_1 0 rfl rfl)
theorem dX3_call_25 : decode cX3_call 25 = .ok (.iload_n 3, 1) := dk_29 (dk_at dksX3_call_1 1 rfl rfl)
theorem dX3_call_26 : decode cX3_call 26 = .ok (.ifCond .eq 34, 3) := dk_153 0 34 (dk_at dksX3_call_1 2 rfl rfl)
theorem dX3_call_29 : decode cX3_call 29 = .ok (.aload_n 0, 1) := dk_42 (dk_at dksX3_call_1 5 rfl rfl)
theorem dX3_call_30 : decode cX3_call 30 = .ok (.getfield 16, 3) := dk_180 0 16 (dk_at dksX3_call_1 6 rfl rfl)
theorem dX3_call_33 : decode cX3_call 33 = .ok (.iload_n 3, 1) := dk_29 (dk_at dksX3_call_1 9 rfl rfl)
theorem dX3_call_34 : decode cX3_call 34 = .ok (.iaload, 1) := dk_46 (dk_at dksX3_call_1 10 rfl rfl)
theorem dX3_call_35 : decode cX3_call 35 = .ok (.iload_n 2, 1) := dk_28 (dk_at dksX3_call_1 11 rfl rfl)
theorem dX3_call_36 : decode cX3_call 36 = .ok (.iconst 5, 1) := dk_8 (dk_at dksX3_call_1 12 rfl rfl)
theorem dX3_call_37 : decode cX3_call 37 = .ok (.if_icmp .ne 8, 3) := dk_160 0 8 (dk_at dksX3_call_1 13 rfl rfl)
theorem dX3_call_40 : decode cX3_call 40 = .ok (.bipush 11, 2) := dk_16 11 (dk_at dksX3_call_1 16 rfl rfl)
theorem dX3_call_42 : decode cX3_call 42 = .ok (.goto 5, 3) := dk_167 0 5 (dk_at dksX3_call_1 18 rfl rfl)
theorem dX3_call_45 : decode cX3_call 45 = .ok (.bipush 16, 2) := dk_16 16 (dk_at dksX3_call_1 21 rfl rfl)
theorem dX3_call_47 : decode cX3_call 47 = .ok (.invokestatic 190, 3) := dk_184 0 190 (dk_at dksX3_call_2 0 rfl rfl)
theorem dX3_call_50 : decode cX3_call 50 = .ok (.ifCond .ne 10, 3) := dk_154 0 10 (dk_at dksX3_call_2 3 rfl rfl)
theorem dX3_call_53 : decode cX3_call 53 = .ok (.aload_n 0, 1) := dk_42 (dk_at dksX3_call_2 6 rfl rfl)
theorem dX3_call_54 : decode cX3_call 54 = .ok (.bipush 6, 2) := dk_16 6 (dk_at dksX3_call_2 7 rfl rfl)
theorem dX3_call_56 : decode cX3_call 56 = .ok (.invokevirtual 177, 3) := dk_182 0 177 (dk_at dksX3_call_2 9 rfl rfl)
theorem dX3_call_59 : decode cX3_call 59 = .ok (.ireturn, 1) := dk_172 (dk_at dksX3_call_2 12 rfl rfl)
theorem dX3_call_60 : decode cX3_call 60 = .ok (.iload_n 3, 1) := dk_29 (dk_at dksX3_call_2 13 rfl rfl)
theorem dX3_call_61 : decode cX3_call 61 = .ok (.ifCond .ne 9, 3) := dk_154 0 9 (dk_at dksX3_call_2 14 rfl rfl)
theorem dX3_call_64 : decode cX3_call 64 = .ok (.aload_n 0, 1) := dk_42 (dk_at dksX3_call_2 17 rfl rfl)
theorem dX3_call_65 : decode cX3_call 65 = .ok (.iconst 3, 1) := dk_6 (dk_at dksX3_call_2 18 rfl rfl)
theorem dX3_call_66 : decode cX3_call 66 = .ok (.invokevirtual 177, 3) := dk_182 0 177 (dk_at dksX3_call_2 19 rfl rfl)
theorem dX3_call_69 : decode cX3_call 69 = .ok (.ireturn, 1) := dk_172 (dk_at dksX3_call_2 22 rfl rfl)
theorem dX3_call_70 : decode cX3_call 70 = .ok (.aload_n 0, 1) := dk_42 (dk_at dksX3_call_2 23 rfl rfl)
theorem dX3_call_71 : decode cX3_call 71 = .ok (.iload_n 3, 1) := dk_29 (dk_at dksX3_call_3 0 rfl rfl)
theorem dX3_call_72 : decode cX3_call 72 = .ok (.iconst 0, 1) := dk_3 (dk_at dksX3_call_3 1 rfl rfl)
theorem dX3_call_73 : decode cX3_call 73 = .ok (.invokevirtual 71, 3) := dk_182 0 71 (dk_at dksX3_call_3 2 rfl rfl)
theorem dX3_call_76 : decode cX3_call 76 = .ok (.l2i, 1) := dk_136 (dk_at dksX3_call_3 5 rfl rfl)
theorem dX3_call_77 : decode cX3_call 77 = .ok (.istore 4, 2) := dk_54 4 (dk_at dksX3_call_3 6 rfl rfl)
theorem dX3_call_79 : decode cX3_call 79 = .ok (.aload_n 0, 1) := dk_42 (dk_at dksX3_call_3 8 rfl rfl)
theorem dX3_call_80 : decode cX3_call 80 = .ok (.getfield 16, 3) := dk_180 0 16 (dk_at dksX3_call_3 9 rfl rfl)
theorem dX3_call_83 : decode cX3_call 83 = .ok (.iload_n 3, 1) := dk_29 (dk_at dksX3_call_3 12 rfl rfl)
theorem dX3_call_84 : decode cX3_call 84 = .ok (.iaload, 1) := dk_46 (dk_at dksX3_call_3 13 rfl rfl)
theorem dX3_call_85 : decode cX3_call 85 = .ok (.bipush 12, 2) := dk_16 12 (dk_at dksX3_call_3 14 rfl rfl)
theorem dX3_call_87 : decode cX3_call 87 = .ok (.if_icmp .eq 14, 3) := dk_159 0 14 (dk_at dksX3_call_3 16 rfl rfl)
theorem dX3_call_90 : decode cX3_call 90 = .ok (.aload_n 0, 1) := dk_42 (dk_at dksX3_call_3 19 rfl rfl)
theorem dX3_call_91 : decode cX3_call 91 = .ok (.getfield 16, 3) := dk_180 0 16 (dk_at dksX3_call_3 20 rfl rfl)
theorem dX3_call_94 : decode cX3_call 94 = .ok (.iload_n 3, 1) := dk_29 (dk_at dksX3_call_3 23 rfl rfl)
theorem dX3_call_95 : decode cX3_call 95 = .ok (.iaload, 1) := dk_46 (dk_at dksX3_call_4 0 rfl rfl)
theorem dX3_call_96 : decode cX3_call 96 = .ok (.bipush 13, 2) := dk_16 13 (dk_at dksX3_call_4 1 rfl rfl)
theorem dX3_call_98 : decode cX3_call 98 = .ok (.if_icmp .ne 7, 3) := dk_160 0 7 (dk_at dksX3_call_4 3 rfl rfl)
theorem dX3_call_101 : decode cX3_call 101 = .ok (.iconst 1, 1) := dk_4 (dk_at dksX3_call_4 6 rfl rfl)
theorem dX3_call_102 : decode cX3_call 102 = .ok (.goto 4, 3) := dk_167 0 4 (dk_at dksX3_call_4 7 rfl rfl)
theorem dX3_call_105 : decode cX3_call 105 = .ok (.iconst 0, 1) := dk_3 (dk_at dksX3_call_4 10 rfl rfl)
theorem dX3_call_106 : decode cX3_call 106 = .ok (.istore 5, 2) := dk_54 5 (dk_at dksX3_call_4 11 rfl rfl)
theorem dX3_call_108 : decode cX3_call 108 = .ok (.aload_n 0, 1) := dk_42 (dk_at dksX3_call_4 13 rfl rfl)
theorem dX3_call_109 : decode cX3_call 109 = .ok (.getfield 16, 3) := dk_180 0 16 (dk_at dksX3_call_4 14 rfl rfl)
theorem dX3_call_112 : decode cX3_call 112 = .ok (.iload_n 3, 1) := dk_29 (dk_at dksX3_call_4 17 rfl rfl)
theorem dX3_call_113 : decode cX3_call 113 = .ok (.iaload, 1) := dk_46 (dk_at dksX3_call_4 18 rfl rfl)
theorem dX3_call_114 : decode cX3_call 114 = .ok (.bipush 13, 2) := dk_16 13 (dk_at dksX3_call_4 19 rfl rfl)
theorem dX3_call_116 : decode cX3_call 116 = .ok (.if_icmp .ne 7, 3) := dk_160 0 7 (dk_at dksX3_call_4 21 rfl rfl)
theorem dX3_call_119 : decode cX3_call 119 = .ok (.iconst 1, 1) := dk_4 (dk_at dksX3_call_5 0 rfl rfl)
theorem dX3_call_120 : decode cX3_call 120 = .ok (.goto 4, 3) := dk_167 0 4 (dk_at dksX3_call_5 1 rfl rfl)
theorem dX3_call_123 : decode cX3_call 123 = .ok (.iconst 0, 1) := dk_3 (dk_at dksX3_call_5 4 rfl rfl)
theorem dX3_call_124 : decode cX3_call 124 = .ok (.istore 6, 2) := dk_54 6 (dk_at dksX3_call_5 5 rfl rfl)
theorem dX3_call_126 : decode cX3_call 126 = .ok (.aload_n 0, 1) := dk_42 (dk_at dksX3_call_5 7 rfl rfl)
theorem dX3_call_127 : decode cX3_call 127 = .ok (.getfield 16, 3) := dk_180 0 16 (dk_at dksX3_call_5 8 rfl rfl)
theorem dX3_call_130 : decode cX3_call 130 = .ok (.iload_n 3, 1) := dk_29 (dk_at dksX3_call_5 11 rfl rfl)
theorem dX3_call_131 : decode cX3_call 131 = .ok (.iaload, 1) := dk_46 (dk_at dksX3_call_5 12 rfl rfl)
theorem dX3_call_132 : decode cX3_call 132 = .ok (.bipush 14, 2) := dk_16 14 (dk_at dksX3_call_5 13 rfl rfl)
theorem dX3_call_134 : decode cX3_call 134 = .ok (.if_icmp .ne 7, 3) := dk_160 0 7 (dk_at dksX3_call_5 15 rfl rfl)
theorem dX3_call_137 : decode cX3_call 137 = .ok (.iconst 1, 1) := dk_4 (dk_at dksX3_call_5 18 rfl rfl)
theorem dX3_call_138 : decode cX3_call 138 = .ok (.goto 4, 3) := dk_167 0 4 (dk_at dksX3_call_5 19 rfl rfl)
theorem dX3_call_141 : decode cX3_call 141 = .ok (.iconst 0, 1) := dk_3 (dk_at dksX3_call_5 22 rfl rfl)
theorem dX3_call_142 : decode cX3_call 142 = .ok (.istore 7, 2) := dk_54 7 (dk_at dksX3_call_6 0 rfl rfl)
theorem dX3_call_144 : decode cX3_call 144 = .ok (.iload 7, 2) := dk_21 7 (dk_at dksX3_call_6 2 rfl rfl)
theorem dX3_call_146 : decode cX3_call 146 = .ok (.ifCond .eq 9, 3) := dk_153 0 9 (dk_at dksX3_call_6 4 rfl rfl)
theorem dX3_call_149 : decode cX3_call 149 = .ok (.iload 4, 2) := dk_21 4 (dk_at dksX3_call_6 7 rfl rfl)
theorem dX3_call_151 : decode cX3_call 151 = .ok (.ineg, 1) := dk_116 (dk_at dksX3_call_6 9 rfl rfl)
theorem dX3_call_152 : decode cX3_call 152 = .ok (.goto 17, 3) := dk_167 0 17 (dk_at dksX3_call_6 10 rfl rfl)
theorem dX3_call_155 : decode cX3_call 155 = .ok (.iload 5, 2) := dk_21 5 (dk_at dksX3_call_6 13 rfl rfl)
theorem dX3_call_157 : decode cX3_call 157 = .ok (.ifCond .eq 10, 3) := dk_153 0 10 (dk_at dksX3_call_6 15 rfl rfl)
theorem dX3_call_160 : decode cX3_call 160 = .ok (.iload 4, 2) := dk_21 4 (dk_at dksX3_call_6 18 rfl rfl)
theorem dX3_call_162 : decode cX3_call 162 = .ok (.iconst 1, 1) := dk_4 (dk_at dksX3_call_6 20 rfl rfl)
theorem dX3_call_163 : decode cX3_call 163 = .ok (.iadd, 1) := dk_96 (dk_at dksX3_call_6 21 rfl rfl)
theorem dX3_call_164 : decode cX3_call 164 = .ok (.goto 5, 3) := dk_167 0 5 (dk_at dksX3_call_7 0 rfl rfl)
theorem dX3_call_167 : decode cX3_call 167 = .ok (.iload 4, 2) := dk_21 4 (dk_at dksX3_call_7 3 rfl rfl)
theorem dX3_call_169 : decode cX3_call 169 = .ok (.istore 8, 2) := dk_54 8 (dk_at dksX3_call_7 5 rfl rfl)
theorem dX3_call_171 : decode cX3_call 171 = .ok (.iload_n 2, 1) := dk_28 (dk_at dksX3_call_7 7 rfl rfl)
theorem dX3_call_172 : decode cX3_call 172 = .ok (.tableswitch 181 0 4 #[36, 39, 56, 103, 133], 36) := by decide +kernel
theorem dX3_call_208 : decode cX3_call 208 = .ok (.iload 8, 2) := dk_21 8 (dk_at dksX3_call_9 0 rfl rfl)
theorem dX3_call_210 : decode cX3_call 210 = .ok (.ireturn, 1) := dk_172 (dk_at dksX3_call_9 2 rfl rfl)
theorem dX3_call_211 : decode cX3_call 211 = .ok (.iload 5, 2) := dk_21 5 (dk_at dksX3_call_9 3 rfl rfl)
theorem dX3_call_213 : decode cX3_call 213 = .ok (.ifCond .eq 9, 3) := dk_153 0 9 (dk_at dksX3_call_9 5 rfl rfl)
theorem dX3_call_216 : decode cX3_call 216 = .ok (.sipush 1010, 3) := dk_17 3 242 (dk_at dksX3_call_9 8 rfl rfl)
theorem dX3_call_219 : decode cX3_call 219 = .ok (.goto 5, 3) := dk_167 0 5 (dk_at dksX3_call_9 11 rfl rfl)
theorem dX3_call_222 : decode cX3_call 222 = .ok (.bipush 10, 2) := dk_16 10 (dk_at dksX3_call_9 14 rfl rfl)
theorem dX3_call_224 : decode cX3_call 224 = .ok (.iload 8, 2) := dk_21 8 (dk_at dksX3_call_9 16 rfl rfl)
theorem dX3_call_226 : decode cX3_call 226 = .ok (.iadd, 1) := dk_96 (dk_at dksX3_call_9 18 rfl rfl)
theorem dX3_call_227 : decode cX3_call 227 = .ok (.ireturn, 1) := dk_172 (dk_at dksX3_call_9 19 rfl rfl)
theorem dX3_call_228 : decode cX3_call 228 = .ok (.iload 7, 2) := dk_21 7 (dk_at dksX3_call_9 20 rfl rfl)
theorem dX3_call_230 : decode cX3_call 230 = .ok (.ifCond .eq 10, 3) := dk_153 0 10 (dk_at dksX3_call_10 0 rfl rfl)
theorem dX3_call_233 : decode cX3_call 233 = .ok (.iconst 2, 1) := dk_5 (dk_at dksX3_call_10 3 rfl rfl)
theorem dX3_call_234 : decode cX3_call 234 = .ok (.iload 8, 2) := dk_21 8 (dk_at dksX3_call_10 4 rfl rfl)
theorem dX3_call_236 : decode cX3_call 236 = .ok (.imul, 1) := dk_104 (dk_at dksX3_call_10 6 rfl rfl)
theorem dX3_call_237 : decode cX3_call 237 = .ok (.goto 37, 3) := dk_167 0 37 (dk_at dksX3_call_10 7 rfl rfl)
theorem dX3_call_240 : decode cX3_call 240 = .ok (.iload 6, 2) := dk_21 6 (dk_at dksX3_call_10 10 rfl rfl)
theorem dX3_call_242 : decode cX3_call 242 = .ok (.ifCond .eq 14, 3) := dk_153 0 14 (dk_at dksX3_call_10 12 rfl rfl)
theorem dX3_call_245 : decode cX3_call 245 = .ok (.iconst 3, 1) := dk_6 (dk_at dksX3_call_10 15 rfl rfl)
theorem dX3_call_246 : decode cX3_call 246 = .ok (.iconst 2, 1) := dk_5 (dk_at dksX3_call_10 16 rfl rfl)
theorem dX3_call_247 : decode cX3_call 247 = .ok (.iload 4, 2) := dk_21 4 (dk_at dksX3_call_10 17 rfl rfl)
theorem dX3_call_249 : decode cX3_call 249 = .ok (.imul, 1) := dk_104 (dk_at dksX3_call_10 19 rfl rfl)
theorem dX3_call_250 : decode cX3_call 250 = .ok (.iconst 1, 1) := dk_4 (dk_at dksX3_call_10 20 rfl rfl)
theorem dX3_call_251 : decode cX3_call 251 = .ok (.iadd, 1) := dk_96 (dk_at dksX3_call_10 21 rfl rfl)
theorem dX3_call_252 : decode cX3_call 252 = .ok (.imul, 1) := dk_104 (dk_at dksX3_call_10 22 rfl rfl)
theorem dX3_call_253 : decode cX3_call 253 = .ok (.goto 21, 3) := dk_167 0 21 (dk_at dksX3_call_11 0 rfl rfl)
theorem dX3_call_256 : decode cX3_call 256 = .ok (.iload 5, 2) := dk_21 5 (dk_at dksX3_call_11 3 rfl rfl)
theorem dX3_call_258 : decode cX3_call 258 = .ok (.ifCond .eq 12, 3) := dk_153 0 12 (dk_at dksX3_call_11 5 rfl rfl)
theorem dX3_call_261 : decode cX3_call 261 = .ok (.iconst 2, 1) := dk_5 (dk_at dksX3_call_11 8 rfl rfl)
theorem dX3_call_262 : decode cX3_call 262 = .ok (.iload 4, 2) := dk_21 4 (dk_at dksX3_call_11 9 rfl rfl)
theorem dX3_call_264 : decode cX3_call 264 = .ok (.imul, 1) := dk_104 (dk_at dksX3_call_11 11 rfl rfl)
theorem dX3_call_265 : decode cX3_call 265 = .ok (.iconst 1, 1) := dk_4 (dk_at dksX3_call_11 12 rfl rfl)
theorem dX3_call_266 : decode cX3_call 266 = .ok (.iadd, 1) := dk_96 (dk_at dksX3_call_11 13 rfl rfl)
theorem dX3_call_267 : decode cX3_call 267 = .ok (.goto 7, 3) := dk_167 0 7 (dk_at dksX3_call_11 14 rfl rfl)
theorem dX3_call_270 : decode cX3_call 270 = .ok (.iconst 2, 1) := dk_5 (dk_at dksX3_call_11 17 rfl rfl)
theorem dX3_call_271 : decode cX3_call 271 = .ok (.iload 4, 2) := dk_21 4 (dk_at dksX3_call_11 18 rfl rfl)
theorem dX3_call_273 : decode cX3_call 273 = .ok (.imul, 1) := dk_104 (dk_at dksX3_call_11 20 rfl rfl)
theorem dX3_call_274 : decode cX3_call 274 = .ok (.ireturn, 1) := dk_172 (dk_at dksX3_call_11 21 rfl rfl)
theorem dX3_call_275 : decode cX3_call 275 = .ok (.iload 7, 2) := dk_21 7 (dk_at dksX3_call_11 22 rfl rfl)
theorem dX3_call_277 : decode cX3_call 277 = .ok (.ifCond .eq 7, 3) := dk_153 0 7 (dk_at dksX3_call_12 0 rfl rfl)
theorem dX3_call_280 : decode cX3_call 280 = .ok (.iconst 0, 1) := dk_3 (dk_at dksX3_call_12 3 rfl rfl)
theorem dX3_call_281 : decode cX3_call 281 = .ok (.goto 23, 3) := dk_167 0 23 (dk_at dksX3_call_12 4 rfl rfl)
theorem dX3_call_284 : decode cX3_call 284 = .ok (.iload 6, 2) := dk_21 6 (dk_at dksX3_call_12 7 rfl rfl)
theorem dX3_call_286 : decode cX3_call 286 = .ok (.ifCond .eq 13, 3) := dk_153 0 13 (dk_at dksX3_call_12 9 rfl rfl)
theorem dX3_call_289 : decode cX3_call 289 = .ok (.bipush 7, 2) := dk_16 7 (dk_at dksX3_call_12 12 rfl rfl)
theorem dX3_call_291 : decode cX3_call 291 = .ok (.iload 4, 2) := dk_21 4 (dk_at dksX3_call_12 14 rfl rfl)
theorem dX3_call_293 : decode cX3_call 293 = .ok (.imul, 1) := dk_104 (dk_at dksX3_call_12 16 rfl rfl)
theorem dX3_call_294 : decode cX3_call 294 = .ok (.iconst 5, 1) := dk_8 (dk_at dksX3_call_12 17 rfl rfl)
theorem dX3_call_295 : decode cX3_call 295 = .ok (.iadd, 1) := dk_96 (dk_at dksX3_call_12 18 rfl rfl)
theorem dX3_call_296 : decode cX3_call 296 = .ok (.goto 8, 3) := dk_167 0 8 (dk_at dksX3_call_12 19 rfl rfl)
theorem dX3_call_299 : decode cX3_call 299 = .ok (.bipush 7, 2) := dk_16 7 (dk_at dksX3_call_12 22 rfl rfl)
theorem dX3_call_301 : decode cX3_call 301 = .ok (.iload 4, 2) := dk_21 4 (dk_at dksX3_call_13 0 rfl rfl)
theorem dX3_call_303 : decode cX3_call 303 = .ok (.imul, 1) := dk_104 (dk_at dksX3_call_13 2 rfl rfl)
theorem dX3_call_304 : decode cX3_call 304 = .ok (.ireturn, 1) := dk_172 (dk_at dksX3_call_13 3 rfl rfl)
theorem dX3_call_305 : decode cX3_call 305 = .ok (.iload 7, 2) := dk_21 7 (dk_at dksX3_call_13 4 rfl rfl)
theorem dX3_call_307 : decode cX3_call 307 = .ok (.ifCond .eq 8, 3) := dk_153 0 8 (dk_at dksX3_call_13 6 rfl rfl)
theorem dX3_call_310 : decode cX3_call 310 = .ok (.iload 4, 2) := dk_21 4 (dk_at dksX3_call_13 9 rfl rfl)
theorem dX3_call_312 : decode cX3_call 312 = .ok (.goto 40, 3) := dk_167 0 40 (dk_at dksX3_call_13 11 rfl rfl)
theorem dX3_call_315 : decode cX3_call 315 = .ok (.iload 6, 2) := dk_21 6 (dk_at dksX3_call_13 14 rfl rfl)
theorem dX3_call_317 : decode cX3_call 317 = .ok (.ifCond .eq 15, 3) := dk_153 0 15 (dk_at dksX3_call_13 16 rfl rfl)
theorem dX3_call_320 : decode cX3_call 320 = .ok (.iconst 2, 1) := dk_5 (dk_at dksX3_call_13 19 rfl rfl)
theorem dX3_call_321 : decode cX3_call 321 = .ok (.iload 4, 2) := dk_21 4 (dk_at dksX3_call_13 20 rfl rfl)
theorem dX3_call_323 : decode cX3_call 323 = .ok (.bipush 100, 2) := dk_16 100 (dk_at dksX3_call_13 22 rfl rfl)
theorem dX3_call_325 : decode cX3_call 325 = .ok (.iadd, 1) := dk_96 (dk_at dksX3_call_14 0 rfl rfl)
theorem dX3_call_326 : decode cX3_call 326 = .ok (.imul, 1) := dk_104 (dk_at dksX3_call_14 1 rfl rfl)
theorem dX3_call_327 : decode cX3_call 327 = .ok (.iconst 3, 1) := dk_6 (dk_at dksX3_call_14 2 rfl rfl)
theorem dX3_call_328 : decode cX3_call 328 = .ok (.isub, 1) := dk_100 (dk_at dksX3_call_14 3 rfl rfl)
theorem dX3_call_329 : decode cX3_call 329 = .ok (.goto 23, 3) := dk_167 0 23 (dk_at dksX3_call_14 4 rfl rfl)
theorem dX3_call_332 : decode cX3_call 332 = .ok (.iload 5, 2) := dk_21 5 (dk_at dksX3_call_14 7 rfl rfl)
theorem dX3_call_334 : decode cX3_call 334 = .ok (.ifCond .eq 13, 3) := dk_153 0 13 (dk_at dksX3_call_14 9 rfl rfl)
theorem dX3_call_337 : decode cX3_call 337 = .ok (.iconst 2, 1) := dk_5 (dk_at dksX3_call_14 12 rfl rfl)
theorem dX3_call_338 : decode cX3_call 338 = .ok (.iload 4, 2) := dk_21 4 (dk_at dksX3_call_14 13 rfl rfl)
theorem dX3_call_340 : decode cX3_call 340 = .ok (.bipush 100, 2) := dk_16 100 (dk_at dksX3_call_14 15 rfl rfl)
theorem dX3_call_342 : decode cX3_call 342 = .ok (.iadd, 1) := dk_96 (dk_at dksX3_call_14 17 rfl rfl)
theorem dX3_call_343 : decode cX3_call 343 = .ok (.imul, 1) := dk_104 (dk_at dksX3_call_14 18 rfl rfl)
theorem dX3_call_344 : decode cX3_call 344 = .ok (.goto 8, 3) := dk_167 0 8 (dk_at dksX3_call_14 19 rfl rfl)
theorem dX3_call_347 : decode cX3_call 347 = .ok (.iload 4, 2) := dk_21 4 (dk_at dksX3_call_14 22 rfl rfl)
theorem dX3_call_349 : decode cX3_call 349 = .ok (.bipush 100, 2) := dk_16 100 (dk_at dksX3_call_15 0 rfl rfl)
theorem dX3_call_351 : decode cX3_call 351 = .ok (.iadd, 1) := dk_96 (dk_at dksX3_call_15 2 rfl rfl)
theorem dX3_call_352 : decode cX3_call 352 = .ok (.ireturn, 1) := dk_172 (dk_at dksX3_call_15 3 rfl rfl)
theorem dX3_call_353 : decode cX3_call 353 = .ok (.iload 4, 2) := dk_21 4 (dk_at dksX3_call_15 4 rfl rfl)
theorem dX3_call_355 : decode cX3_call 355 = .ok (.iload 4, 2) := dk_21 4 (dk_at dksX3_call_15 6 rfl rfl)
theorem dX3_call_357 : decode cX3_call 357 = .ok (.imul, 1) := dk_104 (dk_at dksX3_call_15 8 rfl rfl)
theorem dX3_call_358 : decode cX3_call 358 = .ok (.ireturn, 1) := dk_172 (dk_at dksX3_call_15 9 rfl rfl)
abbrev cX3_number : ByteArray := prog_11_method_53_code
def yX3_number : MethodName := ⟨RX3, "number", "(I)I"⟩
def dkwX3_number_2 : List UInt8 := [136, 172]
abbrev dktX3_number_2 : List UInt8 := dkwX3_number_2 ++ []
def dkwX3_number_1 : List UInt8 := [16, 6, 182, 0, 177, 172, 28, 154, 0, 11, 42, 6, 182, 0, 177, 167, 0, 10, 42, 28, 3, 182, 0, 71]
abbrev dktX3_number_1 : List UInt8 := dkwX3_number_1 ++ dktX3_number_2
def dkwX3_number_0 : List UInt8 := [42, 182, 0, 174, 42, 27, 182, 0, 187, 61, 28, 153, 0, 18, 42, 28, 182, 0, 218, 154, 0, 10, 42]
abbrev dktX3_number_0 : List UInt8 := dkwX3_number_0 ++ dktX3_number_1
theorem dksX3_number_0 : cX3_number.data.toList.drop 0 = dktX3_number_0 := by decide +kernel
theorem dksX3_number_1 : cX3_number.data.toList.drop 23 = dktX3_number_1 := dk_seg dksX3_number_0 23 rfl rfl
theorem dksX3_number_2 : cX3_number.data.toList.drop 47 = dktX3_number_2 := dk_seg dksX3_number_1 24 rfl rfl
theorem dX3_number_0 : decode cX3_number 0 = .ok (.aload_n 0, 1) := dk_42 (dk_at dksX3_number_0 0 rfl rfl)
theorem dX3_number_1 : decode cX3_number 1 = .ok (.invokevirtual 174, 3) := dk_182 0 174 (dk_at dksX3_number_0 1 rfl rfl)
theorem dX3_number_4 : decode cX3_number 4 = .ok (.aload_n 0, 1) := dk_42 (dk_at dksX3_number_0 4 rfl rfl)
theorem dX3_number_5 : decode cX3_number 5 = .ok (.iload_n 1, 1) := dk_27 (dk_at dksX3_number_0 5 rfl rfl)
theorem dX3_number_6 : decode cX3_number 6 = .ok (.invokevirtual 187, 3) := dk_182 0 187 (dk_at dksX3_number_0 6 rfl rfl)
theorem dX3_number_9 : decode cX3_number 9 = .ok (.istore_n 2, 1) := dk_61 (dk_at dksX3_number_0 9 rfl rfl)
theorem dX3_number_10 : decode cX3_number 10 = .ok (.iload_n 2, 1) := dk_28 (dk_at dksX3_number_0 10 rfl rfl)
theorem dX3_number_11 : decode cX3_number 11 = .ok (.ifCond .eq 18, 3) := dk_153 0 18 (dk_at dksX3_number_0 11 rfl rfl)
theorem dX3_number_14 : decode cX3_number 14 = .ok (.aload_n 0, 1) := dk_42 (dk_at dksX3_number_0 14 rfl rfl)
theorem dX3_number_15 : decode cX3_number 15 = .ok (.iload_n 2, 1) := dk_28 (dk_at dksX3_number_0 15 rfl rfl)
theorem dX3_number_16 : decode cX3_number 16 = .ok (.invokevirtual 218, 3) := dk_182 0 218 (dk_at dksX3_number_0 16 rfl rfl)
theorem dX3_number_19 : decode cX3_number 19 = .ok (.ifCond .ne 10, 3) := dk_154 0 10 (dk_at dksX3_number_0 19 rfl rfl)
theorem dX3_number_22 : decode cX3_number 22 = .ok (.aload_n 0, 1) := dk_42 (dk_at dksX3_number_0 22 rfl rfl)
theorem dX3_number_23 : decode cX3_number 23 = .ok (.bipush 6, 2) := dk_16 6 (dk_at dksX3_number_1 0 rfl rfl)
theorem dX3_number_25 : decode cX3_number 25 = .ok (.invokevirtual 177, 3) := dk_182 0 177 (dk_at dksX3_number_1 2 rfl rfl)
theorem dX3_number_28 : decode cX3_number 28 = .ok (.ireturn, 1) := dk_172 (dk_at dksX3_number_1 5 rfl rfl)
theorem dX3_number_29 : decode cX3_number 29 = .ok (.iload_n 2, 1) := dk_28 (dk_at dksX3_number_1 6 rfl rfl)
theorem dX3_number_30 : decode cX3_number 30 = .ok (.ifCond .ne 11, 3) := dk_154 0 11 (dk_at dksX3_number_1 7 rfl rfl)
theorem dX3_number_33 : decode cX3_number 33 = .ok (.aload_n 0, 1) := dk_42 (dk_at dksX3_number_1 10 rfl rfl)
theorem dX3_number_34 : decode cX3_number 34 = .ok (.iconst 3, 1) := dk_6 (dk_at dksX3_number_1 11 rfl rfl)
theorem dX3_number_35 : decode cX3_number 35 = .ok (.invokevirtual 177, 3) := dk_182 0 177 (dk_at dksX3_number_1 12 rfl rfl)
theorem dX3_number_38 : decode cX3_number 38 = .ok (.goto 10, 3) := dk_167 0 10 (dk_at dksX3_number_1 15 rfl rfl)
theorem dX3_number_41 : decode cX3_number 41 = .ok (.aload_n 0, 1) := dk_42 (dk_at dksX3_number_1 18 rfl rfl)
theorem dX3_number_42 : decode cX3_number 42 = .ok (.iload_n 2, 1) := dk_28 (dk_at dksX3_number_1 19 rfl rfl)
theorem dX3_number_43 : decode cX3_number 43 = .ok (.iconst 0, 1) := dk_3 (dk_at dksX3_number_1 20 rfl rfl)
theorem dX3_number_44 : decode cX3_number 44 = .ok (.invokevirtual 71, 3) := dk_182 0 71 (dk_at dksX3_number_1 21 rfl rfl)
theorem dX3_number_47 : decode cX3_number 47 = .ok (.l2i, 1) := dk_136 (dk_at dksX3_number_2 0 rfl rfl)
theorem dX3_number_48 : decode cX3_number 48 = .ok (.ireturn, 1) := dk_172 (dk_at dksX3_number_2 1 rfl rfl)
abbrev cX3_isPlain : ByteArray := prog_11_method_52_code
def yX3_isPlain : MethodName := ⟨RX3, "isPlain", "(I)Z"⟩
def dkwX3_isPlain_0 : List UInt8 := [42, 27, 182, 0, 63, 16, 11, 184, 0, 190, 172]
abbrev dktX3_isPlain_0 : List UInt8 := dkwX3_isPlain_0 ++ []
theorem dksX3_isPlain_0 : cX3_isPlain.data.toList.drop 0 = dktX3_isPlain_0 := by decide +kernel
theorem dX3_isPlain_0 : decode cX3_isPlain 0 = .ok (.aload_n 0, 1) := dk_42 (dk_at dksX3_isPlain_0 0 rfl rfl)
theorem dX3_isPlain_1 : decode cX3_isPlain 1 = .ok (.iload_n 1, 1) := dk_27 (dk_at dksX3_isPlain_0 1 rfl rfl)
theorem dX3_isPlain_2 : decode cX3_isPlain 2 = .ok (.invokevirtual 63, 3) := dk_182 0 63 (dk_at dksX3_isPlain_0 2 rfl rfl)
theorem dX3_isPlain_5 : decode cX3_isPlain 5 = .ok (.bipush 11, 2) := dk_16 11 (dk_at dksX3_isPlain_0 5 rfl rfl)
theorem dX3_isPlain_7 : decode cX3_isPlain 7 = .ok (.invokestatic 190, 3) := dk_184 0 190 (dk_at dksX3_isPlain_0 7 rfl rfl)
theorem dX3_isPlain_10 : decode cX3_isPlain 10 = .ok (.ireturn, 1) := dk_172 (dk_at dksX3_isPlain_0 10 rfl rfl)
abbrev cX3_setNumber : ByteArray := prog_11_method_54_code
def yX3_setNumber : MethodName := ⟨RX3, "setNumber", "(II)I"⟩
def dkwX3_setNumber_2 : List UInt8 := [54, 4, 42, 180, 0, 27, 16, 40, 29, 104, 28, 133, 80, 21, 4, 172]
abbrev dktX3_setNumber_2 : List UInt8 := dkwX3_setNumber_2 ++ []
def dkwX3_setNumber_1 : List UInt8 := [16, 6, 182, 0, 177, 172, 29, 154, 0, 9, 42, 6, 182, 0, 177, 172, 42, 29, 3, 182, 0, 71, 136]
abbrev dktX3_setNumber_1 : List UInt8 := dkwX3_setNumber_1 ++ dktX3_setNumber_2
def dkwX3_setNumber_0 : List UInt8 := [42, 182, 0, 174, 42, 27, 182, 0, 187, 62, 29, 153, 0, 18, 42, 29, 182, 0, 218, 154, 0, 10, 42]
abbrev dktX3_setNumber_0 : List UInt8 := dkwX3_setNumber_0 ++ dktX3_setNumber_1
theorem dksX3_setNumber_0 : cX3_setNumber.data.toList.drop 0 = dktX3_setNumber_0 := by decide +kernel
theorem dksX3_setNumber_1 : cX3_setNumber.data.toList.drop 23 = dktX3_setNumber_1 := dk_seg dksX3_setNumber_0 23 rfl rfl
theorem dksX3_setNumber_2 : cX3_setNumber.data.toList.drop 46 = dktX3_setNumber_2 := dk_seg dksX3_setNumber_1 23 rfl rfl
theorem dX3_setNumber_0 : decode cX3_setNumber 0 = .ok (.aload_n 0, 1) := dk_42 (dk_at dksX3_setNumber_0 0 rfl rfl)
theorem dX3_setNumber_1 : decode cX3_setNumber 1 = .ok (.invokevirtual 174, 3) := dk_182 0 174 (dk_at dksX3_setNumber_0 1 rfl rfl)
theorem dX3_setNumber_4 : decode cX3_setNumber 4 = .ok (.aload_n 0, 1) := dk_42 (dk_at dksX3_setNumber_0 4 rfl rfl)
theorem dX3_setNumber_5 : decode cX3_setNumber 5 = .ok (.iload_n 1, 1) := dk_27 (dk_at dksX3_setNumber_0 5 rfl rfl)
theorem dX3_setNumber_6 : decode cX3_setNumber 6 = .ok (.invokevirtual 187, 3) := dk_182 0 187 (dk_at dksX3_setNumber_0 6 rfl rfl)
theorem dX3_setNumber_9 : decode cX3_setNumber 9 = .ok (.istore_n 3, 1) := dk_62 (dk_at dksX3_setNumber_0 9 rfl rfl)
theorem dX3_setNumber_10 : decode cX3_setNumber 10 = .ok (.iload_n 3, 1) := dk_29 (dk_at dksX3_setNumber_0 10 rfl rfl)
theorem dX3_setNumber_11 : decode cX3_setNumber 11 = .ok (.ifCond .eq 18, 3) := dk_153 0 18 (dk_at dksX3_setNumber_0 11 rfl rfl)
theorem dX3_setNumber_14 : decode cX3_setNumber 14 = .ok (.aload_n 0, 1) := dk_42 (dk_at dksX3_setNumber_0 14 rfl rfl)
theorem dX3_setNumber_15 : decode cX3_setNumber 15 = .ok (.iload_n 3, 1) := dk_29 (dk_at dksX3_setNumber_0 15 rfl rfl)
theorem dX3_setNumber_16 : decode cX3_setNumber 16 = .ok (.invokevirtual 218, 3) := dk_182 0 218 (dk_at dksX3_setNumber_0 16 rfl rfl)
theorem dX3_setNumber_19 : decode cX3_setNumber 19 = .ok (.ifCond .ne 10, 3) := dk_154 0 10 (dk_at dksX3_setNumber_0 19 rfl rfl)
theorem dX3_setNumber_22 : decode cX3_setNumber 22 = .ok (.aload_n 0, 1) := dk_42 (dk_at dksX3_setNumber_0 22 rfl rfl)
theorem dX3_setNumber_23 : decode cX3_setNumber 23 = .ok (.bipush 6, 2) := dk_16 6 (dk_at dksX3_setNumber_1 0 rfl rfl)
theorem dX3_setNumber_25 : decode cX3_setNumber 25 = .ok (.invokevirtual 177, 3) := dk_182 0 177 (dk_at dksX3_setNumber_1 2 rfl rfl)
theorem dX3_setNumber_28 : decode cX3_setNumber 28 = .ok (.ireturn, 1) := dk_172 (dk_at dksX3_setNumber_1 5 rfl rfl)
theorem dX3_setNumber_29 : decode cX3_setNumber 29 = .ok (.iload_n 3, 1) := dk_29 (dk_at dksX3_setNumber_1 6 rfl rfl)
theorem dX3_setNumber_30 : decode cX3_setNumber 30 = .ok (.ifCond .ne 9, 3) := dk_154 0 9 (dk_at dksX3_setNumber_1 7 rfl rfl)
theorem dX3_setNumber_33 : decode cX3_setNumber 33 = .ok (.aload_n 0, 1) := dk_42 (dk_at dksX3_setNumber_1 10 rfl rfl)
theorem dX3_setNumber_34 : decode cX3_setNumber 34 = .ok (.iconst 3, 1) := dk_6 (dk_at dksX3_setNumber_1 11 rfl rfl)
theorem dX3_setNumber_35 : decode cX3_setNumber 35 = .ok (.invokevirtual 177, 3) := dk_182 0 177 (dk_at dksX3_setNumber_1 12 rfl rfl)
theorem dX3_setNumber_38 : decode cX3_setNumber 38 = .ok (.ireturn, 1) := dk_172 (dk_at dksX3_setNumber_1 15 rfl rfl)
theorem dX3_setNumber_39 : decode cX3_setNumber 39 = .ok (.aload_n 0, 1) := dk_42 (dk_at dksX3_setNumber_1 16 rfl rfl)
theorem dX3_setNumber_40 : decode cX3_setNumber 40 = .ok (.iload_n 3, 1) := dk_29 (dk_at dksX3_setNumber_1 17 rfl rfl)
theorem dX3_setNumber_41 : decode cX3_setNumber 41 = .ok (.iconst 0, 1) := dk_3 (dk_at dksX3_setNumber_1 18 rfl rfl)
theorem dX3_setNumber_42 : decode cX3_setNumber 42 = .ok (.invokevirtual 71, 3) := dk_182 0 71 (dk_at dksX3_setNumber_1 19 rfl rfl)
theorem dX3_setNumber_45 : decode cX3_setNumber 45 = .ok (.l2i, 1) := dk_136 (dk_at dksX3_setNumber_1 22 rfl rfl)
theorem dX3_setNumber_46 : decode cX3_setNumber 46 = .ok (.istore 4, 2) := dk_54 4 (dk_at dksX3_setNumber_2 0 rfl rfl)
theorem dX3_setNumber_48 : decode cX3_setNumber 48 = .ok (.aload_n 0, 1) := dk_42 (dk_at dksX3_setNumber_2 2 rfl rfl)
theorem dX3_setNumber_49 : decode cX3_setNumber 49 = .ok (.getfield 27, 3) := dk_180 0 27 (dk_at dksX3_setNumber_2 3 rfl rfl)
theorem dX3_setNumber_52 : decode cX3_setNumber 52 = .ok (.bipush 40, 2) := dk_16 40 (dk_at dksX3_setNumber_2 6 rfl rfl)
theorem dX3_setNumber_54 : decode cX3_setNumber 54 = .ok (.iload_n 3, 1) := dk_29 (dk_at dksX3_setNumber_2 8 rfl rfl)
theorem dX3_setNumber_55 : decode cX3_setNumber 55 = .ok (.imul, 1) := dk_104 (dk_at dksX3_setNumber_2 9 rfl rfl)
theorem dX3_setNumber_56 : decode cX3_setNumber 56 = .ok (.iload_n 2, 1) := dk_28 (dk_at dksX3_setNumber_2 10 rfl rfl)
theorem dX3_setNumber_57 : decode cX3_setNumber 57 = .ok (.i2l, 1) := dk_133 (dk_at dksX3_setNumber_2 11 rfl rfl)
theorem dX3_setNumber_58 : decode cX3_setNumber 58 = .ok (.lastore, 1) := dk_80 (dk_at dksX3_setNumber_2 12 rfl rfl)
theorem dX3_setNumber_59 : decode cX3_setNumber 59 = .ok (.iload 4, 2) := dk_21 4 (dk_at dksX3_setNumber_2 13 rfl rfl)
theorem dX3_setNumber_61 : decode cX3_setNumber 61 = .ok (.ireturn, 1) := dk_172 (dk_at dksX3_setNumber_2 15 rfl rfl)
abbrev cX3_raise : ByteArray := prog_11_method_55_code
def yX3_raise : MethodName := ⟨RX3, "raise", "(II)I"⟩
def dkwX3_raise_2 : List UInt8 := [182, 0, 177, 167, 0, 10, 42, 29, 3, 182, 0, 71, 136, 172]
abbrev dktX3_raise_2 : List UInt8 := dkwX3_raise_2 ++ []
def dkwX3_raise_1 : List UInt8 := [180, 0, 16, 29, 46, 16, 15, 159, 0, 10, 42, 16, 6, 182, 0, 177, 172, 29, 154, 0, 11, 42, 6]
abbrev dktX3_raise_1 : List UInt8 := dkwX3_raise_1 ++ dktX3_raise_2
def dkwX3_raise_0 : List UInt8 := [42, 182, 0, 174, 42, 28, 16, 7, 126, 181, 0, 221, 42, 27, 182, 0, 187, 62, 29, 153, 0, 21, 42]
abbrev dktX3_raise_0 : List UInt8 := dkwX3_raise_0 ++ dktX3_raise_1
theorem dksX3_raise_0 : cX3_raise.data.toList.drop 0 = dktX3_raise_0 := by decide +kernel
theorem dksX3_raise_1 : cX3_raise.data.toList.drop 23 = dktX3_raise_1 := dk_seg dksX3_raise_0 23 rfl rfl
theorem dksX3_raise_2 : cX3_raise.data.toList.drop 46 = dktX3_raise_2 := dk_seg dksX3_raise_1 23 rfl rfl
theorem dX3_raise_0 : decode cX3_raise 0 = .ok (.aload_n 0, 1) := dk_42 (dk_at dksX3_raise_0 0 rfl rfl)
theorem dX3_raise_1 : decode cX3_raise 1 = .ok (.invokevirtual 174, 3) := dk_182 0 174 (dk_at dksX3_raise_0 1 rfl rfl)
theorem dX3_raise_4 : decode cX3_raise 4 = .ok (.aload_n 0, 1) := dk_42 (dk_at dksX3_raise_0 4 rfl rfl)
theorem dX3_raise_5 : decode cX3_raise 5 = .ok (.iload_n 2, 1) := dk_28 (dk_at dksX3_raise_0 5 rfl rfl)
theorem dX3_raise_6 : decode cX3_raise 6 = .ok (.bipush 7, 2) := dk_16 7 (dk_at dksX3_raise_0 6 rfl rfl)
theorem dX3_raise_8 : decode cX3_raise 8 = .ok (.iand, 1) := dk_126 (dk_at dksX3_raise_0 8 rfl rfl)
theorem dX3_raise_9 : decode cX3_raise 9 = .ok (.putfield 221, 3) := dk_181 0 221 (dk_at dksX3_raise_0 9 rfl rfl)
theorem dX3_raise_12 : decode cX3_raise 12 = .ok (.aload_n 0, 1) := dk_42 (dk_at dksX3_raise_0 12 rfl rfl)
theorem dX3_raise_13 : decode cX3_raise 13 = .ok (.iload_n 1, 1) := dk_27 (dk_at dksX3_raise_0 13 rfl rfl)
theorem dX3_raise_14 : decode cX3_raise 14 = .ok (.invokevirtual 187, 3) := dk_182 0 187 (dk_at dksX3_raise_0 14 rfl rfl)
theorem dX3_raise_17 : decode cX3_raise 17 = .ok (.istore_n 3, 1) := dk_62 (dk_at dksX3_raise_0 17 rfl rfl)
theorem dX3_raise_18 : decode cX3_raise 18 = .ok (.iload_n 3, 1) := dk_29 (dk_at dksX3_raise_0 18 rfl rfl)
theorem dX3_raise_19 : decode cX3_raise 19 = .ok (.ifCond .eq 21, 3) := dk_153 0 21 (dk_at dksX3_raise_0 19 rfl rfl)
theorem dX3_raise_22 : decode cX3_raise 22 = .ok (.aload_n 0, 1) := dk_42 (dk_at dksX3_raise_0 22 rfl rfl)
theorem dX3_raise_23 : decode cX3_raise 23 = .ok (.getfield 16, 3) := dk_180 0 16 (dk_at dksX3_raise_1 0 rfl rfl)
theorem dX3_raise_26 : decode cX3_raise 26 = .ok (.iload_n 3, 1) := dk_29 (dk_at dksX3_raise_1 3 rfl rfl)
theorem dX3_raise_27 : decode cX3_raise 27 = .ok (.iaload, 1) := dk_46 (dk_at dksX3_raise_1 4 rfl rfl)
theorem dX3_raise_28 : decode cX3_raise 28 = .ok (.bipush 15, 2) := dk_16 15 (dk_at dksX3_raise_1 5 rfl rfl)
theorem dX3_raise_30 : decode cX3_raise 30 = .ok (.if_icmp .eq 10, 3) := dk_159 0 10 (dk_at dksX3_raise_1 7 rfl rfl)
theorem dX3_raise_33 : decode cX3_raise 33 = .ok (.aload_n 0, 1) := dk_42 (dk_at dksX3_raise_1 10 rfl rfl)
theorem dX3_raise_34 : decode cX3_raise 34 = .ok (.bipush 6, 2) := dk_16 6 (dk_at dksX3_raise_1 11 rfl rfl)
theorem dX3_raise_36 : decode cX3_raise 36 = .ok (.invokevirtual 177, 3) := dk_182 0 177 (dk_at dksX3_raise_1 13 rfl rfl)
theorem dX3_raise_39 : decode cX3_raise 39 = .ok (.ireturn, 1) := dk_172 (dk_at dksX3_raise_1 16 rfl rfl)
theorem dX3_raise_40 : decode cX3_raise 40 = .ok (.iload_n 3, 1) := dk_29 (dk_at dksX3_raise_1 17 rfl rfl)
theorem dX3_raise_41 : decode cX3_raise 41 = .ok (.ifCond .ne 11, 3) := dk_154 0 11 (dk_at dksX3_raise_1 18 rfl rfl)
theorem dX3_raise_44 : decode cX3_raise 44 = .ok (.aload_n 0, 1) := dk_42 (dk_at dksX3_raise_1 21 rfl rfl)
theorem dX3_raise_45 : decode cX3_raise 45 = .ok (.iconst 3, 1) := dk_6 (dk_at dksX3_raise_1 22 rfl rfl)
theorem dX3_raise_46 : decode cX3_raise 46 = .ok (.invokevirtual 177, 3) := dk_182 0 177 (dk_at dksX3_raise_2 0 rfl rfl)
theorem dX3_raise_49 : decode cX3_raise 49 = .ok (.goto 10, 3) := dk_167 0 10 (dk_at dksX3_raise_2 3 rfl rfl)
theorem dX3_raise_52 : decode cX3_raise 52 = .ok (.aload_n 0, 1) := dk_42 (dk_at dksX3_raise_2 6 rfl rfl)
theorem dX3_raise_53 : decode cX3_raise 53 = .ok (.iload_n 3, 1) := dk_29 (dk_at dksX3_raise_2 7 rfl rfl)
theorem dX3_raise_54 : decode cX3_raise 54 = .ok (.iconst 0, 1) := dk_3 (dk_at dksX3_raise_2 8 rfl rfl)
theorem dX3_raise_55 : decode cX3_raise 55 = .ok (.invokevirtual 71, 3) := dk_182 0 71 (dk_at dksX3_raise_2 9 rfl rfl)
theorem dX3_raise_58 : decode cX3_raise 58 = .ok (.l2i, 1) := dk_136 (dk_at dksX3_raise_2 12 rfl rfl)
theorem dX3_raise_59 : decode cX3_raise 59 = .ok (.ireturn, 1) := dk_172 (dk_at dksX3_raise_2 13 rfl rfl)
abbrev cX3_trail : ByteArray := prog_11_method_56_code
def yX3_trail : MethodName := ⟨RX3, "trail", "()I"⟩
theorem dX3_trail_0 : decode cX3_trail 0 = .ok (.aload_n 0, 1) := by decide +kernel
theorem dX3_trail_1 : decode cX3_trail 1 = .ok (.getfield 221, 3) := by decide +kernel
theorem dX3_trail_4 : decode cX3_trail 4 = .ok (.ireturn, 1) := by decide +kernel
abbrev cX3_divide : ByteArray := prog_11_method_57_code
def yX3_divide : MethodName := ⟨RX3, "divide", "(JJZZ)J"⟩
def dkwX3_divide_3 : List UInt8 := [21, 5, 153, 0, 9, 31, 33, 113, 167, 0, 6, 31, 33, 109, 173]
abbrev dktX3_divide_3 : List UInt8 := dkwX3_divide_3 ++ []
def dkwX3_divide_2 : List UInt8 := [21, 7, 21, 8, 108, 133, 173, 33, 9, 148, 154, 0, 13, 42, 16, 7, 182, 0, 177, 133, 167, 0, 17]
abbrev dktX3_divide_2 : List UInt8 := dkwX3_divide_2 ++ dktX3_divide_3
def dkwX3_divide_1 : List UInt8 := [16, 7, 182, 0, 177, 133, 167, 0, 23, 21, 5, 153, 0, 12, 21, 7, 21, 8, 112, 133, 167, 0, 9]
abbrev dktX3_divide_1 : List UInt8 := dkwX3_divide_1 ++ dktX3_divide_2
def dkwX3_divide_0 : List UInt8 := [42, 182, 0, 174, 21, 6, 153, 0, 47, 31, 136, 54, 7, 33, 136, 54, 8, 21, 8, 154, 0, 13, 42]
abbrev dktX3_divide_0 : List UInt8 := dkwX3_divide_0 ++ dktX3_divide_1
theorem dksX3_divide_0 : cX3_divide.data.toList.drop 0 = dktX3_divide_0 := by decide +kernel
theorem dksX3_divide_1 : cX3_divide.data.toList.drop 23 = dktX3_divide_1 := dk_seg dksX3_divide_0 23 rfl rfl
theorem dksX3_divide_2 : cX3_divide.data.toList.drop 46 = dktX3_divide_2 := dk_seg dksX3_divide_1 23 rfl rfl
theorem dksX3_divide_3 : cX3_divide.data.toList.drop 69 = dktX3_divide_3 := dk_seg dksX3_divide_2 23 rfl rfl
theorem dX3_divide_0 : decode cX3_divide 0 = .ok (.aload_n 0, 1) := dk_42 (dk_at dksX3_divide_0 0 rfl rfl)
theorem dX3_divide_1 : decode cX3_divide 1 = .ok (.invokevirtual 174, 3) := dk_182 0 174 (dk_at dksX3_divide_0 1 rfl rfl)
theorem dX3_divide_4 : decode cX3_divide 4 = .ok (.iload 6, 2) := dk_21 6 (dk_at dksX3_divide_0 4 rfl rfl)
theorem dX3_divide_6 : decode cX3_divide 6 = .ok (.ifCond .eq 47, 3) := dk_153 0 47 (dk_at dksX3_divide_0 6 rfl rfl)
theorem dX3_divide_9 : decode cX3_divide 9 = .ok (.lload_n 1, 1) := dk_31 (dk_at dksX3_divide_0 9 rfl rfl)
theorem dX3_divide_10 : decode cX3_divide 10 = .ok (.l2i, 1) := dk_136 (dk_at dksX3_divide_0 10 rfl rfl)
theorem dX3_divide_11 : decode cX3_divide 11 = .ok (.istore 7, 2) := dk_54 7 (dk_at dksX3_divide_0 11 rfl rfl)
theorem dX3_divide_13 : decode cX3_divide 13 = .ok (.lload_n 3, 1) := dk_33 (dk_at dksX3_divide_0 13 rfl rfl)
theorem dX3_divide_14 : decode cX3_divide 14 = .ok (.l2i, 1) := dk_136 (dk_at dksX3_divide_0 14 rfl rfl)
theorem dX3_divide_15 : decode cX3_divide 15 = .ok (.istore 8, 2) := dk_54 8 (dk_at dksX3_divide_0 15 rfl rfl)
theorem dX3_divide_17 : decode cX3_divide 17 = .ok (.iload 8, 2) := dk_21 8 (dk_at dksX3_divide_0 17 rfl rfl)
theorem dX3_divide_19 : decode cX3_divide 19 = .ok (.ifCond .ne 13, 3) := dk_154 0 13 (dk_at dksX3_divide_0 19 rfl rfl)
theorem dX3_divide_22 : decode cX3_divide 22 = .ok (.aload_n 0, 1) := dk_42 (dk_at dksX3_divide_0 22 rfl rfl)
theorem dX3_divide_23 : decode cX3_divide 23 = .ok (.bipush 7, 2) := dk_16 7 (dk_at dksX3_divide_1 0 rfl rfl)
theorem dX3_divide_25 : decode cX3_divide 25 = .ok (.invokevirtual 177, 3) := dk_182 0 177 (dk_at dksX3_divide_1 2 rfl rfl)
theorem dX3_divide_28 : decode cX3_divide 28 = .ok (.i2l, 1) := dk_133 (dk_at dksX3_divide_1 5 rfl rfl)
theorem dX3_divide_29 : decode cX3_divide 29 = .ok (.goto 23, 3) := dk_167 0 23 (dk_at dksX3_divide_1 6 rfl rfl)
theorem dX3_divide_32 : decode cX3_divide 32 = .ok (.iload 5, 2) := dk_21 5 (dk_at dksX3_divide_1 9 rfl rfl)
theorem dX3_divide_34 : decode cX3_divide 34 = .ok (.ifCond .eq 12, 3) := dk_153 0 12 (dk_at dksX3_divide_1 11 rfl rfl)
theorem dX3_divide_37 : decode cX3_divide 37 = .ok (.iload 7, 2) := dk_21 7 (dk_at dksX3_divide_1 14 rfl rfl)
theorem dX3_divide_39 : decode cX3_divide 39 = .ok (.iload 8, 2) := dk_21 8 (dk_at dksX3_divide_1 16 rfl rfl)
theorem dX3_divide_41 : decode cX3_divide 41 = .ok (.irem, 1) := dk_112 (dk_at dksX3_divide_1 18 rfl rfl)
theorem dX3_divide_42 : decode cX3_divide 42 = .ok (.i2l, 1) := dk_133 (dk_at dksX3_divide_1 19 rfl rfl)
theorem dX3_divide_43 : decode cX3_divide 43 = .ok (.goto 9, 3) := dk_167 0 9 (dk_at dksX3_divide_1 20 rfl rfl)
theorem dX3_divide_46 : decode cX3_divide 46 = .ok (.iload 7, 2) := dk_21 7 (dk_at dksX3_divide_2 0 rfl rfl)
theorem dX3_divide_48 : decode cX3_divide 48 = .ok (.iload 8, 2) := dk_21 8 (dk_at dksX3_divide_2 2 rfl rfl)
theorem dX3_divide_50 : decode cX3_divide 50 = .ok (.idiv, 1) := dk_108 (dk_at dksX3_divide_2 4 rfl rfl)
theorem dX3_divide_51 : decode cX3_divide 51 = .ok (.i2l, 1) := dk_133 (dk_at dksX3_divide_2 5 rfl rfl)
theorem dX3_divide_52 : decode cX3_divide 52 = .ok (.lreturn, 1) := dk_173 (dk_at dksX3_divide_2 6 rfl rfl)
theorem dX3_divide_53 : decode cX3_divide 53 = .ok (.lload_n 3, 1) := dk_33 (dk_at dksX3_divide_2 7 rfl rfl)
theorem dX3_divide_54 : decode cX3_divide 54 = .ok (.lconst 0, 1) := dk_9 (dk_at dksX3_divide_2 8 rfl rfl)
theorem dX3_divide_55 : decode cX3_divide 55 = .ok (.lcmp, 1) := dk_148 (dk_at dksX3_divide_2 9 rfl rfl)
theorem dX3_divide_56 : decode cX3_divide 56 = .ok (.ifCond .ne 13, 3) := dk_154 0 13 (dk_at dksX3_divide_2 10 rfl rfl)
theorem dX3_divide_59 : decode cX3_divide 59 = .ok (.aload_n 0, 1) := dk_42 (dk_at dksX3_divide_2 13 rfl rfl)
theorem dX3_divide_60 : decode cX3_divide 60 = .ok (.bipush 7, 2) := dk_16 7 (dk_at dksX3_divide_2 14 rfl rfl)
theorem dX3_divide_62 : decode cX3_divide 62 = .ok (.invokevirtual 177, 3) := dk_182 0 177 (dk_at dksX3_divide_2 16 rfl rfl)
theorem dX3_divide_65 : decode cX3_divide 65 = .ok (.i2l, 1) := dk_133 (dk_at dksX3_divide_2 19 rfl rfl)
theorem dX3_divide_66 : decode cX3_divide 66 = .ok (.goto 17, 3) := dk_167 0 17 (dk_at dksX3_divide_2 20 rfl rfl)
theorem dX3_divide_69 : decode cX3_divide 69 = .ok (.iload 5, 2) := dk_21 5 (dk_at dksX3_divide_3 0 rfl rfl)
theorem dX3_divide_71 : decode cX3_divide 71 = .ok (.ifCond .eq 9, 3) := dk_153 0 9 (dk_at dksX3_divide_3 2 rfl rfl)
theorem dX3_divide_74 : decode cX3_divide 74 = .ok (.lload_n 1, 1) := dk_31 (dk_at dksX3_divide_3 5 rfl rfl)
theorem dX3_divide_75 : decode cX3_divide 75 = .ok (.lload_n 3, 1) := dk_33 (dk_at dksX3_divide_3 6 rfl rfl)
theorem dX3_divide_76 : decode cX3_divide 76 = .ok (.lrem, 1) := dk_113 (dk_at dksX3_divide_3 7 rfl rfl)
theorem dX3_divide_77 : decode cX3_divide 77 = .ok (.goto 6, 3) := dk_167 0 6 (dk_at dksX3_divide_3 8 rfl rfl)
theorem dX3_divide_80 : decode cX3_divide 80 = .ok (.lload_n 1, 1) := dk_31 (dk_at dksX3_divide_3 11 rfl rfl)
theorem dX3_divide_81 : decode cX3_divide 81 = .ok (.lload_n 3, 1) := dk_33 (dk_at dksX3_divide_3 12 rfl rfl)
theorem dX3_divide_82 : decode cX3_divide 82 = .ok (.ldiv, 1) := dk_109 (dk_at dksX3_divide_3 13 rfl rfl)
theorem dX3_divide_83 : decode cX3_divide 83 = .ok (.lreturn, 1) := dk_173 (dk_at dksX3_divide_3 14 rfl rfl)
abbrev cX3_reckon : ByteArray := prog_11_method_61_code
def yX3_reckon : MethodName := ⟨RX3, "reckon", "(IJJ)J"⟩
def dkwX3_reckon_16 : List UInt8 := [167, 0, 10, 24, 6, 184, 0, 167, 10, 101, 173, 24, 6, 119, 184, 0, 167, 173]
abbrev dktX3_reckon_16 : List UInt8 := dkwX3_reckon_16 ++ []
def dkwX3_reckon_15 : List UInt8 := [151, 154, 0, 7, 10, 167, 0, 27, 24, 6, 14, 151, 158, 0, 13, 24, 6, 184, 0, 167, 10, 97]
abbrev dktX3_reckon_15 : List UInt8 := dkwX3_reckon_15 ++ dktX3_reckon_16
def dkwX3_reckon_14 : List UInt8 := [184, 0, 167, 173, 24, 6, 20, 0, 97, 151, 154, 0, 11, 24, 6, 184, 0, 167, 167, 0, 38, 24, 6, 14]
abbrev dktX3_reckon_14 : List UInt8 := dkwX3_reckon_14 ++ dktX3_reckon_15
def dkwX3_reckon_13 : List UInt8 := [14, 151, 154, 0, 8, 24, 6, 167, 0, 17, 24, 6, 14, 152, 156, 0, 9, 20, 0, 241, 167, 0, 4, 15]
abbrev dktX3_reckon_13 : List UInt8 := dkwX3_reckon_13 ++ dktX3_reckon_14
def dkwX3_reckon_12 : List UInt8 := [24, 6, 119, 167, 0, 5, 24, 6, 184, 0, 167, 173, 24, 6, 27, 184, 0, 237, 184, 0, 167, 173, 24, 6]
abbrev dktX3_reckon_12 : List UInt8 := dkwX3_reckon_12 ++ dktX3_reckon_13
def dkwX3_reckon_11 : List UInt8 := [160, 0, 8, 24, 6, 167, 0, 6, 24, 6, 119, 184, 0, 167, 173, 24, 6, 184, 0, 114, 153, 0, 9]
abbrev dktX3_reckon_11 : List UInt8 := dkwX3_reckon_11 ++ dktX3_reckon_12
def dkwX3_reckon_10 : List UInt8 := [184, 0, 114, 24, 8, 24, 8, 151, 154, 0, 15, 24, 8, 184, 0, 114, 153, 0, 7, 4, 167, 0, 4, 3]
abbrev dktX3_reckon_10 : List UInt8 := dkwX3_reckon_10 ++ dktX3_reckon_11
def dkwX3_reckon_9 : List UInt8 := [154, 0, 16, 24, 6, 184, 0, 114, 153, 0, 8, 24, 6, 167, 0, 5, 24, 8, 184, 0, 167, 173, 24, 6]
abbrev dktX3_reckon_9 : List UInt8 := dkwX3_reckon_9 ++ dktX3_reckon_10
def dkwX3_reckon_8 : List UInt8 := [167, 0, 5, 24, 8, 184, 0, 167, 173, 24, 6, 24, 8, 152, 155, 0, 19, 24, 6, 24, 8, 151]
abbrev dktX3_reckon_8 : List UInt8 := dkwX3_reckon_8 ++ dktX3_reckon_9
def dkwX3_reckon_7 : List UInt8 := [24, 8, 151, 157, 0, 19, 24, 6, 24, 8, 151, 154, 0, 16, 24, 6, 184, 0, 114, 154, 0, 8, 24, 6]
abbrev dktX3_reckon_7 : List UInt8 := dkwX3_reckon_7 ++ dktX3_reckon_8
def dkwX3_reckon_6 : List UInt8 := [184, 0, 167, 173, 24, 6, 24, 8, 111, 184, 0, 167, 173, 24, 6, 24, 8, 115, 184, 0, 167, 173, 24, 6]
abbrev dktX3_reckon_6 : List UInt8 := dkwX3_reckon_6 ++ dktX3_reckon_7
def dkwX3_reckon_5 : List UInt8 := [24, 6, 24, 8, 99, 184, 0, 167, 173, 24, 6, 24, 8, 103, 184, 0, 167, 173, 24, 6, 24, 8, 107]
abbrev dktX3_reckon_5 : List UInt8 := dkwX3_reckon_5 ++ dktX3_reckon_6
def dkwX3_reckon_4 : List UInt8 := [170, 0, 0, 0, 0, 0, 1, 85, 0, 0, 0, 0, 0, 0, 0, 13, 0, 0, 0, 72, 0, 0, 0, 81, 0, 0, 0, 90, 0, 0, 0, 99, 0, 0, 0, 108, 0, 0, 0, 117, 0, 0, 0, 152, 0, 0, 0, 187, 0, 0, 0, 228, 0, 0, 0, 248, 0, 0, 0, 248, 0, 0, 0, 248, 0, 0, 1, 2, 0, 0, 1, 32]
abbrev dktX3_reckon_4 : List UInt8 := dkwX3_reckon_4 ++ dktX3_reckon_5
def dkwX3_reckon_3 : List UInt8 := [20, 0, 112, 173, 27]
abbrev dktX3_reckon_3 : List UInt8 := dkwX3_reckon_3 ++ dktX3_reckon_4
def dkwX3_reckon_2 : List UInt8 := [162, 0, 26, 24, 8, 24, 8, 151, 154, 0, 14, 27, 24, 6, 24, 8, 184, 0, 233, 153, 0, 7]
abbrev dktX3_reckon_2 : List UInt8 := dkwX3_reckon_2 ++ dktX3_reckon_3
def dkwX3_reckon_1 : List UInt8 := [184, 0, 155, 57, 6, 22, 4, 184, 0, 155, 57, 8, 24, 6, 24, 6, 151, 154, 0, 28, 27, 16, 7]
abbrev dktX3_reckon_1 : List UInt8 := dkwX3_reckon_1 ++ dktX3_reckon_2
def dkwX3_reckon_0 : List UInt8 := [42, 182, 0, 174, 27, 3, 16, 14, 184, 0, 67, 154, 0, 10, 42, 4, 182, 0, 177, 133, 173, 32]
abbrev dktX3_reckon_0 : List UInt8 := dkwX3_reckon_0 ++ dktX3_reckon_1
theorem dksX3_reckon_0 : cX3_reckon.data.toList.drop 0 = dktX3_reckon_0 := by decide +kernel
theorem dksX3_reckon_1 : cX3_reckon.data.toList.drop 22 = dktX3_reckon_1 := dk_seg dksX3_reckon_0 22 rfl rfl
theorem dksX3_reckon_2 : cX3_reckon.data.toList.drop 45 = dktX3_reckon_2 := dk_seg dksX3_reckon_1 23 rfl rfl
theorem dksX3_reckon_3 : cX3_reckon.data.toList.drop 67 = dktX3_reckon_3 := dk_seg dksX3_reckon_2 22 rfl rfl
theorem dksX3_reckon_4 : cX3_reckon.data.toList.drop 72 = dktX3_reckon_4 := dk_seg dksX3_reckon_3 5 rfl rfl
theorem dksX3_reckon_5 : cX3_reckon.data.toList.drop 144 = dktX3_reckon_5 := dk_seg dksX3_reckon_4 72 rfl rfl
theorem dksX3_reckon_6 : cX3_reckon.data.toList.drop 167 = dktX3_reckon_6 := dk_seg dksX3_reckon_5 23 rfl rfl
theorem dksX3_reckon_7 : cX3_reckon.data.toList.drop 191 = dktX3_reckon_7 := dk_seg dksX3_reckon_6 24 rfl rfl
theorem dksX3_reckon_8 : cX3_reckon.data.toList.drop 215 = dktX3_reckon_8 := dk_seg dksX3_reckon_7 24 rfl rfl
theorem dksX3_reckon_9 : cX3_reckon.data.toList.drop 237 = dktX3_reckon_9 := dk_seg dksX3_reckon_8 22 rfl rfl
theorem dksX3_reckon_10 : cX3_reckon.data.toList.drop 261 = dktX3_reckon_10 := dk_seg dksX3_reckon_9 24 rfl rfl
theorem dksX3_reckon_11 : cX3_reckon.data.toList.drop 285 = dktX3_reckon_11 := dk_seg dksX3_reckon_10 24 rfl rfl
theorem dksX3_reckon_12 : cX3_reckon.data.toList.drop 308 = dktX3_reckon_12 := dk_seg dksX3_reckon_11 23 rfl rfl
theorem dksX3_reckon_13 : cX3_reckon.data.toList.drop 332 = dktX3_reckon_13 := dk_seg dksX3_reckon_12 24 rfl rfl
theorem dksX3_reckon_14 : cX3_reckon.data.toList.drop 356 = dktX3_reckon_14 := dk_seg dksX3_reckon_13 24 rfl rfl
theorem dksX3_reckon_15 : cX3_reckon.data.toList.drop 380 = dktX3_reckon_15 := dk_seg dksX3_reckon_14 24 rfl rfl
theorem dksX3_reckon_16 : cX3_reckon.data.toList.drop 402 = dktX3_reckon_16 := dk_seg dksX3_reckon_15 22 rfl rfl
theorem dX3_reckon_0 : decode cX3_reckon 0 = .ok (.aload_n 0, 1) := dk_42 (dk_at dksX3_reckon_0 0 rfl rfl)
theorem dX3_reckon_1 : decode cX3_reckon 1 = .ok (.invokevirtual 174, 3) := dk_182 0 174 (dk_at dksX3_reckon_0 1 rfl rfl)
theorem dX3_reckon_4 : decode cX3_reckon 4 = .ok (.iload_n 1, 1) := dk_27 (dk_at dksX3_reckon_0 4 rfl rfl)
theorem dX3_reckon_5 : decode cX3_reckon 5 = .ok (.iconst 0, 1) := dk_3 (dk_at dksX3_reckon_0 5 rfl rfl)
theorem dX3_reckon_6 : decode cX3_reckon 6 = .ok (.bipush 14, 2) := dk_16 14 (dk_at dksX3_reckon_0 6 rfl rfl)
theorem dX3_reckon_8 : decode cX3_reckon 8 = .ok (.invokestatic 67, 3) := dk_184 0 67 (dk_at dksX3_reckon_0 8 rfl rfl)
theorem dX3_reckon_11 : decode cX3_reckon 11 = .ok (.ifCond .ne 10, 3) := dk_154 0 10 (dk_at dksX3_reckon_0 11 rfl rfl)
theorem dX3_reckon_14 : decode cX3_reckon 14 = .ok (.aload_n 0, 1) := dk_42 (dk_at dksX3_reckon_0 14 rfl rfl)
theorem dX3_reckon_15 : decode cX3_reckon 15 = .ok (.iconst 1, 1) := dk_4 (dk_at dksX3_reckon_0 15 rfl rfl)
theorem dX3_reckon_16 : decode cX3_reckon 16 = .ok (.invokevirtual 177, 3) := dk_182 0 177 (dk_at dksX3_reckon_0 16 rfl rfl)
theorem dX3_reckon_19 : decode cX3_reckon 19 = .ok (.i2l, 1) := dk_133 (dk_at dksX3_reckon_0 19 rfl rfl)
theorem dX3_reckon_20 : decode cX3_reckon 20 = .ok (.lreturn, 1) := dk_173 (dk_at dksX3_reckon_0 20 rfl rfl)
theorem dX3_reckon_21 : decode cX3_reckon 21 = .ok (.lload_n 2, 1) := dk_32 (dk_at dksX3_reckon_0 21 rfl rfl)
theorem dX3_reckon_22 : decode cX3_reckon 22 = .ok (.invokestatic 155, 3) := dk_184 0 155 (dk_at dksX3_reckon_1 0 rfl rfl)
theorem dX3_reckon_25 : decode cX3_reckon 25 = .ok (.dstore 6, 2) := dk_57 6 (dk_at dksX3_reckon_1 3 rfl rfl)
theorem dX3_reckon_27 : decode cX3_reckon 27 = .ok (.lload 4, 2) := dk_22 4 (dk_at dksX3_reckon_1 5 rfl rfl)
theorem dX3_reckon_29 : decode cX3_reckon 29 = .ok (.invokestatic 155, 3) := dk_184 0 155 (dk_at dksX3_reckon_1 7 rfl rfl)
theorem dX3_reckon_32 : decode cX3_reckon 32 = .ok (.dstore 8, 2) := dk_57 8 (dk_at dksX3_reckon_1 10 rfl rfl)
theorem dX3_reckon_34 : decode cX3_reckon 34 = .ok (.dload 6, 2) := dk_24 6 (dk_at dksX3_reckon_1 12 rfl rfl)
theorem dX3_reckon_36 : decode cX3_reckon 36 = .ok (.dload 6, 2) := dk_24 6 (dk_at dksX3_reckon_1 14 rfl rfl)
theorem dX3_reckon_38 : decode cX3_reckon 38 = .ok (.dcmp .l, 1) := dk_151 (dk_at dksX3_reckon_1 16 rfl rfl)
theorem dX3_reckon_39 : decode cX3_reckon 39 = .ok (.ifCond .ne 28, 3) := dk_154 0 28 (dk_at dksX3_reckon_1 17 rfl rfl)
theorem dX3_reckon_42 : decode cX3_reckon 42 = .ok (.iload_n 1, 1) := dk_27 (dk_at dksX3_reckon_1 20 rfl rfl)
theorem dX3_reckon_43 : decode cX3_reckon 43 = .ok (.bipush 7, 2) := dk_16 7 (dk_at dksX3_reckon_1 21 rfl rfl)
theorem dX3_reckon_45 : decode cX3_reckon 45 = .ok (.if_icmp .ge 26, 3) := dk_162 0 26 (dk_at dksX3_reckon_2 0 rfl rfl)
theorem dX3_reckon_48 : decode cX3_reckon 48 = .ok (.dload 8, 2) := dk_24 8 (dk_at dksX3_reckon_2 3 rfl rfl)
theorem dX3_reckon_50 : decode cX3_reckon 50 = .ok (.dload 8, 2) := dk_24 8 (dk_at dksX3_reckon_2 5 rfl rfl)
theorem dX3_reckon_52 : decode cX3_reckon 52 = .ok (.dcmp .l, 1) := dk_151 (dk_at dksX3_reckon_2 7 rfl rfl)
theorem dX3_reckon_53 : decode cX3_reckon 53 = .ok (.ifCond .ne 14, 3) := dk_154 0 14 (dk_at dksX3_reckon_2 8 rfl rfl)
theorem dX3_reckon_56 : decode cX3_reckon 56 = .ok (.iload_n 1, 1) := dk_27 (dk_at dksX3_reckon_2 11 rfl rfl)
theorem dX3_reckon_57 : decode cX3_reckon 57 = .ok (.dload 6, 2) := dk_24 6 (dk_at dksX3_reckon_2 12 rfl rfl)
theorem dX3_reckon_59 : decode cX3_reckon 59 = .ok (.dload 8, 2) := dk_24 8 (dk_at dksX3_reckon_2 14 rfl rfl)
theorem dX3_reckon_61 : decode cX3_reckon 61 = .ok (.invokestatic 233, 3) := dk_184 0 233 (dk_at dksX3_reckon_2 16 rfl rfl)
theorem dX3_reckon_64 : decode cX3_reckon 64 = .ok (.ifCond .eq 7, 3) := dk_153 0 7 (dk_at dksX3_reckon_2 19 rfl rfl)
theorem dX3_reckon_67 : decode cX3_reckon 67 = .ok (.ldc2_w 112, 3) := dk_20 0 112 (dk_at dksX3_reckon_3 0 rfl rfl)
theorem dX3_reckon_70 : decode cX3_reckon 70 = .ok (.lreturn, 1) := dk_173 (dk_at dksX3_reckon_3 3 rfl rfl)
theorem dX3_reckon_71 : decode cX3_reckon 71 = .ok (.iload_n 1, 1) := dk_27 (dk_at dksX3_reckon_3 4 rfl rfl)
theorem dX3_reckon_72 : decode cX3_reckon 72 = .ok (.tableswitch 341 0 13 #[72, 81, 90, 99, 108, 117, 152, 187, 228, 248, 248, 248, 258, 288], 72) := by decide +kernel
theorem dX3_reckon_144 : decode cX3_reckon 144 = .ok (.dload 6, 2) := dk_24 6 (dk_at dksX3_reckon_5 0 rfl rfl)
theorem dX3_reckon_146 : decode cX3_reckon 146 = .ok (.dload 8, 2) := dk_24 8 (dk_at dksX3_reckon_5 2 rfl rfl)
theorem dX3_reckon_148 : decode cX3_reckon 148 = .ok (.dadd, 1) := dk_99 (dk_at dksX3_reckon_5 4 rfl rfl)
theorem dX3_reckon_149 : decode cX3_reckon 149 = .ok (.invokestatic 167, 3) := dk_184 0 167 (dk_at dksX3_reckon_5 5 rfl rfl)
theorem dX3_reckon_152 : decode cX3_reckon 152 = .ok (.lreturn, 1) := dk_173 (dk_at dksX3_reckon_5 8 rfl rfl)
theorem dX3_reckon_153 : decode cX3_reckon 153 = .ok (.dload 6, 2) := dk_24 6 (dk_at dksX3_reckon_5 9 rfl rfl)
theorem dX3_reckon_155 : decode cX3_reckon 155 = .ok (.dload 8, 2) := dk_24 8 (dk_at dksX3_reckon_5 11 rfl rfl)
theorem dX3_reckon_157 : decode cX3_reckon 157 = .ok (.dsub, 1) := dk_103 (dk_at dksX3_reckon_5 13 rfl rfl)
theorem dX3_reckon_158 : decode cX3_reckon 158 = .ok (.invokestatic 167, 3) := dk_184 0 167 (dk_at dksX3_reckon_5 14 rfl rfl)
theorem dX3_reckon_161 : decode cX3_reckon 161 = .ok (.lreturn, 1) := dk_173 (dk_at dksX3_reckon_5 17 rfl rfl)
theorem dX3_reckon_162 : decode cX3_reckon 162 = .ok (.dload 6, 2) := dk_24 6 (dk_at dksX3_reckon_5 18 rfl rfl)
theorem dX3_reckon_164 : decode cX3_reckon 164 = .ok (.dload 8, 2) := dk_24 8 (dk_at dksX3_reckon_5 20 rfl rfl)
theorem dX3_reckon_166 : decode cX3_reckon 166 = .ok (.dmul, 1) := dk_107 (dk_at dksX3_reckon_5 22 rfl rfl)
theorem dX3_reckon_167 : decode cX3_reckon 167 = .ok (.invokestatic 167, 3) := dk_184 0 167 (dk_at dksX3_reckon_6 0 rfl rfl)
theorem dX3_reckon_170 : decode cX3_reckon 170 = .ok (.lreturn, 1) := dk_173 (dk_at dksX3_reckon_6 3 rfl rfl)
theorem dX3_reckon_171 : decode cX3_reckon 171 = .ok (.dload 6, 2) := dk_24 6 (dk_at dksX3_reckon_6 4 rfl rfl)
theorem dX3_reckon_173 : decode cX3_reckon 173 = .ok (.dload 8, 2) := dk_24 8 (dk_at dksX3_reckon_6 6 rfl rfl)
theorem dX3_reckon_175 : decode cX3_reckon 175 = .ok (.ddiv, 1) := dk_111 (dk_at dksX3_reckon_6 8 rfl rfl)
theorem dX3_reckon_176 : decode cX3_reckon 176 = .ok (.invokestatic 167, 3) := dk_184 0 167 (dk_at dksX3_reckon_6 9 rfl rfl)
theorem dX3_reckon_179 : decode cX3_reckon 179 = .ok (.lreturn, 1) := dk_173 (dk_at dksX3_reckon_6 12 rfl rfl)
theorem dX3_reckon_180 : decode cX3_reckon 180 = .ok (.dload 6, 2) := dk_24 6 (dk_at dksX3_reckon_6 13 rfl rfl)
theorem dX3_reckon_182 : decode cX3_reckon 182 = .ok (.dload 8, 2) := dk_24 8 (dk_at dksX3_reckon_6 15 rfl rfl)
theorem dX3_reckon_184 : decode cX3_reckon 184 = .ok (.drem, 1) := dk_115 (dk_at dksX3_reckon_6 17 rfl rfl)
theorem dX3_reckon_185 : decode cX3_reckon 185 = .ok (.invokestatic 167, 3) := dk_184 0 167 (dk_at dksX3_reckon_6 18 rfl rfl)
theorem dX3_reckon_188 : decode cX3_reckon 188 = .ok (.lreturn, 1) := dk_173 (dk_at dksX3_reckon_6 21 rfl rfl)
theorem dX3_reckon_189 : decode cX3_reckon 189 = .ok (.dload 6, 2) := dk_24 6 (dk_at dksX3_reckon_6 22 rfl rfl)
theorem dX3_reckon_191 : decode cX3_reckon 191 = .ok (.dload 8, 2) := dk_24 8 (dk_at dksX3_reckon_7 0 rfl rfl)
theorem dX3_reckon_193 : decode cX3_reckon 193 = .ok (.dcmp .l, 1) := dk_151 (dk_at dksX3_reckon_7 2 rfl rfl)
theorem dX3_reckon_194 : decode cX3_reckon 194 = .ok (.ifCond .gt 19, 3) := dk_157 0 19 (dk_at dksX3_reckon_7 3 rfl rfl)
theorem dX3_reckon_197 : decode cX3_reckon 197 = .ok (.dload 6, 2) := dk_24 6 (dk_at dksX3_reckon_7 6 rfl rfl)
theorem dX3_reckon_199 : decode cX3_reckon 199 = .ok (.dload 8, 2) := dk_24 8 (dk_at dksX3_reckon_7 8 rfl rfl)
theorem dX3_reckon_201 : decode cX3_reckon 201 = .ok (.dcmp .l, 1) := dk_151 (dk_at dksX3_reckon_7 10 rfl rfl)
theorem dX3_reckon_202 : decode cX3_reckon 202 = .ok (.ifCond .ne 16, 3) := dk_154 0 16 (dk_at dksX3_reckon_7 11 rfl rfl)
theorem dX3_reckon_205 : decode cX3_reckon 205 = .ok (.dload 6, 2) := dk_24 6 (dk_at dksX3_reckon_7 14 rfl rfl)
theorem dX3_reckon_207 : decode cX3_reckon 207 = .ok (.invokestatic 114, 3) := dk_184 0 114 (dk_at dksX3_reckon_7 16 rfl rfl)
theorem dX3_reckon_210 : decode cX3_reckon 210 = .ok (.ifCond .ne 8, 3) := dk_154 0 8 (dk_at dksX3_reckon_7 19 rfl rfl)
theorem dX3_reckon_213 : decode cX3_reckon 213 = .ok (.dload 6, 2) := dk_24 6 (dk_at dksX3_reckon_7 22 rfl rfl)
theorem dX3_reckon_215 : decode cX3_reckon 215 = .ok (.goto 5, 3) := dk_167 0 5 (dk_at dksX3_reckon_8 0 rfl rfl)
theorem dX3_reckon_218 : decode cX3_reckon 218 = .ok (.dload 8, 2) := dk_24 8 (dk_at dksX3_reckon_8 3 rfl rfl)
theorem dX3_reckon_220 : decode cX3_reckon 220 = .ok (.invokestatic 167, 3) := dk_184 0 167 (dk_at dksX3_reckon_8 5 rfl rfl)
theorem dX3_reckon_223 : decode cX3_reckon 223 = .ok (.lreturn, 1) := dk_173 (dk_at dksX3_reckon_8 8 rfl rfl)
theorem dX3_reckon_224 : decode cX3_reckon 224 = .ok (.dload 6, 2) := dk_24 6 (dk_at dksX3_reckon_8 9 rfl rfl)
theorem dX3_reckon_226 : decode cX3_reckon 226 = .ok (.dload 8, 2) := dk_24 8 (dk_at dksX3_reckon_8 11 rfl rfl)
theorem dX3_reckon_228 : decode cX3_reckon 228 = .ok (.dcmp .g, 1) := dk_152 (dk_at dksX3_reckon_8 13 rfl rfl)
theorem dX3_reckon_229 : decode cX3_reckon 229 = .ok (.ifCond .lt 19, 3) := dk_155 0 19 (dk_at dksX3_reckon_8 14 rfl rfl)
theorem dX3_reckon_232 : decode cX3_reckon 232 = .ok (.dload 6, 2) := dk_24 6 (dk_at dksX3_reckon_8 17 rfl rfl)
theorem dX3_reckon_234 : decode cX3_reckon 234 = .ok (.dload 8, 2) := dk_24 8 (dk_at dksX3_reckon_8 19 rfl rfl)
theorem dX3_reckon_236 : decode cX3_reckon 236 = .ok (.dcmp .l, 1) := dk_151 (dk_at dksX3_reckon_8 21 rfl rfl)
theorem dX3_reckon_237 : decode cX3_reckon 237 = .ok (.ifCond .ne 16, 3) := dk_154 0 16 (dk_at dksX3_reckon_9 0 rfl rfl)
theorem dX3_reckon_240 : decode cX3_reckon 240 = .ok (.dload 6, 2) := dk_24 6 (dk_at dksX3_reckon_9 3 rfl rfl)
theorem dX3_reckon_242 : decode cX3_reckon 242 = .ok (.invokestatic 114, 3) := dk_184 0 114 (dk_at dksX3_reckon_9 5 rfl rfl)
theorem dX3_reckon_245 : decode cX3_reckon 245 = .ok (.ifCond .eq 8, 3) := dk_153 0 8 (dk_at dksX3_reckon_9 8 rfl rfl)
theorem dX3_reckon_248 : decode cX3_reckon 248 = .ok (.dload 6, 2) := dk_24 6 (dk_at dksX3_reckon_9 11 rfl rfl)
theorem dX3_reckon_250 : decode cX3_reckon 250 = .ok (.goto 5, 3) := dk_167 0 5 (dk_at dksX3_reckon_9 13 rfl rfl)
theorem dX3_reckon_253 : decode cX3_reckon 253 = .ok (.dload 8, 2) := dk_24 8 (dk_at dksX3_reckon_9 16 rfl rfl)
theorem dX3_reckon_255 : decode cX3_reckon 255 = .ok (.invokestatic 167, 3) := dk_184 0 167 (dk_at dksX3_reckon_9 18 rfl rfl)
theorem dX3_reckon_258 : decode cX3_reckon 258 = .ok (.lreturn, 1) := dk_173 (dk_at dksX3_reckon_9 21 rfl rfl)
theorem dX3_reckon_259 : decode cX3_reckon 259 = .ok (.dload 6, 2) := dk_24 6 (dk_at dksX3_reckon_9 22 rfl rfl)
theorem dX3_reckon_261 : decode cX3_reckon 261 = .ok (.invokestatic 114, 3) := dk_184 0 114 (dk_at dksX3_reckon_10 0 rfl rfl)
theorem dX3_reckon_264 : decode cX3_reckon 264 = .ok (.dload 8, 2) := dk_24 8 (dk_at dksX3_reckon_10 3 rfl rfl)
theorem dX3_reckon_266 : decode cX3_reckon 266 = .ok (.dload 8, 2) := dk_24 8 (dk_at dksX3_reckon_10 5 rfl rfl)
theorem dX3_reckon_268 : decode cX3_reckon 268 = .ok (.dcmp .l, 1) := dk_151 (dk_at dksX3_reckon_10 7 rfl rfl)
theorem dX3_reckon_269 : decode cX3_reckon 269 = .ok (.ifCond .ne 15, 3) := dk_154 0 15 (dk_at dksX3_reckon_10 8 rfl rfl)
theorem dX3_reckon_272 : decode cX3_reckon 272 = .ok (.dload 8, 2) := dk_24 8 (dk_at dksX3_reckon_10 11 rfl rfl)
theorem dX3_reckon_274 : decode cX3_reckon 274 = .ok (.invokestatic 114, 3) := dk_184 0 114 (dk_at dksX3_reckon_10 13 rfl rfl)
theorem dX3_reckon_277 : decode cX3_reckon 277 = .ok (.ifCond .eq 7, 3) := dk_153 0 7 (dk_at dksX3_reckon_10 16 rfl rfl)
theorem dX3_reckon_280 : decode cX3_reckon 280 = .ok (.iconst 1, 1) := dk_4 (dk_at dksX3_reckon_10 19 rfl rfl)
theorem dX3_reckon_281 : decode cX3_reckon 281 = .ok (.goto 4, 3) := dk_167 0 4 (dk_at dksX3_reckon_10 20 rfl rfl)
theorem dX3_reckon_284 : decode cX3_reckon 284 = .ok (.iconst 0, 1) := dk_3 (dk_at dksX3_reckon_10 23 rfl rfl)
theorem dX3_reckon_285 : decode cX3_reckon 285 = .ok (.if_icmp .ne 8, 3) := dk_160 0 8 (dk_at dksX3_reckon_11 0 rfl rfl)
theorem dX3_reckon_288 : decode cX3_reckon 288 = .ok (.dload 6, 2) := dk_24 6 (dk_at dksX3_reckon_11 3 rfl rfl)
theorem dX3_reckon_290 : decode cX3_reckon 290 = .ok (.goto 6, 3) := dk_167 0 6 (dk_at dksX3_reckon_11 5 rfl rfl)
theorem dX3_reckon_293 : decode cX3_reckon 293 = .ok (.dload 6, 2) := dk_24 6 (dk_at dksX3_reckon_11 8 rfl rfl)
theorem dX3_reckon_295 : decode cX3_reckon 295 = .ok (.dneg, 1) := dk_119 (dk_at dksX3_reckon_11 10 rfl rfl)
theorem dX3_reckon_296 : decode cX3_reckon 296 = .ok (.invokestatic 167, 3) := dk_184 0 167 (dk_at dksX3_reckon_11 11 rfl rfl)
theorem dX3_reckon_299 : decode cX3_reckon 299 = .ok (.lreturn, 1) := dk_173 (dk_at dksX3_reckon_11 14 rfl rfl)
theorem dX3_reckon_300 : decode cX3_reckon 300 = .ok (.dload 6, 2) := dk_24 6 (dk_at dksX3_reckon_11 15 rfl rfl)
theorem dX3_reckon_302 : decode cX3_reckon 302 = .ok (.invokestatic 114, 3) := dk_184 0 114 (dk_at dksX3_reckon_11 17 rfl rfl)
theorem dX3_reckon_305 : decode cX3_reckon 305 = .ok (.ifCond .eq 9, 3) := dk_153 0 9 (dk_at dksX3_reckon_11 20 rfl rfl)
theorem dX3_reckon_308 : decode cX3_reckon 308 = .ok (.dload 6, 2) := dk_24 6 (dk_at dksX3_reckon_12 0 rfl rfl)
theorem dX3_reckon_310 : decode cX3_reckon 310 = .ok (.dneg, 1) := dk_119 (dk_at dksX3_reckon_12 2 rfl rfl)
theorem dX3_reckon_311 : decode cX3_reckon 311 = .ok (.goto 5, 3) := dk_167 0 5 (dk_at dksX3_reckon_12 3 rfl rfl)
theorem dX3_reckon_314 : decode cX3_reckon 314 = .ok (.dload 6, 2) := dk_24 6 (dk_at dksX3_reckon_12 6 rfl rfl)
theorem dX3_reckon_316 : decode cX3_reckon 316 = .ok (.invokestatic 167, 3) := dk_184 0 167 (dk_at dksX3_reckon_12 8 rfl rfl)
theorem dX3_reckon_319 : decode cX3_reckon 319 = .ok (.lreturn, 1) := dk_173 (dk_at dksX3_reckon_12 11 rfl rfl)
theorem dX3_reckon_320 : decode cX3_reckon 320 = .ok (.dload 6, 2) := dk_24 6 (dk_at dksX3_reckon_12 12 rfl rfl)
theorem dX3_reckon_322 : decode cX3_reckon 322 = .ok (.iload_n 1, 1) := dk_27 (dk_at dksX3_reckon_12 14 rfl rfl)
theorem dX3_reckon_323 : decode cX3_reckon 323 = .ok (.invokestatic 237, 3) := dk_184 0 237 (dk_at dksX3_reckon_12 15 rfl rfl)
theorem dX3_reckon_326 : decode cX3_reckon 326 = .ok (.invokestatic 167, 3) := dk_184 0 167 (dk_at dksX3_reckon_12 18 rfl rfl)
theorem dX3_reckon_329 : decode cX3_reckon 329 = .ok (.lreturn, 1) := dk_173 (dk_at dksX3_reckon_12 21 rfl rfl)
theorem dX3_reckon_330 : decode cX3_reckon 330 = .ok (.dload 6, 2) := dk_24 6 (dk_at dksX3_reckon_12 22 rfl rfl)
theorem dX3_reckon_332 : decode cX3_reckon 332 = .ok (.dconst 0, 1) := dk_14 (dk_at dksX3_reckon_13 0 rfl rfl)
theorem dX3_reckon_333 : decode cX3_reckon 333 = .ok (.dcmp .l, 1) := dk_151 (dk_at dksX3_reckon_13 1 rfl rfl)
theorem dX3_reckon_334 : decode cX3_reckon 334 = .ok (.ifCond .ne 8, 3) := dk_154 0 8 (dk_at dksX3_reckon_13 2 rfl rfl)
theorem dX3_reckon_337 : decode cX3_reckon 337 = .ok (.dload 6, 2) := dk_24 6 (dk_at dksX3_reckon_13 5 rfl rfl)
theorem dX3_reckon_339 : decode cX3_reckon 339 = .ok (.goto 17, 3) := dk_167 0 17 (dk_at dksX3_reckon_13 7 rfl rfl)
theorem dX3_reckon_342 : decode cX3_reckon 342 = .ok (.dload 6, 2) := dk_24 6 (dk_at dksX3_reckon_13 10 rfl rfl)
theorem dX3_reckon_344 : decode cX3_reckon 344 = .ok (.dconst 0, 1) := dk_14 (dk_at dksX3_reckon_13 12 rfl rfl)
theorem dX3_reckon_345 : decode cX3_reckon 345 = .ok (.dcmp .g, 1) := dk_152 (dk_at dksX3_reckon_13 13 rfl rfl)
theorem dX3_reckon_346 : decode cX3_reckon 346 = .ok (.ifCond .ge 9, 3) := dk_156 0 9 (dk_at dksX3_reckon_13 14 rfl rfl)
theorem dX3_reckon_349 : decode cX3_reckon 349 = .ok (.ldc2_w 241, 3) := dk_20 0 241 (dk_at dksX3_reckon_13 17 rfl rfl)
theorem dX3_reckon_352 : decode cX3_reckon 352 = .ok (.goto 4, 3) := dk_167 0 4 (dk_at dksX3_reckon_13 20 rfl rfl)
theorem dX3_reckon_355 : decode cX3_reckon 355 = .ok (.dconst 1, 1) := dk_15 (dk_at dksX3_reckon_13 23 rfl rfl)
theorem dX3_reckon_356 : decode cX3_reckon 356 = .ok (.invokestatic 167, 3) := dk_184 0 167 (dk_at dksX3_reckon_14 0 rfl rfl)
theorem dX3_reckon_359 : decode cX3_reckon 359 = .ok (.lreturn, 1) := dk_173 (dk_at dksX3_reckon_14 3 rfl rfl)
theorem dX3_reckon_360 : decode cX3_reckon 360 = .ok (.dload 6, 2) := dk_24 6 (dk_at dksX3_reckon_14 4 rfl rfl)
theorem dX3_reckon_362 : decode cX3_reckon 362 = .ok (.ldc2_w 97, 3) := dk_20 0 97 (dk_at dksX3_reckon_14 6 rfl rfl)
theorem dX3_reckon_365 : decode cX3_reckon 365 = .ok (.dcmp .l, 1) := dk_151 (dk_at dksX3_reckon_14 9 rfl rfl)
theorem dX3_reckon_366 : decode cX3_reckon 366 = .ok (.ifCond .ne 11, 3) := dk_154 0 11 (dk_at dksX3_reckon_14 10 rfl rfl)
theorem dX3_reckon_369 : decode cX3_reckon 369 = .ok (.dload 6, 2) := dk_24 6 (dk_at dksX3_reckon_14 13 rfl rfl)
theorem dX3_reckon_371 : decode cX3_reckon 371 = .ok (.invokestatic 167, 3) := dk_184 0 167 (dk_at dksX3_reckon_14 15 rfl rfl)
theorem dX3_reckon_374 : decode cX3_reckon 374 = .ok (.goto 38, 3) := dk_167 0 38 (dk_at dksX3_reckon_14 18 rfl rfl)
theorem dX3_reckon_377 : decode cX3_reckon 377 = .ok (.dload 6, 2) := dk_24 6 (dk_at dksX3_reckon_14 21 rfl rfl)
theorem dX3_reckon_379 : decode cX3_reckon 379 = .ok (.dconst 0, 1) := dk_14 (dk_at dksX3_reckon_14 23 rfl rfl)
theorem dX3_reckon_380 : decode cX3_reckon 380 = .ok (.dcmp .l, 1) := dk_151 (dk_at dksX3_reckon_15 0 rfl rfl)
theorem dX3_reckon_381 : decode cX3_reckon 381 = .ok (.ifCond .ne 7, 3) := dk_154 0 7 (dk_at dksX3_reckon_15 1 rfl rfl)
theorem dX3_reckon_384 : decode cX3_reckon 384 = .ok (.lconst 1, 1) := dk_10 (dk_at dksX3_reckon_15 4 rfl rfl)
theorem dX3_reckon_385 : decode cX3_reckon 385 = .ok (.goto 27, 3) := dk_167 0 27 (dk_at dksX3_reckon_15 5 rfl rfl)
theorem dX3_reckon_388 : decode cX3_reckon 388 = .ok (.dload 6, 2) := dk_24 6 (dk_at dksX3_reckon_15 8 rfl rfl)
theorem dX3_reckon_390 : decode cX3_reckon 390 = .ok (.dconst 0, 1) := dk_14 (dk_at dksX3_reckon_15 10 rfl rfl)
theorem dX3_reckon_391 : decode cX3_reckon 391 = .ok (.dcmp .l, 1) := dk_151 (dk_at dksX3_reckon_15 11 rfl rfl)
theorem dX3_reckon_392 : decode cX3_reckon 392 = .ok (.ifCond .le 13, 3) := dk_158 0 13 (dk_at dksX3_reckon_15 12 rfl rfl)
theorem dX3_reckon_395 : decode cX3_reckon 395 = .ok (.dload 6, 2) := dk_24 6 (dk_at dksX3_reckon_15 15 rfl rfl)
theorem dX3_reckon_397 : decode cX3_reckon 397 = .ok (.invokestatic 167, 3) := dk_184 0 167 (dk_at dksX3_reckon_15 17 rfl rfl)
theorem dX3_reckon_400 : decode cX3_reckon 400 = .ok (.lconst 1, 1) := dk_10 (dk_at dksX3_reckon_15 20 rfl rfl)
theorem dX3_reckon_401 : decode cX3_reckon 401 = .ok (.ladd, 1) := dk_97 (dk_at dksX3_reckon_15 21 rfl rfl)
theorem dX3_reckon_402 : decode cX3_reckon 402 = .ok (.goto 10, 3) := dk_167 0 10 (dk_at dksX3_reckon_16 0 rfl rfl)
theorem dX3_reckon_405 : decode cX3_reckon 405 = .ok (.dload 6, 2) := dk_24 6 (dk_at dksX3_reckon_16 3 rfl rfl)
theorem dX3_reckon_407 : decode cX3_reckon 407 = .ok (.invokestatic 167, 3) := dk_184 0 167 (dk_at dksX3_reckon_16 5 rfl rfl)
theorem dX3_reckon_410 : decode cX3_reckon 410 = .ok (.lconst 1, 1) := dk_10 (dk_at dksX3_reckon_16 8 rfl rfl)
theorem dX3_reckon_411 : decode cX3_reckon 411 = .ok (.lsub, 1) := dk_101 (dk_at dksX3_reckon_16 9 rfl rfl)
theorem dX3_reckon_412 : decode cX3_reckon 412 = .ok (.lreturn, 1) := dk_173 (dk_at dksX3_reckon_16 10 rfl rfl)
theorem dX3_reckon_413 : decode cX3_reckon 413 = .ok (.dload 6, 2) := dk_24 6 (dk_at dksX3_reckon_16 11 rfl rfl)
theorem dX3_reckon_415 : decode cX3_reckon 415 = .ok (.dneg, 1) := dk_119 (dk_at dksX3_reckon_16 13 rfl rfl)
theorem dX3_reckon_416 : decode cX3_reckon 416 = .ok (.invokestatic 167, 3) := dk_184 0 167 (dk_at dksX3_reckon_16 14 rfl rfl)
theorem dX3_reckon_419 : decode cX3_reckon 419 = .ok (.lreturn, 1) := dk_173 (dk_at dksX3_reckon_16 17 rfl rfl)
abbrev cX3_makesNone : ByteArray := prog_11_method_60_code
def yX3_makesNone : MethodName := ⟨RX3, "makesNone", "(IDD)Z"⟩
def dkwX3_makesNone_7 : List UInt8 := [167, 0, 4, 3, 172, 3, 172]
abbrev dktX3_makesNone_7 : List UInt8 := dkwX3_makesNone_7 ++ []
def dkwX3_makesNone_6 : List UInt8 := [154, 0, 7, 4, 167, 0, 4, 3, 172, 39, 184, 0, 230, 154, 0, 9, 41, 14, 151, 154, 0, 7, 4]
abbrev dktX3_makesNone_6 : List UInt8 := dkwX3_makesNone_6 ++ dktX3_makesNone_7
def dkwX3_makesNone_5 : List UInt8 := [184, 0, 230, 153, 0, 10, 41, 184, 0, 230, 154, 0, 15, 39, 14, 151, 154, 0, 13, 41, 14, 151]
abbrev dktX3_makesNone_5 : List UInt8 := dkwX3_makesNone_5 ++ dktX3_makesNone_6
def dkwX3_makesNone_4 : List UInt8 := [151, 153, 0, 16, 39, 14, 151, 154, 0, 14, 41, 184, 0, 230, 153, 0, 7, 4, 167, 0, 4, 3, 172, 39]
abbrev dktX3_makesNone_4 : List UInt8 := dkwX3_makesNone_4 ++ dktX3_makesNone_5
def dkwX3_makesNone_3 : List UInt8 := [153, 0, 13, 39, 41, 151, 154, 0, 7, 4, 167, 0, 4, 3, 172, 39, 184, 0, 230, 153, 0, 9, 41, 14]
abbrev dktX3_makesNone_3 : List UInt8 := dkwX3_makesNone_3 ++ dktX3_makesNone_4
def dkwX3_makesNone_2 : List UInt8 := [39, 184, 0, 230, 153, 0, 14, 39, 41, 119, 151, 154, 0, 7, 4, 167, 0, 4, 3, 172, 39, 184, 0, 230]
abbrev dktX3_makesNone_2 : List UInt8 := dkwX3_makesNone_2 ++ dktX3_makesNone_3
def dkwX3_makesNone_1 : List UInt8 := [170, 0, 0, 0, 0, 0, 157, 0, 0, 0, 0, 0, 0, 0, 4, 0, 0, 0, 35, 0, 0, 0, 55, 0, 0, 0, 74, 0, 0, 0, 106, 0, 0, 0, 138]
abbrev dktX3_makesNone_1 : List UInt8 := dkwX3_makesNone_1 ++ dktX3_makesNone_2
def dkwX3_makesNone_0 : List UInt8 := [26]
abbrev dktX3_makesNone_0 : List UInt8 := dkwX3_makesNone_0 ++ dktX3_makesNone_1
theorem dksX3_makesNone_0 : cX3_makesNone.data.toList.drop 0 = dktX3_makesNone_0 := by decide +kernel
theorem dksX3_makesNone_1 : cX3_makesNone.data.toList.drop 1 = dktX3_makesNone_1 := dk_seg dksX3_makesNone_0 1 rfl rfl
theorem dksX3_makesNone_2 : cX3_makesNone.data.toList.drop 36 = dktX3_makesNone_2 := dk_seg dksX3_makesNone_1 35 rfl rfl
theorem dksX3_makesNone_3 : cX3_makesNone.data.toList.drop 60 = dktX3_makesNone_3 := dk_seg dksX3_makesNone_2 24 rfl rfl
theorem dksX3_makesNone_4 : cX3_makesNone.data.toList.drop 84 = dktX3_makesNone_4 := dk_seg dksX3_makesNone_3 24 rfl rfl
theorem dksX3_makesNone_5 : cX3_makesNone.data.toList.drop 108 = dktX3_makesNone_5 := dk_seg dksX3_makesNone_4 24 rfl rfl
theorem dksX3_makesNone_6 : cX3_makesNone.data.toList.drop 130 = dktX3_makesNone_6 := dk_seg dksX3_makesNone_5 22 rfl rfl
theorem dksX3_makesNone_7 : cX3_makesNone.data.toList.drop 153 = dktX3_makesNone_7 := dk_seg dksX3_makesNone_6 23 rfl rfl
theorem dX3_makesNone_0 : decode cX3_makesNone 0 = .ok (.iload_n 0, 1) := dk_26 (dk_at dksX3_makesNone_0 0 rfl rfl)
theorem dX3_makesNone_1 : decode cX3_makesNone 1 = .ok (.tableswitch 157 0 4 #[35, 55, 74, 106, 138], 35) := by decide +kernel
theorem dX3_makesNone_36 : decode cX3_makesNone 36 = .ok (.dload_n 1, 1) := dk_39 (dk_at dksX3_makesNone_2 0 rfl rfl)
theorem dX3_makesNone_37 : decode cX3_makesNone 37 = .ok (.invokestatic 230, 3) := dk_184 0 230 (dk_at dksX3_makesNone_2 1 rfl rfl)
theorem dX3_makesNone_40 : decode cX3_makesNone 40 = .ok (.ifCond .eq 14, 3) := dk_153 0 14 (dk_at dksX3_makesNone_2 4 rfl rfl)
theorem dX3_makesNone_43 : decode cX3_makesNone 43 = .ok (.dload_n 1, 1) := dk_39 (dk_at dksX3_makesNone_2 7 rfl rfl)
theorem dX3_makesNone_44 : decode cX3_makesNone 44 = .ok (.dload_n 3, 1) := dk_41 (dk_at dksX3_makesNone_2 8 rfl rfl)
theorem dX3_makesNone_45 : decode cX3_makesNone 45 = .ok (.dneg, 1) := dk_119 (dk_at dksX3_makesNone_2 9 rfl rfl)
theorem dX3_makesNone_46 : decode cX3_makesNone 46 = .ok (.dcmp .l, 1) := dk_151 (dk_at dksX3_makesNone_2 10 rfl rfl)
theorem dX3_makesNone_47 : decode cX3_makesNone 47 = .ok (.ifCond .ne 7, 3) := dk_154 0 7 (dk_at dksX3_makesNone_2 11 rfl rfl)
theorem dX3_makesNone_50 : decode cX3_makesNone 50 = .ok (.iconst 1, 1) := dk_4 (dk_at dksX3_makesNone_2 14 rfl rfl)
theorem dX3_makesNone_51 : decode cX3_makesNone 51 = .ok (.goto 4, 3) := dk_167 0 4 (dk_at dksX3_makesNone_2 15 rfl rfl)
theorem dX3_makesNone_54 : decode cX3_makesNone 54 = .ok (.iconst 0, 1) := dk_3 (dk_at dksX3_makesNone_2 18 rfl rfl)
theorem dX3_makesNone_55 : decode cX3_makesNone 55 = .ok (.ireturn, 1) := dk_172 (dk_at dksX3_makesNone_2 19 rfl rfl)
theorem dX3_makesNone_56 : decode cX3_makesNone 56 = .ok (.dload_n 1, 1) := dk_39 (dk_at dksX3_makesNone_2 20 rfl rfl)
theorem dX3_makesNone_57 : decode cX3_makesNone 57 = .ok (.invokestatic 230, 3) := dk_184 0 230 (dk_at dksX3_makesNone_2 21 rfl rfl)
theorem dX3_makesNone_60 : decode cX3_makesNone 60 = .ok (.ifCond .eq 13, 3) := dk_153 0 13 (dk_at dksX3_makesNone_3 0 rfl rfl)
theorem dX3_makesNone_63 : decode cX3_makesNone 63 = .ok (.dload_n 1, 1) := dk_39 (dk_at dksX3_makesNone_3 3 rfl rfl)
theorem dX3_makesNone_64 : decode cX3_makesNone 64 = .ok (.dload_n 3, 1) := dk_41 (dk_at dksX3_makesNone_3 4 rfl rfl)
theorem dX3_makesNone_65 : decode cX3_makesNone 65 = .ok (.dcmp .l, 1) := dk_151 (dk_at dksX3_makesNone_3 5 rfl rfl)
theorem dX3_makesNone_66 : decode cX3_makesNone 66 = .ok (.ifCond .ne 7, 3) := dk_154 0 7 (dk_at dksX3_makesNone_3 6 rfl rfl)
theorem dX3_makesNone_69 : decode cX3_makesNone 69 = .ok (.iconst 1, 1) := dk_4 (dk_at dksX3_makesNone_3 9 rfl rfl)
theorem dX3_makesNone_70 : decode cX3_makesNone 70 = .ok (.goto 4, 3) := dk_167 0 4 (dk_at dksX3_makesNone_3 10 rfl rfl)
theorem dX3_makesNone_73 : decode cX3_makesNone 73 = .ok (.iconst 0, 1) := dk_3 (dk_at dksX3_makesNone_3 13 rfl rfl)
theorem dX3_makesNone_74 : decode cX3_makesNone 74 = .ok (.ireturn, 1) := dk_172 (dk_at dksX3_makesNone_3 14 rfl rfl)
theorem dX3_makesNone_75 : decode cX3_makesNone 75 = .ok (.dload_n 1, 1) := dk_39 (dk_at dksX3_makesNone_3 15 rfl rfl)
theorem dX3_makesNone_76 : decode cX3_makesNone 76 = .ok (.invokestatic 230, 3) := dk_184 0 230 (dk_at dksX3_makesNone_3 16 rfl rfl)
theorem dX3_makesNone_79 : decode cX3_makesNone 79 = .ok (.ifCond .eq 9, 3) := dk_153 0 9 (dk_at dksX3_makesNone_3 19 rfl rfl)
theorem dX3_makesNone_82 : decode cX3_makesNone 82 = .ok (.dload_n 3, 1) := dk_41 (dk_at dksX3_makesNone_3 22 rfl rfl)
theorem dX3_makesNone_83 : decode cX3_makesNone 83 = .ok (.dconst 0, 1) := dk_14 (dk_at dksX3_makesNone_3 23 rfl rfl)
theorem dX3_makesNone_84 : decode cX3_makesNone 84 = .ok (.dcmp .l, 1) := dk_151 (dk_at dksX3_makesNone_4 0 rfl rfl)
theorem dX3_makesNone_85 : decode cX3_makesNone 85 = .ok (.ifCond .eq 16, 3) := dk_153 0 16 (dk_at dksX3_makesNone_4 1 rfl rfl)
theorem dX3_makesNone_88 : decode cX3_makesNone 88 = .ok (.dload_n 1, 1) := dk_39 (dk_at dksX3_makesNone_4 4 rfl rfl)
theorem dX3_makesNone_89 : decode cX3_makesNone 89 = .ok (.dconst 0, 1) := dk_14 (dk_at dksX3_makesNone_4 5 rfl rfl)
theorem dX3_makesNone_90 : decode cX3_makesNone 90 = .ok (.dcmp .l, 1) := dk_151 (dk_at dksX3_makesNone_4 6 rfl rfl)
theorem dX3_makesNone_91 : decode cX3_makesNone 91 = .ok (.ifCond .ne 14, 3) := dk_154 0 14 (dk_at dksX3_makesNone_4 7 rfl rfl)
theorem dX3_makesNone_94 : decode cX3_makesNone 94 = .ok (.dload_n 3, 1) := dk_41 (dk_at dksX3_makesNone_4 10 rfl rfl)
theorem dX3_makesNone_95 : decode cX3_makesNone 95 = .ok (.invokestatic 230, 3) := dk_184 0 230 (dk_at dksX3_makesNone_4 11 rfl rfl)
theorem dX3_makesNone_98 : decode cX3_makesNone 98 = .ok (.ifCond .eq 7, 3) := dk_153 0 7 (dk_at dksX3_makesNone_4 14 rfl rfl)
theorem dX3_makesNone_101 : decode cX3_makesNone 101 = .ok (.iconst 1, 1) := dk_4 (dk_at dksX3_makesNone_4 17 rfl rfl)
theorem dX3_makesNone_102 : decode cX3_makesNone 102 = .ok (.goto 4, 3) := dk_167 0 4 (dk_at dksX3_makesNone_4 18 rfl rfl)
theorem dX3_makesNone_105 : decode cX3_makesNone 105 = .ok (.iconst 0, 1) := dk_3 (dk_at dksX3_makesNone_4 21 rfl rfl)
theorem dX3_makesNone_106 : decode cX3_makesNone 106 = .ok (.ireturn, 1) := dk_172 (dk_at dksX3_makesNone_4 22 rfl rfl)
theorem dX3_makesNone_107 : decode cX3_makesNone 107 = .ok (.dload_n 1, 1) := dk_39 (dk_at dksX3_makesNone_4 23 rfl rfl)
theorem dX3_makesNone_108 : decode cX3_makesNone 108 = .ok (.invokestatic 230, 3) := dk_184 0 230 (dk_at dksX3_makesNone_5 0 rfl rfl)
theorem dX3_makesNone_111 : decode cX3_makesNone 111 = .ok (.ifCond .eq 10, 3) := dk_153 0 10 (dk_at dksX3_makesNone_5 3 rfl rfl)
theorem dX3_makesNone_114 : decode cX3_makesNone 114 = .ok (.dload_n 3, 1) := dk_41 (dk_at dksX3_makesNone_5 6 rfl rfl)
theorem dX3_makesNone_115 : decode cX3_makesNone 115 = .ok (.invokestatic 230, 3) := dk_184 0 230 (dk_at dksX3_makesNone_5 7 rfl rfl)
theorem dX3_makesNone_118 : decode cX3_makesNone 118 = .ok (.ifCond .ne 15, 3) := dk_154 0 15 (dk_at dksX3_makesNone_5 10 rfl rfl)
theorem dX3_makesNone_121 : decode cX3_makesNone 121 = .ok (.dload_n 1, 1) := dk_39 (dk_at dksX3_makesNone_5 13 rfl rfl)
theorem dX3_makesNone_122 : decode cX3_makesNone 122 = .ok (.dconst 0, 1) := dk_14 (dk_at dksX3_makesNone_5 14 rfl rfl)
theorem dX3_makesNone_123 : decode cX3_makesNone 123 = .ok (.dcmp .l, 1) := dk_151 (dk_at dksX3_makesNone_5 15 rfl rfl)
theorem dX3_makesNone_124 : decode cX3_makesNone 124 = .ok (.ifCond .ne 13, 3) := dk_154 0 13 (dk_at dksX3_makesNone_5 16 rfl rfl)
theorem dX3_makesNone_127 : decode cX3_makesNone 127 = .ok (.dload_n 3, 1) := dk_41 (dk_at dksX3_makesNone_5 19 rfl rfl)
theorem dX3_makesNone_128 : decode cX3_makesNone 128 = .ok (.dconst 0, 1) := dk_14 (dk_at dksX3_makesNone_5 20 rfl rfl)
theorem dX3_makesNone_129 : decode cX3_makesNone 129 = .ok (.dcmp .l, 1) := dk_151 (dk_at dksX3_makesNone_5 21 rfl rfl)
theorem dX3_makesNone_130 : decode cX3_makesNone 130 = .ok (.ifCond .ne 7, 3) := dk_154 0 7 (dk_at dksX3_makesNone_6 0 rfl rfl)
theorem dX3_makesNone_133 : decode cX3_makesNone 133 = .ok (.iconst 1, 1) := dk_4 (dk_at dksX3_makesNone_6 3 rfl rfl)
theorem dX3_makesNone_134 : decode cX3_makesNone 134 = .ok (.goto 4, 3) := dk_167 0 4 (dk_at dksX3_makesNone_6 4 rfl rfl)
theorem dX3_makesNone_137 : decode cX3_makesNone 137 = .ok (.iconst 0, 1) := dk_3 (dk_at dksX3_makesNone_6 7 rfl rfl)
theorem dX3_makesNone_138 : decode cX3_makesNone 138 = .ok (.ireturn, 1) := dk_172 (dk_at dksX3_makesNone_6 8 rfl rfl)
theorem dX3_makesNone_139 : decode cX3_makesNone 139 = .ok (.dload_n 1, 1) := dk_39 (dk_at dksX3_makesNone_6 9 rfl rfl)
theorem dX3_makesNone_140 : decode cX3_makesNone 140 = .ok (.invokestatic 230, 3) := dk_184 0 230 (dk_at dksX3_makesNone_6 10 rfl rfl)
theorem dX3_makesNone_143 : decode cX3_makesNone 143 = .ok (.ifCond .ne 9, 3) := dk_154 0 9 (dk_at dksX3_makesNone_6 13 rfl rfl)
theorem dX3_makesNone_146 : decode cX3_makesNone 146 = .ok (.dload_n 3, 1) := dk_41 (dk_at dksX3_makesNone_6 16 rfl rfl)
theorem dX3_makesNone_147 : decode cX3_makesNone 147 = .ok (.dconst 0, 1) := dk_14 (dk_at dksX3_makesNone_6 17 rfl rfl)
theorem dX3_makesNone_148 : decode cX3_makesNone 148 = .ok (.dcmp .l, 1) := dk_151 (dk_at dksX3_makesNone_6 18 rfl rfl)
theorem dX3_makesNone_149 : decode cX3_makesNone 149 = .ok (.ifCond .ne 7, 3) := dk_154 0 7 (dk_at dksX3_makesNone_6 19 rfl rfl)
theorem dX3_makesNone_152 : decode cX3_makesNone 152 = .ok (.iconst 1, 1) := dk_4 (dk_at dksX3_makesNone_6 22 rfl rfl)
theorem dX3_makesNone_153 : decode cX3_makesNone 153 = .ok (.goto 4, 3) := dk_167 0 4 (dk_at dksX3_makesNone_7 0 rfl rfl)
theorem dX3_makesNone_156 : decode cX3_makesNone 156 = .ok (.iconst 0, 1) := dk_3 (dk_at dksX3_makesNone_7 3 rfl rfl)
theorem dX3_makesNone_157 : decode cX3_makesNone 157 = .ok (.ireturn, 1) := dk_172 (dk_at dksX3_makesNone_7 4 rfl rfl)
theorem dX3_makesNone_158 : decode cX3_makesNone 158 = .ok (.iconst 0, 1) := dk_3 (dk_at dksX3_makesNone_7 5 rfl rfl)
theorem dX3_makesNone_159 : decode cX3_makesNone 159 = .ok (.ireturn, 1) := dk_172 (dk_at dksX3_makesNone_7 6 rfl rfl)
abbrev cX3_isEndless : ByteArray := prog_11_method_59_code
def yX3_isEndless : MethodName := ⟨RX3, "isEndless", "(D)Z"⟩
def dkwX3_isEndless_0 : List UInt8 := [38, 20, 0, 97, 151, 153, 0, 11, 38, 20, 0, 95, 151, 154, 0, 7, 4, 167, 0, 4, 3, 172]
abbrev dktX3_isEndless_0 : List UInt8 := dkwX3_isEndless_0 ++ []
theorem dksX3_isEndless_0 : cX3_isEndless.data.toList.drop 0 = dktX3_isEndless_0 := by decide +kernel
theorem dX3_isEndless_0 : decode cX3_isEndless 0 = .ok (.dload_n 0, 1) := dk_38 (dk_at dksX3_isEndless_0 0 rfl rfl)
theorem dX3_isEndless_1 : decode cX3_isEndless 1 = .ok (.ldc2_w 97, 3) := dk_20 0 97 (dk_at dksX3_isEndless_0 1 rfl rfl)
theorem dX3_isEndless_4 : decode cX3_isEndless 4 = .ok (.dcmp .l, 1) := dk_151 (dk_at dksX3_isEndless_0 4 rfl rfl)
theorem dX3_isEndless_5 : decode cX3_isEndless 5 = .ok (.ifCond .eq 11, 3) := dk_153 0 11 (dk_at dksX3_isEndless_0 5 rfl rfl)
theorem dX3_isEndless_8 : decode cX3_isEndless 8 = .ok (.dload_n 0, 1) := dk_38 (dk_at dksX3_isEndless_0 8 rfl rfl)
theorem dX3_isEndless_9 : decode cX3_isEndless 9 = .ok (.ldc2_w 95, 3) := dk_20 0 95 (dk_at dksX3_isEndless_0 9 rfl rfl)
theorem dX3_isEndless_12 : decode cX3_isEndless 12 = .ok (.dcmp .l, 1) := dk_151 (dk_at dksX3_isEndless_0 12 rfl rfl)
theorem dX3_isEndless_13 : decode cX3_isEndless 13 = .ok (.ifCond .ne 7, 3) := dk_154 0 7 (dk_at dksX3_isEndless_0 13 rfl rfl)
theorem dX3_isEndless_16 : decode cX3_isEndless 16 = .ok (.iconst 1, 1) := dk_4 (dk_at dksX3_isEndless_0 16 rfl rfl)
theorem dX3_isEndless_17 : decode cX3_isEndless 17 = .ok (.goto 4, 3) := dk_167 0 4 (dk_at dksX3_isEndless_0 17 rfl rfl)
theorem dX3_isEndless_20 : decode cX3_isEndless 20 = .ok (.iconst 0, 1) := dk_3 (dk_at dksX3_isEndless_0 20 rfl rfl)
theorem dX3_isEndless_21 : decode cX3_isEndless 21 = .ok (.ireturn, 1) := dk_172 (dk_at dksX3_isEndless_0 21 rfl rfl)
abbrev cX3_whole : ByteArray := prog_11_method_58_code
def yX3_whole : MethodName := ⟨RX3, "whole", "(DI)D"⟩
def dkwX3_whole_6 : List UInt8 := [24, 9, 14, 151, 154, 0, 15, 38, 14, 152, 156, 0, 9, 20, 0, 228, 167, 0, 5, 24, 9, 175]
abbrev dktX3_whole_6 : List UInt8 := dkwX3_whole_6 ++ []
def dkwX3_whole_5 : List UInt8 := [167, 0, 22, 24, 5, 143, 20, 0, 226, 113, 9, 148, 154, 0, 8, 24, 5, 167, 0, 5, 24, 7, 57, 9]
abbrev dktX3_whole_5 : List UInt8 := dkwX3_whole_5 ++ dktX3_whole_6
def dkwX3_whole_4 : List UInt8 := [152, 156, 0, 8, 24, 5, 167, 0, 39, 38, 24, 5, 103, 24, 7, 38, 103, 151, 158, 0, 8, 24, 7]
abbrev dktX3_whole_4 : List UInt8 := dkwX3_whole_4 ++ dktX3_whole_5
def dkwX3_whole_3 : List UInt8 := [24, 5, 167, 0, 67, 28, 16, 10, 160, 0, 8, 24, 7, 167, 0, 56, 38, 24, 5, 103, 24, 7, 38, 103]
abbrev dktX3_whole_3 : List UInt8 := dkwX3_whole_3 ++ dktX3_whole_4
def dkwX3_whole_2 : List UInt8 := [57, 5, 41, 38, 152, 156, 0, 9, 41, 15, 99, 167, 0, 4, 41, 57, 7, 28, 16, 9, 160, 0, 8]
abbrev dktX3_whole_2 : List UInt8 := dkwX3_whole_2 ++ dktX3_whole_3
def dkwX3_whole_1 : List UInt8 := [151, 154, 0, 5, 38, 175, 38, 143, 138, 74, 41, 38, 151, 158, 0, 9, 41, 15, 103, 167, 0, 4, 41]
abbrev dktX3_whole_1 : List UInt8 := dkwX3_whole_1 ++ dktX3_whole_2
def dkwX3_whole_0 : List UInt8 := [38, 38, 151, 154, 0, 25, 38, 20, 0, 124, 151, 156, 0, 17, 38, 20, 0, 224, 152, 158, 0, 9, 38, 14]
abbrev dktX3_whole_0 : List UInt8 := dkwX3_whole_0 ++ dktX3_whole_1
theorem dksX3_whole_0 : cX3_whole.data.toList.drop 0 = dktX3_whole_0 := by decide +kernel
theorem dksX3_whole_1 : cX3_whole.data.toList.drop 24 = dktX3_whole_1 := dk_seg dksX3_whole_0 24 rfl rfl
theorem dksX3_whole_2 : cX3_whole.data.toList.drop 47 = dktX3_whole_2 := dk_seg dksX3_whole_1 23 rfl rfl
theorem dksX3_whole_3 : cX3_whole.data.toList.drop 70 = dktX3_whole_3 := dk_seg dksX3_whole_2 23 rfl rfl
theorem dksX3_whole_4 : cX3_whole.data.toList.drop 94 = dktX3_whole_4 := dk_seg dksX3_whole_3 24 rfl rfl
theorem dksX3_whole_5 : cX3_whole.data.toList.drop 117 = dktX3_whole_5 := dk_seg dksX3_whole_4 23 rfl rfl
theorem dksX3_whole_6 : cX3_whole.data.toList.drop 141 = dktX3_whole_6 := dk_seg dksX3_whole_5 24 rfl rfl
theorem dX3_whole_0 : decode cX3_whole 0 = .ok (.dload_n 0, 1) := dk_38 (dk_at dksX3_whole_0 0 rfl rfl)
theorem dX3_whole_1 : decode cX3_whole 1 = .ok (.dload_n 0, 1) := dk_38 (dk_at dksX3_whole_0 1 rfl rfl)
theorem dX3_whole_2 : decode cX3_whole 2 = .ok (.dcmp .l, 1) := dk_151 (dk_at dksX3_whole_0 2 rfl rfl)
theorem dX3_whole_3 : decode cX3_whole 3 = .ok (.ifCond .ne 25, 3) := dk_154 0 25 (dk_at dksX3_whole_0 3 rfl rfl)
theorem dX3_whole_6 : decode cX3_whole 6 = .ok (.dload_n 0, 1) := dk_38 (dk_at dksX3_whole_0 6 rfl rfl)
theorem dX3_whole_7 : decode cX3_whole 7 = .ok (.ldc2_w 124, 3) := dk_20 0 124 (dk_at dksX3_whole_0 7 rfl rfl)
theorem dX3_whole_10 : decode cX3_whole 10 = .ok (.dcmp .l, 1) := dk_151 (dk_at dksX3_whole_0 10 rfl rfl)
theorem dX3_whole_11 : decode cX3_whole 11 = .ok (.ifCond .ge 17, 3) := dk_156 0 17 (dk_at dksX3_whole_0 11 rfl rfl)
theorem dX3_whole_14 : decode cX3_whole 14 = .ok (.dload_n 0, 1) := dk_38 (dk_at dksX3_whole_0 14 rfl rfl)
theorem dX3_whole_15 : decode cX3_whole 15 = .ok (.ldc2_w 224, 3) := dk_20 0 224 (dk_at dksX3_whole_0 15 rfl rfl)
theorem dX3_whole_18 : decode cX3_whole 18 = .ok (.dcmp .g, 1) := dk_152 (dk_at dksX3_whole_0 18 rfl rfl)
theorem dX3_whole_19 : decode cX3_whole 19 = .ok (.ifCond .le 9, 3) := dk_158 0 9 (dk_at dksX3_whole_0 19 rfl rfl)
theorem dX3_whole_22 : decode cX3_whole 22 = .ok (.dload_n 0, 1) := dk_38 (dk_at dksX3_whole_0 22 rfl rfl)
theorem dX3_whole_23 : decode cX3_whole 23 = .ok (.dconst 0, 1) := dk_14 (dk_at dksX3_whole_0 23 rfl rfl)
theorem dX3_whole_24 : decode cX3_whole 24 = .ok (.dcmp .l, 1) := dk_151 (dk_at dksX3_whole_1 0 rfl rfl)
theorem dX3_whole_25 : decode cX3_whole 25 = .ok (.ifCond .ne 5, 3) := dk_154 0 5 (dk_at dksX3_whole_1 1 rfl rfl)
theorem dX3_whole_28 : decode cX3_whole 28 = .ok (.dload_n 0, 1) := dk_38 (dk_at dksX3_whole_1 4 rfl rfl)
theorem dX3_whole_29 : decode cX3_whole 29 = .ok (.dreturn, 1) := dk_175 (dk_at dksX3_whole_1 5 rfl rfl)
theorem dX3_whole_30 : decode cX3_whole 30 = .ok (.dload_n 0, 1) := dk_38 (dk_at dksX3_whole_1 6 rfl rfl)
theorem dX3_whole_31 : decode cX3_whole 31 = .ok (.d2l, 1) := dk_143 (dk_at dksX3_whole_1 7 rfl rfl)
theorem dX3_whole_32 : decode cX3_whole 32 = .ok (.l2d, 1) := dk_138 (dk_at dksX3_whole_1 8 rfl rfl)
theorem dX3_whole_33 : decode cX3_whole 33 = .ok (.dstore_n 3, 1) := dk_74 (dk_at dksX3_whole_1 9 rfl rfl)
theorem dX3_whole_34 : decode cX3_whole 34 = .ok (.dload_n 3, 1) := dk_41 (dk_at dksX3_whole_1 10 rfl rfl)
theorem dX3_whole_35 : decode cX3_whole 35 = .ok (.dload_n 0, 1) := dk_38 (dk_at dksX3_whole_1 11 rfl rfl)
theorem dX3_whole_36 : decode cX3_whole 36 = .ok (.dcmp .l, 1) := dk_151 (dk_at dksX3_whole_1 12 rfl rfl)
theorem dX3_whole_37 : decode cX3_whole 37 = .ok (.ifCond .le 9, 3) := dk_158 0 9 (dk_at dksX3_whole_1 13 rfl rfl)
theorem dX3_whole_40 : decode cX3_whole 40 = .ok (.dload_n 3, 1) := dk_41 (dk_at dksX3_whole_1 16 rfl rfl)
theorem dX3_whole_41 : decode cX3_whole 41 = .ok (.dconst 1, 1) := dk_15 (dk_at dksX3_whole_1 17 rfl rfl)
theorem dX3_whole_42 : decode cX3_whole 42 = .ok (.dsub, 1) := dk_103 (dk_at dksX3_whole_1 18 rfl rfl)
theorem dX3_whole_43 : decode cX3_whole 43 = .ok (.goto 4, 3) := dk_167 0 4 (dk_at dksX3_whole_1 19 rfl rfl)
theorem dX3_whole_46 : decode cX3_whole 46 = .ok (.dload_n 3, 1) := dk_41 (dk_at dksX3_whole_1 22 rfl rfl)
theorem dX3_whole_47 : decode cX3_whole 47 = .ok (.dstore 5, 2) := dk_57 5 (dk_at dksX3_whole_2 0 rfl rfl)
theorem dX3_whole_49 : decode cX3_whole 49 = .ok (.dload_n 3, 1) := dk_41 (dk_at dksX3_whole_2 2 rfl rfl)
theorem dX3_whole_50 : decode cX3_whole 50 = .ok (.dload_n 0, 1) := dk_38 (dk_at dksX3_whole_2 3 rfl rfl)
theorem dX3_whole_51 : decode cX3_whole 51 = .ok (.dcmp .g, 1) := dk_152 (dk_at dksX3_whole_2 4 rfl rfl)
theorem dX3_whole_52 : decode cX3_whole 52 = .ok (.ifCond .ge 9, 3) := dk_156 0 9 (dk_at dksX3_whole_2 5 rfl rfl)
theorem dX3_whole_55 : decode cX3_whole 55 = .ok (.dload_n 3, 1) := dk_41 (dk_at dksX3_whole_2 8 rfl rfl)
theorem dX3_whole_56 : decode cX3_whole 56 = .ok (.dconst 1, 1) := dk_15 (dk_at dksX3_whole_2 9 rfl rfl)
theorem dX3_whole_57 : decode cX3_whole 57 = .ok (.dadd, 1) := dk_99 (dk_at dksX3_whole_2 10 rfl rfl)
theorem dX3_whole_58 : decode cX3_whole 58 = .ok (.goto 4, 3) := dk_167 0 4 (dk_at dksX3_whole_2 11 rfl rfl)
theorem dX3_whole_61 : decode cX3_whole 61 = .ok (.dload_n 3, 1) := dk_41 (dk_at dksX3_whole_2 14 rfl rfl)
theorem dX3_whole_62 : decode cX3_whole 62 = .ok (.dstore 7, 2) := dk_57 7 (dk_at dksX3_whole_2 15 rfl rfl)
theorem dX3_whole_64 : decode cX3_whole 64 = .ok (.iload_n 2, 1) := dk_28 (dk_at dksX3_whole_2 17 rfl rfl)
theorem dX3_whole_65 : decode cX3_whole 65 = .ok (.bipush 9, 2) := dk_16 9 (dk_at dksX3_whole_2 18 rfl rfl)
theorem dX3_whole_67 : decode cX3_whole 67 = .ok (.if_icmp .ne 8, 3) := dk_160 0 8 (dk_at dksX3_whole_2 20 rfl rfl)
theorem dX3_whole_70 : decode cX3_whole 70 = .ok (.dload 5, 2) := dk_24 5 (dk_at dksX3_whole_3 0 rfl rfl)
theorem dX3_whole_72 : decode cX3_whole 72 = .ok (.goto 67, 3) := dk_167 0 67 (dk_at dksX3_whole_3 2 rfl rfl)
theorem dX3_whole_75 : decode cX3_whole 75 = .ok (.iload_n 2, 1) := dk_28 (dk_at dksX3_whole_3 5 rfl rfl)
theorem dX3_whole_76 : decode cX3_whole 76 = .ok (.bipush 10, 2) := dk_16 10 (dk_at dksX3_whole_3 6 rfl rfl)
theorem dX3_whole_78 : decode cX3_whole 78 = .ok (.if_icmp .ne 8, 3) := dk_160 0 8 (dk_at dksX3_whole_3 8 rfl rfl)
theorem dX3_whole_81 : decode cX3_whole 81 = .ok (.dload 7, 2) := dk_24 7 (dk_at dksX3_whole_3 11 rfl rfl)
theorem dX3_whole_83 : decode cX3_whole 83 = .ok (.goto 56, 3) := dk_167 0 56 (dk_at dksX3_whole_3 13 rfl rfl)
theorem dX3_whole_86 : decode cX3_whole 86 = .ok (.dload_n 0, 1) := dk_38 (dk_at dksX3_whole_3 16 rfl rfl)
theorem dX3_whole_87 : decode cX3_whole 87 = .ok (.dload 5, 2) := dk_24 5 (dk_at dksX3_whole_3 17 rfl rfl)
theorem dX3_whole_89 : decode cX3_whole 89 = .ok (.dsub, 1) := dk_103 (dk_at dksX3_whole_3 19 rfl rfl)
theorem dX3_whole_90 : decode cX3_whole 90 = .ok (.dload 7, 2) := dk_24 7 (dk_at dksX3_whole_3 20 rfl rfl)
theorem dX3_whole_92 : decode cX3_whole 92 = .ok (.dload_n 0, 1) := dk_38 (dk_at dksX3_whole_3 22 rfl rfl)
theorem dX3_whole_93 : decode cX3_whole 93 = .ok (.dsub, 1) := dk_103 (dk_at dksX3_whole_3 23 rfl rfl)
theorem dX3_whole_94 : decode cX3_whole 94 = .ok (.dcmp .g, 1) := dk_152 (dk_at dksX3_whole_4 0 rfl rfl)
theorem dX3_whole_95 : decode cX3_whole 95 = .ok (.ifCond .ge 8, 3) := dk_156 0 8 (dk_at dksX3_whole_4 1 rfl rfl)
theorem dX3_whole_98 : decode cX3_whole 98 = .ok (.dload 5, 2) := dk_24 5 (dk_at dksX3_whole_4 4 rfl rfl)
theorem dX3_whole_100 : decode cX3_whole 100 = .ok (.goto 39, 3) := dk_167 0 39 (dk_at dksX3_whole_4 6 rfl rfl)
theorem dX3_whole_103 : decode cX3_whole 103 = .ok (.dload_n 0, 1) := dk_38 (dk_at dksX3_whole_4 9 rfl rfl)
theorem dX3_whole_104 : decode cX3_whole 104 = .ok (.dload 5, 2) := dk_24 5 (dk_at dksX3_whole_4 10 rfl rfl)
theorem dX3_whole_106 : decode cX3_whole 106 = .ok (.dsub, 1) := dk_103 (dk_at dksX3_whole_4 12 rfl rfl)
theorem dX3_whole_107 : decode cX3_whole 107 = .ok (.dload 7, 2) := dk_24 7 (dk_at dksX3_whole_4 13 rfl rfl)
theorem dX3_whole_109 : decode cX3_whole 109 = .ok (.dload_n 0, 1) := dk_38 (dk_at dksX3_whole_4 15 rfl rfl)
theorem dX3_whole_110 : decode cX3_whole 110 = .ok (.dsub, 1) := dk_103 (dk_at dksX3_whole_4 16 rfl rfl)
theorem dX3_whole_111 : decode cX3_whole 111 = .ok (.dcmp .l, 1) := dk_151 (dk_at dksX3_whole_4 17 rfl rfl)
theorem dX3_whole_112 : decode cX3_whole 112 = .ok (.ifCond .le 8, 3) := dk_158 0 8 (dk_at dksX3_whole_4 18 rfl rfl)
theorem dX3_whole_115 : decode cX3_whole 115 = .ok (.dload 7, 2) := dk_24 7 (dk_at dksX3_whole_4 21 rfl rfl)
theorem dX3_whole_117 : decode cX3_whole 117 = .ok (.goto 22, 3) := dk_167 0 22 (dk_at dksX3_whole_5 0 rfl rfl)
theorem dX3_whole_120 : decode cX3_whole 120 = .ok (.dload 5, 2) := dk_24 5 (dk_at dksX3_whole_5 3 rfl rfl)
theorem dX3_whole_122 : decode cX3_whole 122 = .ok (.d2l, 1) := dk_143 (dk_at dksX3_whole_5 5 rfl rfl)
theorem dX3_whole_123 : decode cX3_whole 123 = .ok (.ldc2_w 226, 3) := dk_20 0 226 (dk_at dksX3_whole_5 6 rfl rfl)
theorem dX3_whole_126 : decode cX3_whole 126 = .ok (.lrem, 1) := dk_113 (dk_at dksX3_whole_5 9 rfl rfl)
theorem dX3_whole_127 : decode cX3_whole 127 = .ok (.lconst 0, 1) := dk_9 (dk_at dksX3_whole_5 10 rfl rfl)
theorem dX3_whole_128 : decode cX3_whole 128 = .ok (.lcmp, 1) := dk_148 (dk_at dksX3_whole_5 11 rfl rfl)
theorem dX3_whole_129 : decode cX3_whole 129 = .ok (.ifCond .ne 8, 3) := dk_154 0 8 (dk_at dksX3_whole_5 12 rfl rfl)
theorem dX3_whole_132 : decode cX3_whole 132 = .ok (.dload 5, 2) := dk_24 5 (dk_at dksX3_whole_5 15 rfl rfl)
theorem dX3_whole_134 : decode cX3_whole 134 = .ok (.goto 5, 3) := dk_167 0 5 (dk_at dksX3_whole_5 17 rfl rfl)
theorem dX3_whole_137 : decode cX3_whole 137 = .ok (.dload 7, 2) := dk_24 7 (dk_at dksX3_whole_5 20 rfl rfl)
theorem dX3_whole_139 : decode cX3_whole 139 = .ok (.dstore 9, 2) := dk_57 9 (dk_at dksX3_whole_5 22 rfl rfl)
theorem dX3_whole_141 : decode cX3_whole 141 = .ok (.dload 9, 2) := dk_24 9 (dk_at dksX3_whole_6 0 rfl rfl)
theorem dX3_whole_143 : decode cX3_whole 143 = .ok (.dconst 0, 1) := dk_14 (dk_at dksX3_whole_6 2 rfl rfl)
theorem dX3_whole_144 : decode cX3_whole 144 = .ok (.dcmp .l, 1) := dk_151 (dk_at dksX3_whole_6 3 rfl rfl)
theorem dX3_whole_145 : decode cX3_whole 145 = .ok (.ifCond .ne 15, 3) := dk_154 0 15 (dk_at dksX3_whole_6 4 rfl rfl)
theorem dX3_whole_148 : decode cX3_whole 148 = .ok (.dload_n 0, 1) := dk_38 (dk_at dksX3_whole_6 7 rfl rfl)
theorem dX3_whole_149 : decode cX3_whole 149 = .ok (.dconst 0, 1) := dk_14 (dk_at dksX3_whole_6 8 rfl rfl)
theorem dX3_whole_150 : decode cX3_whole 150 = .ok (.dcmp .g, 1) := dk_152 (dk_at dksX3_whole_6 9 rfl rfl)
theorem dX3_whole_151 : decode cX3_whole 151 = .ok (.ifCond .ge 9, 3) := dk_156 0 9 (dk_at dksX3_whole_6 10 rfl rfl)
theorem dX3_whole_154 : decode cX3_whole 154 = .ok (.ldc2_w 228, 3) := dk_20 0 228 (dk_at dksX3_whole_6 13 rfl rfl)
theorem dX3_whole_157 : decode cX3_whole 157 = .ok (.goto 5, 3) := dk_167 0 5 (dk_at dksX3_whole_6 16 rfl rfl)
theorem dX3_whole_160 : decode cX3_whole 160 = .ok (.dload 9, 2) := dk_24 9 (dk_at dksX3_whole_6 19 rfl rfl)
theorem dX3_whole_162 : decode cX3_whole 162 = .ok (.dreturn, 1) := dk_175 (dk_at dksX3_whole_6 21 rfl rfl)
abbrev cX3_reckonFloat : ByteArray := prog_11_method_62_code
def yX3_reckonFloat : MethodName := ⟨RX3, "reckonFloat", "(III)I"⟩
def dkwX3_reckonFloat_16 : List UInt8 := [184, 0, 163, 4, 100, 172, 23, 4, 118, 184, 0, 163, 172]
abbrev dktX3_reckonFloat_16 : List UInt8 := dkwX3_reckonFloat_16 ++ []
def dkwX3_reckonFloat_15 : List UInt8 := [4, 167, 0, 27, 23, 4, 11, 149, 158, 0, 13, 23, 4, 184, 0, 163, 4, 96, 167, 0, 10, 23, 4]
abbrev dktX3_reckonFloat_15 : List UInt8 := dkwX3_reckonFloat_15 ++ dktX3_reckonFloat_16
def dkwX3_reckonFloat_14 : List UInt8 := [172, 23, 4, 18, 110, 149, 154, 0, 11, 23, 4, 184, 0, 163, 167, 0, 38, 23, 4, 11, 149, 154, 0, 7]
abbrev dktX3_reckonFloat_14 : List UInt8 := dkwX3_reckonFloat_14 ++ dktX3_reckonFloat_15
def dkwX3_reckonFloat_13 : List UInt8 := [154, 0, 8, 23, 4, 167, 0, 16, 23, 4, 11, 150, 156, 0, 8, 18, 243, 167, 0, 4, 12, 184, 0, 163]
abbrev dktX3_reckonFloat_13 : List UInt8 := dkwX3_reckonFloat_13 ++ dktX3_reckonFloat_14
def dkwX3_reckonFloat_12 : List UInt8 := [184, 0, 114, 153, 0, 9, 23, 4, 118, 167, 0, 5, 23, 4, 184, 0, 163, 172, 23, 4, 11, 149]
abbrev dktX3_reckonFloat_12 : List UInt8 := dkwX3_reckonFloat_12 ++ dktX3_reckonFloat_13
def dkwX3_reckonFloat_11 : List UInt8 := [167, 0, 4, 3, 160, 0, 8, 23, 4, 167, 0, 6, 23, 4, 118, 184, 0, 163, 172, 23, 4, 141]
abbrev dktX3_reckonFloat_11 : List UInt8 := dkwX3_reckonFloat_11 ++ dktX3_reckonFloat_12
def dkwX3_reckonFloat_10 : List UInt8 := [23, 4, 141, 184, 0, 114, 23, 5, 23, 5, 149, 154, 0, 16, 23, 5, 141, 184, 0, 114, 153, 0, 7, 4]
abbrev dktX3_reckonFloat_10 : List UInt8 := dkwX3_reckonFloat_10 ++ dktX3_reckonFloat_11
def dkwX3_reckonFloat_9 : List UInt8 := [154, 0, 17, 23, 4, 141, 184, 0, 114, 153, 0, 8, 23, 4, 167, 0, 5, 23, 5, 184, 0, 163, 172]
abbrev dktX3_reckonFloat_9 : List UInt8 := dkwX3_reckonFloat_9 ++ dktX3_reckonFloat_10
def dkwX3_reckonFloat_8 : List UInt8 := [23, 4, 167, 0, 5, 23, 5, 184, 0, 163, 172, 23, 4, 23, 5, 150, 155, 0, 20, 23, 4, 23, 5, 149]
abbrev dktX3_reckonFloat_8 : List UInt8 := dkwX3_reckonFloat_8 ++ dktX3_reckonFloat_9
def dkwX3_reckonFloat_7 : List UInt8 := [23, 5, 149, 157, 0, 20, 23, 4, 23, 5, 149, 154, 0, 17, 23, 4, 141, 184, 0, 114, 154, 0, 8]
abbrev dktX3_reckonFloat_7 : List UInt8 := dkwX3_reckonFloat_7 ++ dktX3_reckonFloat_8
def dkwX3_reckonFloat_6 : List UInt8 := [184, 0, 163, 172, 23, 4, 23, 5, 110, 184, 0, 163, 172, 23, 4, 23, 5, 114, 184, 0, 163, 172, 23, 4]
abbrev dktX3_reckonFloat_6 : List UInt8 := dkwX3_reckonFloat_6 ++ dktX3_reckonFloat_7
def dkwX3_reckonFloat_5 : List UInt8 := [23, 4, 23, 5, 98, 184, 0, 163, 172, 23, 4, 23, 5, 102, 184, 0, 163, 172, 23, 4, 23, 5, 106]
abbrev dktX3_reckonFloat_5 : List UInt8 := dkwX3_reckonFloat_5 ++ dktX3_reckonFloat_6
def dkwX3_reckonFloat_4 : List UInt8 := [170, 0, 0, 0, 1, 76, 0, 0, 0, 0, 0, 0, 0, 13, 0, 0, 0, 70, 0, 0, 0, 79, 0, 0, 0, 88, 0, 0, 0, 97, 0, 0, 0, 106, 0, 0, 0, 115, 0, 0, 0, 151, 0, 0, 0, 187, 0, 0, 0, 230, 0, 0, 1, 76, 0, 0, 1, 76, 0, 0, 1, 76, 0, 0, 0, 251, 0, 0, 1, 24]
abbrev dktX3_reckonFloat_4 : List UInt8 := dkwX3_reckonFloat_4 ++ dktX3_reckonFloat_5
def dkwX3_reckonFloat_3 : List UInt8 := [23, 5, 141, 184, 0, 233, 153, 0, 6, 18, 126, 172, 27]
abbrev dktX3_reckonFloat_3 : List UInt8 := dkwX3_reckonFloat_3 ++ dktX3_reckonFloat_4
def dkwX3_reckonFloat_2 : List UInt8 := [23, 4, 149, 154, 0, 30, 27, 16, 7, 162, 0, 27, 23, 5, 23, 5, 149, 154, 0, 16, 27, 23, 4, 141]
abbrev dktX3_reckonFloat_2 : List UInt8 := dkwX3_reckonFloat_2 ++ dktX3_reckonFloat_3
def dkwX3_reckonFloat_1 : List UInt8 := [153, 0, 9, 42, 4, 182, 0, 177, 172, 28, 184, 0, 147, 56, 4, 29, 184, 0, 147, 56, 5, 23, 4]
abbrev dktX3_reckonFloat_1 : List UInt8 := dkwX3_reckonFloat_1 ++ dktX3_reckonFloat_2
def dkwX3_reckonFloat_0 : List UInt8 := [42, 182, 0, 174, 27, 3, 16, 14, 184, 0, 67, 153, 0, 14, 27, 16, 9, 16, 11, 184, 0, 67]
abbrev dktX3_reckonFloat_0 : List UInt8 := dkwX3_reckonFloat_0 ++ dktX3_reckonFloat_1
theorem dksX3_reckonFloat_0 : cX3_reckonFloat.data.toList.drop 0 = dktX3_reckonFloat_0 := by decide +kernel
theorem dksX3_reckonFloat_1 : cX3_reckonFloat.data.toList.drop 22 = dktX3_reckonFloat_1 := dk_seg dksX3_reckonFloat_0 22 rfl rfl
theorem dksX3_reckonFloat_2 : cX3_reckonFloat.data.toList.drop 45 = dktX3_reckonFloat_2 := dk_seg dksX3_reckonFloat_1 23 rfl rfl
theorem dksX3_reckonFloat_3 : cX3_reckonFloat.data.toList.drop 69 = dktX3_reckonFloat_3 := dk_seg dksX3_reckonFloat_2 24 rfl rfl
theorem dksX3_reckonFloat_4 : cX3_reckonFloat.data.toList.drop 82 = dktX3_reckonFloat_4 := dk_seg dksX3_reckonFloat_3 13 rfl rfl
theorem dksX3_reckonFloat_5 : cX3_reckonFloat.data.toList.drop 152 = dktX3_reckonFloat_5 := dk_seg dksX3_reckonFloat_4 70 rfl rfl
theorem dksX3_reckonFloat_6 : cX3_reckonFloat.data.toList.drop 175 = dktX3_reckonFloat_6 := dk_seg dksX3_reckonFloat_5 23 rfl rfl
theorem dksX3_reckonFloat_7 : cX3_reckonFloat.data.toList.drop 199 = dktX3_reckonFloat_7 := dk_seg dksX3_reckonFloat_6 24 rfl rfl
theorem dksX3_reckonFloat_8 : cX3_reckonFloat.data.toList.drop 222 = dktX3_reckonFloat_8 := dk_seg dksX3_reckonFloat_7 23 rfl rfl
theorem dksX3_reckonFloat_9 : cX3_reckonFloat.data.toList.drop 246 = dktX3_reckonFloat_9 := dk_seg dksX3_reckonFloat_8 24 rfl rfl
theorem dksX3_reckonFloat_10 : cX3_reckonFloat.data.toList.drop 269 = dktX3_reckonFloat_10 := dk_seg dksX3_reckonFloat_9 23 rfl rfl
theorem dksX3_reckonFloat_11 : cX3_reckonFloat.data.toList.drop 293 = dktX3_reckonFloat_11 := dk_seg dksX3_reckonFloat_10 24 rfl rfl
theorem dksX3_reckonFloat_12 : cX3_reckonFloat.data.toList.drop 315 = dktX3_reckonFloat_12 := dk_seg dksX3_reckonFloat_11 22 rfl rfl
theorem dksX3_reckonFloat_13 : cX3_reckonFloat.data.toList.drop 337 = dktX3_reckonFloat_13 := dk_seg dksX3_reckonFloat_12 22 rfl rfl
theorem dksX3_reckonFloat_14 : cX3_reckonFloat.data.toList.drop 361 = dktX3_reckonFloat_14 := dk_seg dksX3_reckonFloat_13 24 rfl rfl
theorem dksX3_reckonFloat_15 : cX3_reckonFloat.data.toList.drop 385 = dktX3_reckonFloat_15 := dk_seg dksX3_reckonFloat_14 24 rfl rfl
theorem dksX3_reckonFloat_16 : cX3_reckonFloat.data.toList.drop 408 = dktX3_reckonFloat_16 := dk_seg dksX3_reckonFloat_15 23 rfl rfl
theorem dX3_reckonFloat_0 : decode cX3_reckonFloat 0 = .ok (.aload_n 0, 1) := dk_42 (dk_at dksX3_reckonFloat_0 0 rfl rfl)
theorem dX3_reckonFloat_1 : decode cX3_reckonFloat 1 = .ok (.invokevirtual 174, 3) := dk_182 0 174 (dk_at dksX3_reckonFloat_0 1 rfl rfl)
theorem dX3_reckonFloat_4 : decode cX3_reckonFloat 4 = .ok (.iload_n 1, 1) := dk_27 (dk_at dksX3_reckonFloat_0 4 rfl rfl)
theorem dX3_reckonFloat_5 : decode cX3_reckonFloat 5 = .ok (.iconst 0, 1) := dk_3 (dk_at dksX3_reckonFloat_0 5 rfl rfl)
theorem dX3_reckonFloat_6 : decode cX3_reckonFloat 6 = .ok (.bipush 14, 2) := dk_16 14 (dk_at dksX3_reckonFloat_0 6 rfl rfl)
theorem dX3_reckonFloat_8 : decode cX3_reckonFloat 8 = .ok (.invokestatic 67, 3) := dk_184 0 67 (dk_at dksX3_reckonFloat_0 8 rfl rfl)
theorem dX3_reckonFloat_11 : decode cX3_reckonFloat 11 = .ok (.ifCond .eq 14, 3) := dk_153 0 14 (dk_at dksX3_reckonFloat_0 11 rfl rfl)
theorem dX3_reckonFloat_14 : decode cX3_reckonFloat 14 = .ok (.iload_n 1, 1) := dk_27 (dk_at dksX3_reckonFloat_0 14 rfl rfl)
theorem dX3_reckonFloat_15 : decode cX3_reckonFloat 15 = .ok (.bipush 9, 2) := dk_16 9 (dk_at dksX3_reckonFloat_0 15 rfl rfl)
theorem dX3_reckonFloat_17 : decode cX3_reckonFloat 17 = .ok (.bipush 11, 2) := dk_16 11 (dk_at dksX3_reckonFloat_0 17 rfl rfl)
theorem dX3_reckonFloat_19 : decode cX3_reckonFloat 19 = .ok (.invokestatic 67, 3) := dk_184 0 67 (dk_at dksX3_reckonFloat_0 19 rfl rfl)
theorem dX3_reckonFloat_22 : decode cX3_reckonFloat 22 = .ok (.ifCond .eq 9, 3) := dk_153 0 9 (dk_at dksX3_reckonFloat_1 0 rfl rfl)
theorem dX3_reckonFloat_25 : decode cX3_reckonFloat 25 = .ok (.aload_n 0, 1) := dk_42 (dk_at dksX3_reckonFloat_1 3 rfl rfl)
theorem dX3_reckonFloat_26 : decode cX3_reckonFloat 26 = .ok (.iconst 1, 1) := dk_4 (dk_at dksX3_reckonFloat_1 4 rfl rfl)
theorem dX3_reckonFloat_27 : decode cX3_reckonFloat 27 = .ok (.invokevirtual 177, 3) := dk_182 0 177 (dk_at dksX3_reckonFloat_1 5 rfl rfl)
theorem dX3_reckonFloat_30 : decode cX3_reckonFloat 30 = .ok (.ireturn, 1) := dk_172 (dk_at dksX3_reckonFloat_1 8 rfl rfl)
theorem dX3_reckonFloat_31 : decode cX3_reckonFloat 31 = .ok (.iload_n 2, 1) := dk_28 (dk_at dksX3_reckonFloat_1 9 rfl rfl)
theorem dX3_reckonFloat_32 : decode cX3_reckonFloat 32 = .ok (.invokestatic 147, 3) := dk_184 0 147 (dk_at dksX3_reckonFloat_1 10 rfl rfl)
theorem dX3_reckonFloat_35 : decode cX3_reckonFloat 35 = .ok (.fstore 4, 2) := dk_56 4 (dk_at dksX3_reckonFloat_1 13 rfl rfl)
theorem dX3_reckonFloat_37 : decode cX3_reckonFloat 37 = .ok (.iload_n 3, 1) := dk_29 (dk_at dksX3_reckonFloat_1 15 rfl rfl)
theorem dX3_reckonFloat_38 : decode cX3_reckonFloat 38 = .ok (.invokestatic 147, 3) := dk_184 0 147 (dk_at dksX3_reckonFloat_1 16 rfl rfl)
theorem dX3_reckonFloat_41 : decode cX3_reckonFloat 41 = .ok (.fstore 5, 2) := dk_56 5 (dk_at dksX3_reckonFloat_1 19 rfl rfl)
theorem dX3_reckonFloat_43 : decode cX3_reckonFloat 43 = .ok (.fload 4, 2) := dk_23 4 (dk_at dksX3_reckonFloat_1 21 rfl rfl)
theorem dX3_reckonFloat_45 : decode cX3_reckonFloat 45 = .ok (.fload 4, 2) := dk_23 4 (dk_at dksX3_reckonFloat_2 0 rfl rfl)
theorem dX3_reckonFloat_47 : decode cX3_reckonFloat 47 = .ok (.fcmp .l, 1) := dk_149 (dk_at dksX3_reckonFloat_2 2 rfl rfl)
theorem dX3_reckonFloat_48 : decode cX3_reckonFloat 48 = .ok (.ifCond .ne 30, 3) := dk_154 0 30 (dk_at dksX3_reckonFloat_2 3 rfl rfl)
theorem dX3_reckonFloat_51 : decode cX3_reckonFloat 51 = .ok (.iload_n 1, 1) := dk_27 (dk_at dksX3_reckonFloat_2 6 rfl rfl)
theorem dX3_reckonFloat_52 : decode cX3_reckonFloat 52 = .ok (.bipush 7, 2) := dk_16 7 (dk_at dksX3_reckonFloat_2 7 rfl rfl)
theorem dX3_reckonFloat_54 : decode cX3_reckonFloat 54 = .ok (.if_icmp .ge 27, 3) := dk_162 0 27 (dk_at dksX3_reckonFloat_2 9 rfl rfl)
theorem dX3_reckonFloat_57 : decode cX3_reckonFloat 57 = .ok (.fload 5, 2) := dk_23 5 (dk_at dksX3_reckonFloat_2 12 rfl rfl)
theorem dX3_reckonFloat_59 : decode cX3_reckonFloat 59 = .ok (.fload 5, 2) := dk_23 5 (dk_at dksX3_reckonFloat_2 14 rfl rfl)
theorem dX3_reckonFloat_61 : decode cX3_reckonFloat 61 = .ok (.fcmp .l, 1) := dk_149 (dk_at dksX3_reckonFloat_2 16 rfl rfl)
theorem dX3_reckonFloat_62 : decode cX3_reckonFloat 62 = .ok (.ifCond .ne 16, 3) := dk_154 0 16 (dk_at dksX3_reckonFloat_2 17 rfl rfl)
theorem dX3_reckonFloat_65 : decode cX3_reckonFloat 65 = .ok (.iload_n 1, 1) := dk_27 (dk_at dksX3_reckonFloat_2 20 rfl rfl)
theorem dX3_reckonFloat_66 : decode cX3_reckonFloat 66 = .ok (.fload 4, 2) := dk_23 4 (dk_at dksX3_reckonFloat_2 21 rfl rfl)
theorem dX3_reckonFloat_68 : decode cX3_reckonFloat 68 = .ok (.f2d, 1) := dk_141 (dk_at dksX3_reckonFloat_2 23 rfl rfl)
theorem dX3_reckonFloat_69 : decode cX3_reckonFloat 69 = .ok (.fload 5, 2) := dk_23 5 (dk_at dksX3_reckonFloat_3 0 rfl rfl)
theorem dX3_reckonFloat_71 : decode cX3_reckonFloat 71 = .ok (.f2d, 1) := dk_141 (dk_at dksX3_reckonFloat_3 2 rfl rfl)
theorem dX3_reckonFloat_72 : decode cX3_reckonFloat 72 = .ok (.invokestatic 233, 3) := dk_184 0 233 (dk_at dksX3_reckonFloat_3 3 rfl rfl)
theorem dX3_reckonFloat_75 : decode cX3_reckonFloat 75 = .ok (.ifCond .eq 6, 3) := dk_153 0 6 (dk_at dksX3_reckonFloat_3 6 rfl rfl)
theorem dX3_reckonFloat_78 : decode cX3_reckonFloat 78 = .ok (.ldc 126, 2) := dk_18 126 (dk_at dksX3_reckonFloat_3 9 rfl rfl)
theorem dX3_reckonFloat_80 : decode cX3_reckonFloat 80 = .ok (.ireturn, 1) := dk_172 (dk_at dksX3_reckonFloat_3 11 rfl rfl)
theorem dX3_reckonFloat_81 : decode cX3_reckonFloat 81 = .ok (.iload_n 1, 1) := dk_27 (dk_at dksX3_reckonFloat_3 12 rfl rfl)
theorem dX3_reckonFloat_82 : decode cX3_reckonFloat 82 = .ok (.tableswitch 332 0 13 #[70, 79, 88, 97, 106, 115, 151, 187, 230, 332, 332, 332, 251, 280], 70) := by decide +kernel
theorem dX3_reckonFloat_152 : decode cX3_reckonFloat 152 = .ok (.fload 4, 2) := dk_23 4 (dk_at dksX3_reckonFloat_5 0 rfl rfl)
theorem dX3_reckonFloat_154 : decode cX3_reckonFloat 154 = .ok (.fload 5, 2) := dk_23 5 (dk_at dksX3_reckonFloat_5 2 rfl rfl)
theorem dX3_reckonFloat_156 : decode cX3_reckonFloat 156 = .ok (.fadd, 1) := dk_98 (dk_at dksX3_reckonFloat_5 4 rfl rfl)
theorem dX3_reckonFloat_157 : decode cX3_reckonFloat 157 = .ok (.invokestatic 163, 3) := dk_184 0 163 (dk_at dksX3_reckonFloat_5 5 rfl rfl)
theorem dX3_reckonFloat_160 : decode cX3_reckonFloat 160 = .ok (.ireturn, 1) := dk_172 (dk_at dksX3_reckonFloat_5 8 rfl rfl)
theorem dX3_reckonFloat_161 : decode cX3_reckonFloat 161 = .ok (.fload 4, 2) := dk_23 4 (dk_at dksX3_reckonFloat_5 9 rfl rfl)
theorem dX3_reckonFloat_163 : decode cX3_reckonFloat 163 = .ok (.fload 5, 2) := dk_23 5 (dk_at dksX3_reckonFloat_5 11 rfl rfl)
theorem dX3_reckonFloat_165 : decode cX3_reckonFloat 165 = .ok (.fsub, 1) := dk_102 (dk_at dksX3_reckonFloat_5 13 rfl rfl)
theorem dX3_reckonFloat_166 : decode cX3_reckonFloat 166 = .ok (.invokestatic 163, 3) := dk_184 0 163 (dk_at dksX3_reckonFloat_5 14 rfl rfl)
theorem dX3_reckonFloat_169 : decode cX3_reckonFloat 169 = .ok (.ireturn, 1) := dk_172 (dk_at dksX3_reckonFloat_5 17 rfl rfl)
theorem dX3_reckonFloat_170 : decode cX3_reckonFloat 170 = .ok (.fload 4, 2) := dk_23 4 (dk_at dksX3_reckonFloat_5 18 rfl rfl)
theorem dX3_reckonFloat_172 : decode cX3_reckonFloat 172 = .ok (.fload 5, 2) := dk_23 5 (dk_at dksX3_reckonFloat_5 20 rfl rfl)
theorem dX3_reckonFloat_174 : decode cX3_reckonFloat 174 = .ok (.fmul, 1) := dk_106 (dk_at dksX3_reckonFloat_5 22 rfl rfl)
theorem dX3_reckonFloat_175 : decode cX3_reckonFloat 175 = .ok (.invokestatic 163, 3) := dk_184 0 163 (dk_at dksX3_reckonFloat_6 0 rfl rfl)
theorem dX3_reckonFloat_178 : decode cX3_reckonFloat 178 = .ok (.ireturn, 1) := dk_172 (dk_at dksX3_reckonFloat_6 3 rfl rfl)
theorem dX3_reckonFloat_179 : decode cX3_reckonFloat 179 = .ok (.fload 4, 2) := dk_23 4 (dk_at dksX3_reckonFloat_6 4 rfl rfl)
theorem dX3_reckonFloat_181 : decode cX3_reckonFloat 181 = .ok (.fload 5, 2) := dk_23 5 (dk_at dksX3_reckonFloat_6 6 rfl rfl)
theorem dX3_reckonFloat_183 : decode cX3_reckonFloat 183 = .ok (.fdiv, 1) := dk_110 (dk_at dksX3_reckonFloat_6 8 rfl rfl)
theorem dX3_reckonFloat_184 : decode cX3_reckonFloat 184 = .ok (.invokestatic 163, 3) := dk_184 0 163 (dk_at dksX3_reckonFloat_6 9 rfl rfl)
theorem dX3_reckonFloat_187 : decode cX3_reckonFloat 187 = .ok (.ireturn, 1) := dk_172 (dk_at dksX3_reckonFloat_6 12 rfl rfl)
theorem dX3_reckonFloat_188 : decode cX3_reckonFloat 188 = .ok (.fload 4, 2) := dk_23 4 (dk_at dksX3_reckonFloat_6 13 rfl rfl)
theorem dX3_reckonFloat_190 : decode cX3_reckonFloat 190 = .ok (.fload 5, 2) := dk_23 5 (dk_at dksX3_reckonFloat_6 15 rfl rfl)
theorem dX3_reckonFloat_192 : decode cX3_reckonFloat 192 = .ok (.frem, 1) := dk_114 (dk_at dksX3_reckonFloat_6 17 rfl rfl)
theorem dX3_reckonFloat_193 : decode cX3_reckonFloat 193 = .ok (.invokestatic 163, 3) := dk_184 0 163 (dk_at dksX3_reckonFloat_6 18 rfl rfl)
theorem dX3_reckonFloat_196 : decode cX3_reckonFloat 196 = .ok (.ireturn, 1) := dk_172 (dk_at dksX3_reckonFloat_6 21 rfl rfl)
theorem dX3_reckonFloat_197 : decode cX3_reckonFloat 197 = .ok (.fload 4, 2) := dk_23 4 (dk_at dksX3_reckonFloat_6 22 rfl rfl)
theorem dX3_reckonFloat_199 : decode cX3_reckonFloat 199 = .ok (.fload 5, 2) := dk_23 5 (dk_at dksX3_reckonFloat_7 0 rfl rfl)
theorem dX3_reckonFloat_201 : decode cX3_reckonFloat 201 = .ok (.fcmp .l, 1) := dk_149 (dk_at dksX3_reckonFloat_7 2 rfl rfl)
theorem dX3_reckonFloat_202 : decode cX3_reckonFloat 202 = .ok (.ifCond .gt 20, 3) := dk_157 0 20 (dk_at dksX3_reckonFloat_7 3 rfl rfl)
theorem dX3_reckonFloat_205 : decode cX3_reckonFloat 205 = .ok (.fload 4, 2) := dk_23 4 (dk_at dksX3_reckonFloat_7 6 rfl rfl)
theorem dX3_reckonFloat_207 : decode cX3_reckonFloat 207 = .ok (.fload 5, 2) := dk_23 5 (dk_at dksX3_reckonFloat_7 8 rfl rfl)
theorem dX3_reckonFloat_209 : decode cX3_reckonFloat 209 = .ok (.fcmp .l, 1) := dk_149 (dk_at dksX3_reckonFloat_7 10 rfl rfl)
theorem dX3_reckonFloat_210 : decode cX3_reckonFloat 210 = .ok (.ifCond .ne 17, 3) := dk_154 0 17 (dk_at dksX3_reckonFloat_7 11 rfl rfl)
theorem dX3_reckonFloat_213 : decode cX3_reckonFloat 213 = .ok (.fload 4, 2) := dk_23 4 (dk_at dksX3_reckonFloat_7 14 rfl rfl)
theorem dX3_reckonFloat_215 : decode cX3_reckonFloat 215 = .ok (.f2d, 1) := dk_141 (dk_at dksX3_reckonFloat_7 16 rfl rfl)
theorem dX3_reckonFloat_216 : decode cX3_reckonFloat 216 = .ok (.invokestatic 114, 3) := dk_184 0 114 (dk_at dksX3_reckonFloat_7 17 rfl rfl)
theorem dX3_reckonFloat_219 : decode cX3_reckonFloat 219 = .ok (.ifCond .ne 8, 3) := dk_154 0 8 (dk_at dksX3_reckonFloat_7 20 rfl rfl)
theorem dX3_reckonFloat_222 : decode cX3_reckonFloat 222 = .ok (.fload 4, 2) := dk_23 4 (dk_at dksX3_reckonFloat_8 0 rfl rfl)
theorem dX3_reckonFloat_224 : decode cX3_reckonFloat 224 = .ok (.goto 5, 3) := dk_167 0 5 (dk_at dksX3_reckonFloat_8 2 rfl rfl)
theorem dX3_reckonFloat_227 : decode cX3_reckonFloat 227 = .ok (.fload 5, 2) := dk_23 5 (dk_at dksX3_reckonFloat_8 5 rfl rfl)
theorem dX3_reckonFloat_229 : decode cX3_reckonFloat 229 = .ok (.invokestatic 163, 3) := dk_184 0 163 (dk_at dksX3_reckonFloat_8 7 rfl rfl)
theorem dX3_reckonFloat_232 : decode cX3_reckonFloat 232 = .ok (.ireturn, 1) := dk_172 (dk_at dksX3_reckonFloat_8 10 rfl rfl)
theorem dX3_reckonFloat_233 : decode cX3_reckonFloat 233 = .ok (.fload 4, 2) := dk_23 4 (dk_at dksX3_reckonFloat_8 11 rfl rfl)
theorem dX3_reckonFloat_235 : decode cX3_reckonFloat 235 = .ok (.fload 5, 2) := dk_23 5 (dk_at dksX3_reckonFloat_8 13 rfl rfl)
theorem dX3_reckonFloat_237 : decode cX3_reckonFloat 237 = .ok (.fcmp .g, 1) := dk_150 (dk_at dksX3_reckonFloat_8 15 rfl rfl)
theorem dX3_reckonFloat_238 : decode cX3_reckonFloat 238 = .ok (.ifCond .lt 20, 3) := dk_155 0 20 (dk_at dksX3_reckonFloat_8 16 rfl rfl)
theorem dX3_reckonFloat_241 : decode cX3_reckonFloat 241 = .ok (.fload 4, 2) := dk_23 4 (dk_at dksX3_reckonFloat_8 19 rfl rfl)
theorem dX3_reckonFloat_243 : decode cX3_reckonFloat 243 = .ok (.fload 5, 2) := dk_23 5 (dk_at dksX3_reckonFloat_8 21 rfl rfl)
theorem dX3_reckonFloat_245 : decode cX3_reckonFloat 245 = .ok (.fcmp .l, 1) := dk_149 (dk_at dksX3_reckonFloat_8 23 rfl rfl)
theorem dX3_reckonFloat_246 : decode cX3_reckonFloat 246 = .ok (.ifCond .ne 17, 3) := dk_154 0 17 (dk_at dksX3_reckonFloat_9 0 rfl rfl)
theorem dX3_reckonFloat_249 : decode cX3_reckonFloat 249 = .ok (.fload 4, 2) := dk_23 4 (dk_at dksX3_reckonFloat_9 3 rfl rfl)
theorem dX3_reckonFloat_251 : decode cX3_reckonFloat 251 = .ok (.f2d, 1) := dk_141 (dk_at dksX3_reckonFloat_9 5 rfl rfl)
theorem dX3_reckonFloat_252 : decode cX3_reckonFloat 252 = .ok (.invokestatic 114, 3) := dk_184 0 114 (dk_at dksX3_reckonFloat_9 6 rfl rfl)
theorem dX3_reckonFloat_255 : decode cX3_reckonFloat 255 = .ok (.ifCond .eq 8, 3) := dk_153 0 8 (dk_at dksX3_reckonFloat_9 9 rfl rfl)
theorem dX3_reckonFloat_258 : decode cX3_reckonFloat 258 = .ok (.fload 4, 2) := dk_23 4 (dk_at dksX3_reckonFloat_9 12 rfl rfl)
theorem dX3_reckonFloat_260 : decode cX3_reckonFloat 260 = .ok (.goto 5, 3) := dk_167 0 5 (dk_at dksX3_reckonFloat_9 14 rfl rfl)
theorem dX3_reckonFloat_263 : decode cX3_reckonFloat 263 = .ok (.fload 5, 2) := dk_23 5 (dk_at dksX3_reckonFloat_9 17 rfl rfl)
theorem dX3_reckonFloat_265 : decode cX3_reckonFloat 265 = .ok (.invokestatic 163, 3) := dk_184 0 163 (dk_at dksX3_reckonFloat_9 19 rfl rfl)
theorem dX3_reckonFloat_268 : decode cX3_reckonFloat 268 = .ok (.ireturn, 1) := dk_172 (dk_at dksX3_reckonFloat_9 22 rfl rfl)
theorem dX3_reckonFloat_269 : decode cX3_reckonFloat 269 = .ok (.fload 4, 2) := dk_23 4 (dk_at dksX3_reckonFloat_10 0 rfl rfl)
theorem dX3_reckonFloat_271 : decode cX3_reckonFloat 271 = .ok (.f2d, 1) := dk_141 (dk_at dksX3_reckonFloat_10 2 rfl rfl)
theorem dX3_reckonFloat_272 : decode cX3_reckonFloat 272 = .ok (.invokestatic 114, 3) := dk_184 0 114 (dk_at dksX3_reckonFloat_10 3 rfl rfl)
theorem dX3_reckonFloat_275 : decode cX3_reckonFloat 275 = .ok (.fload 5, 2) := dk_23 5 (dk_at dksX3_reckonFloat_10 6 rfl rfl)
theorem dX3_reckonFloat_277 : decode cX3_reckonFloat 277 = .ok (.fload 5, 2) := dk_23 5 (dk_at dksX3_reckonFloat_10 8 rfl rfl)
theorem dX3_reckonFloat_279 : decode cX3_reckonFloat 279 = .ok (.fcmp .l, 1) := dk_149 (dk_at dksX3_reckonFloat_10 10 rfl rfl)
theorem dX3_reckonFloat_280 : decode cX3_reckonFloat 280 = .ok (.ifCond .ne 16, 3) := dk_154 0 16 (dk_at dksX3_reckonFloat_10 11 rfl rfl)
theorem dX3_reckonFloat_283 : decode cX3_reckonFloat 283 = .ok (.fload 5, 2) := dk_23 5 (dk_at dksX3_reckonFloat_10 14 rfl rfl)
theorem dX3_reckonFloat_285 : decode cX3_reckonFloat 285 = .ok (.f2d, 1) := dk_141 (dk_at dksX3_reckonFloat_10 16 rfl rfl)
theorem dX3_reckonFloat_286 : decode cX3_reckonFloat 286 = .ok (.invokestatic 114, 3) := dk_184 0 114 (dk_at dksX3_reckonFloat_10 17 rfl rfl)
theorem dX3_reckonFloat_289 : decode cX3_reckonFloat 289 = .ok (.ifCond .eq 7, 3) := dk_153 0 7 (dk_at dksX3_reckonFloat_10 20 rfl rfl)
theorem dX3_reckonFloat_292 : decode cX3_reckonFloat 292 = .ok (.iconst 1, 1) := dk_4 (dk_at dksX3_reckonFloat_10 23 rfl rfl)
theorem dX3_reckonFloat_293 : decode cX3_reckonFloat 293 = .ok (.goto 4, 3) := dk_167 0 4 (dk_at dksX3_reckonFloat_11 0 rfl rfl)
theorem dX3_reckonFloat_296 : decode cX3_reckonFloat 296 = .ok (.iconst 0, 1) := dk_3 (dk_at dksX3_reckonFloat_11 3 rfl rfl)
theorem dX3_reckonFloat_297 : decode cX3_reckonFloat 297 = .ok (.if_icmp .ne 8, 3) := dk_160 0 8 (dk_at dksX3_reckonFloat_11 4 rfl rfl)
theorem dX3_reckonFloat_300 : decode cX3_reckonFloat 300 = .ok (.fload 4, 2) := dk_23 4 (dk_at dksX3_reckonFloat_11 7 rfl rfl)
theorem dX3_reckonFloat_302 : decode cX3_reckonFloat 302 = .ok (.goto 6, 3) := dk_167 0 6 (dk_at dksX3_reckonFloat_11 9 rfl rfl)
theorem dX3_reckonFloat_305 : decode cX3_reckonFloat 305 = .ok (.fload 4, 2) := dk_23 4 (dk_at dksX3_reckonFloat_11 12 rfl rfl)
theorem dX3_reckonFloat_307 : decode cX3_reckonFloat 307 = .ok (.fneg, 1) := dk_118 (dk_at dksX3_reckonFloat_11 14 rfl rfl)
theorem dX3_reckonFloat_308 : decode cX3_reckonFloat 308 = .ok (.invokestatic 163, 3) := dk_184 0 163 (dk_at dksX3_reckonFloat_11 15 rfl rfl)
theorem dX3_reckonFloat_311 : decode cX3_reckonFloat 311 = .ok (.ireturn, 1) := dk_172 (dk_at dksX3_reckonFloat_11 18 rfl rfl)
theorem dX3_reckonFloat_312 : decode cX3_reckonFloat 312 = .ok (.fload 4, 2) := dk_23 4 (dk_at dksX3_reckonFloat_11 19 rfl rfl)
theorem dX3_reckonFloat_314 : decode cX3_reckonFloat 314 = .ok (.f2d, 1) := dk_141 (dk_at dksX3_reckonFloat_11 21 rfl rfl)
theorem dX3_reckonFloat_315 : decode cX3_reckonFloat 315 = .ok (.invokestatic 114, 3) := dk_184 0 114 (dk_at dksX3_reckonFloat_12 0 rfl rfl)
theorem dX3_reckonFloat_318 : decode cX3_reckonFloat 318 = .ok (.ifCond .eq 9, 3) := dk_153 0 9 (dk_at dksX3_reckonFloat_12 3 rfl rfl)
theorem dX3_reckonFloat_321 : decode cX3_reckonFloat 321 = .ok (.fload 4, 2) := dk_23 4 (dk_at dksX3_reckonFloat_12 6 rfl rfl)
theorem dX3_reckonFloat_323 : decode cX3_reckonFloat 323 = .ok (.fneg, 1) := dk_118 (dk_at dksX3_reckonFloat_12 8 rfl rfl)
theorem dX3_reckonFloat_324 : decode cX3_reckonFloat 324 = .ok (.goto 5, 3) := dk_167 0 5 (dk_at dksX3_reckonFloat_12 9 rfl rfl)
theorem dX3_reckonFloat_327 : decode cX3_reckonFloat 327 = .ok (.fload 4, 2) := dk_23 4 (dk_at dksX3_reckonFloat_12 12 rfl rfl)
theorem dX3_reckonFloat_329 : decode cX3_reckonFloat 329 = .ok (.invokestatic 163, 3) := dk_184 0 163 (dk_at dksX3_reckonFloat_12 14 rfl rfl)
theorem dX3_reckonFloat_332 : decode cX3_reckonFloat 332 = .ok (.ireturn, 1) := dk_172 (dk_at dksX3_reckonFloat_12 17 rfl rfl)
theorem dX3_reckonFloat_333 : decode cX3_reckonFloat 333 = .ok (.fload 4, 2) := dk_23 4 (dk_at dksX3_reckonFloat_12 18 rfl rfl)
theorem dX3_reckonFloat_335 : decode cX3_reckonFloat 335 = .ok (.fconst 0, 1) := dk_11 (dk_at dksX3_reckonFloat_12 20 rfl rfl)
theorem dX3_reckonFloat_336 : decode cX3_reckonFloat 336 = .ok (.fcmp .l, 1) := dk_149 (dk_at dksX3_reckonFloat_12 21 rfl rfl)
theorem dX3_reckonFloat_337 : decode cX3_reckonFloat 337 = .ok (.ifCond .ne 8, 3) := dk_154 0 8 (dk_at dksX3_reckonFloat_13 0 rfl rfl)
theorem dX3_reckonFloat_340 : decode cX3_reckonFloat 340 = .ok (.fload 4, 2) := dk_23 4 (dk_at dksX3_reckonFloat_13 3 rfl rfl)
theorem dX3_reckonFloat_342 : decode cX3_reckonFloat 342 = .ok (.goto 16, 3) := dk_167 0 16 (dk_at dksX3_reckonFloat_13 5 rfl rfl)
theorem dX3_reckonFloat_345 : decode cX3_reckonFloat 345 = .ok (.fload 4, 2) := dk_23 4 (dk_at dksX3_reckonFloat_13 8 rfl rfl)
theorem dX3_reckonFloat_347 : decode cX3_reckonFloat 347 = .ok (.fconst 0, 1) := dk_11 (dk_at dksX3_reckonFloat_13 10 rfl rfl)
theorem dX3_reckonFloat_348 : decode cX3_reckonFloat 348 = .ok (.fcmp .g, 1) := dk_150 (dk_at dksX3_reckonFloat_13 11 rfl rfl)
theorem dX3_reckonFloat_349 : decode cX3_reckonFloat 349 = .ok (.ifCond .ge 8, 3) := dk_156 0 8 (dk_at dksX3_reckonFloat_13 12 rfl rfl)
theorem dX3_reckonFloat_352 : decode cX3_reckonFloat 352 = .ok (.ldc 243, 2) := dk_18 243 (dk_at dksX3_reckonFloat_13 15 rfl rfl)
theorem dX3_reckonFloat_354 : decode cX3_reckonFloat 354 = .ok (.goto 4, 3) := dk_167 0 4 (dk_at dksX3_reckonFloat_13 17 rfl rfl)
theorem dX3_reckonFloat_357 : decode cX3_reckonFloat 357 = .ok (.fconst 1, 1) := dk_12 (dk_at dksX3_reckonFloat_13 20 rfl rfl)
theorem dX3_reckonFloat_358 : decode cX3_reckonFloat 358 = .ok (.invokestatic 163, 3) := dk_184 0 163 (dk_at dksX3_reckonFloat_13 21 rfl rfl)
theorem dX3_reckonFloat_361 : decode cX3_reckonFloat 361 = .ok (.ireturn, 1) := dk_172 (dk_at dksX3_reckonFloat_14 0 rfl rfl)
theorem dX3_reckonFloat_362 : decode cX3_reckonFloat 362 = .ok (.fload 4, 2) := dk_23 4 (dk_at dksX3_reckonFloat_14 1 rfl rfl)
theorem dX3_reckonFloat_364 : decode cX3_reckonFloat 364 = .ok (.ldc 110, 2) := dk_18 110 (dk_at dksX3_reckonFloat_14 3 rfl rfl)
theorem dX3_reckonFloat_366 : decode cX3_reckonFloat 366 = .ok (.fcmp .l, 1) := dk_149 (dk_at dksX3_reckonFloat_14 5 rfl rfl)
theorem dX3_reckonFloat_367 : decode cX3_reckonFloat 367 = .ok (.ifCond .ne 11, 3) := dk_154 0 11 (dk_at dksX3_reckonFloat_14 6 rfl rfl)
theorem dX3_reckonFloat_370 : decode cX3_reckonFloat 370 = .ok (.fload 4, 2) := dk_23 4 (dk_at dksX3_reckonFloat_14 9 rfl rfl)
theorem dX3_reckonFloat_372 : decode cX3_reckonFloat 372 = .ok (.invokestatic 163, 3) := dk_184 0 163 (dk_at dksX3_reckonFloat_14 11 rfl rfl)
theorem dX3_reckonFloat_375 : decode cX3_reckonFloat 375 = .ok (.goto 38, 3) := dk_167 0 38 (dk_at dksX3_reckonFloat_14 14 rfl rfl)
theorem dX3_reckonFloat_378 : decode cX3_reckonFloat 378 = .ok (.fload 4, 2) := dk_23 4 (dk_at dksX3_reckonFloat_14 17 rfl rfl)
theorem dX3_reckonFloat_380 : decode cX3_reckonFloat 380 = .ok (.fconst 0, 1) := dk_11 (dk_at dksX3_reckonFloat_14 19 rfl rfl)
theorem dX3_reckonFloat_381 : decode cX3_reckonFloat 381 = .ok (.fcmp .l, 1) := dk_149 (dk_at dksX3_reckonFloat_14 20 rfl rfl)
theorem dX3_reckonFloat_382 : decode cX3_reckonFloat 382 = .ok (.ifCond .ne 7, 3) := dk_154 0 7 (dk_at dksX3_reckonFloat_14 21 rfl rfl)
theorem dX3_reckonFloat_385 : decode cX3_reckonFloat 385 = .ok (.iconst 1, 1) := dk_4 (dk_at dksX3_reckonFloat_15 0 rfl rfl)
theorem dX3_reckonFloat_386 : decode cX3_reckonFloat 386 = .ok (.goto 27, 3) := dk_167 0 27 (dk_at dksX3_reckonFloat_15 1 rfl rfl)
theorem dX3_reckonFloat_389 : decode cX3_reckonFloat 389 = .ok (.fload 4, 2) := dk_23 4 (dk_at dksX3_reckonFloat_15 4 rfl rfl)
theorem dX3_reckonFloat_391 : decode cX3_reckonFloat 391 = .ok (.fconst 0, 1) := dk_11 (dk_at dksX3_reckonFloat_15 6 rfl rfl)
theorem dX3_reckonFloat_392 : decode cX3_reckonFloat 392 = .ok (.fcmp .l, 1) := dk_149 (dk_at dksX3_reckonFloat_15 7 rfl rfl)
theorem dX3_reckonFloat_393 : decode cX3_reckonFloat 393 = .ok (.ifCond .le 13, 3) := dk_158 0 13 (dk_at dksX3_reckonFloat_15 8 rfl rfl)
theorem dX3_reckonFloat_396 : decode cX3_reckonFloat 396 = .ok (.fload 4, 2) := dk_23 4 (dk_at dksX3_reckonFloat_15 11 rfl rfl)
theorem dX3_reckonFloat_398 : decode cX3_reckonFloat 398 = .ok (.invokestatic 163, 3) := dk_184 0 163 (dk_at dksX3_reckonFloat_15 13 rfl rfl)
theorem dX3_reckonFloat_401 : decode cX3_reckonFloat 401 = .ok (.iconst 1, 1) := dk_4 (dk_at dksX3_reckonFloat_15 16 rfl rfl)
theorem dX3_reckonFloat_402 : decode cX3_reckonFloat 402 = .ok (.iadd, 1) := dk_96 (dk_at dksX3_reckonFloat_15 17 rfl rfl)
theorem dX3_reckonFloat_403 : decode cX3_reckonFloat 403 = .ok (.goto 10, 3) := dk_167 0 10 (dk_at dksX3_reckonFloat_15 18 rfl rfl)
theorem dX3_reckonFloat_406 : decode cX3_reckonFloat 406 = .ok (.fload 4, 2) := dk_23 4 (dk_at dksX3_reckonFloat_15 21 rfl rfl)
theorem dX3_reckonFloat_408 : decode cX3_reckonFloat 408 = .ok (.invokestatic 163, 3) := dk_184 0 163 (dk_at dksX3_reckonFloat_16 0 rfl rfl)
theorem dX3_reckonFloat_411 : decode cX3_reckonFloat 411 = .ok (.iconst 1, 1) := dk_4 (dk_at dksX3_reckonFloat_16 3 rfl rfl)
theorem dX3_reckonFloat_412 : decode cX3_reckonFloat 412 = .ok (.isub, 1) := dk_100 (dk_at dksX3_reckonFloat_16 4 rfl rfl)
theorem dX3_reckonFloat_413 : decode cX3_reckonFloat 413 = .ok (.ireturn, 1) := dk_172 (dk_at dksX3_reckonFloat_16 5 rfl rfl)
theorem dX3_reckonFloat_414 : decode cX3_reckonFloat 414 = .ok (.fload 4, 2) := dk_23 4 (dk_at dksX3_reckonFloat_16 6 rfl rfl)
theorem dX3_reckonFloat_416 : decode cX3_reckonFloat 416 = .ok (.fneg, 1) := dk_118 (dk_at dksX3_reckonFloat_16 8 rfl rfl)
theorem dX3_reckonFloat_417 : decode cX3_reckonFloat 417 = .ok (.invokestatic 163, 3) := dk_184 0 163 (dk_at dksX3_reckonFloat_16 9 rfl rfl)
theorem dX3_reckonFloat_420 : decode cX3_reckonFloat 420 = .ok (.ireturn, 1) := dk_172 (dk_at dksX3_reckonFloat_16 12 rfl rfl)
abbrev cX3_compare : ByteArray := prog_11_method_64_code
def yX3_compare : MethodName := ⟨RX3, "compare", "(JJZ)I"⟩
def dkwX3_compare_5 : List UInt8 := [151, 155, 0, 8, 16, 32, 167, 0, 4, 3, 96, 172]
abbrev dktX3_compare_5 : List UInt8 := dkwX3_compare_5 ++ []
def dkwX3_compare_4 : List UInt8 := [167, 0, 4, 3, 96, 24, 6, 24, 8, 151, 158, 0, 8, 16, 16, 167, 0, 4, 3, 96, 24, 6, 24, 8]
abbrev dktX3_compare_4 : List UInt8 := dkwX3_compare_4 ++ dktX3_compare_5
def dkwX3_compare_3 : List UInt8 := [24, 8, 151, 154, 0, 7, 7, 167, 0, 4, 3, 96, 24, 6, 24, 8, 151, 153, 0, 8, 16, 8]
abbrev dktX3_compare_3 : List UInt8 := dkwX3_compare_3 ++ dktX3_compare_4
def dkwX3_compare_2 : List UInt8 := [156, 0, 7, 4, 167, 0, 4, 3, 24, 6, 24, 8, 152, 157, 0, 7, 5, 167, 0, 4, 3, 96, 24, 6]
abbrev dktX3_compare_2 : List UInt8 := dkwX3_compare_2 ++ dktX3_compare_3
def dkwX3_compare_1 : List UInt8 := [21, 5, 153, 0, 11, 33, 136, 184, 0, 244, 167, 0, 7, 33, 184, 0, 155, 57, 8, 24, 6, 24, 8, 152]
abbrev dktX3_compare_1 : List UInt8 := dkwX3_compare_1 ++ dktX3_compare_2
def dkwX3_compare_0 : List UInt8 := [42, 182, 0, 174, 21, 5, 153, 0, 11, 31, 136, 184, 0, 244, 167, 0, 7, 31, 184, 0, 155, 57, 6]
abbrev dktX3_compare_0 : List UInt8 := dkwX3_compare_0 ++ dktX3_compare_1
theorem dksX3_compare_0 : cX3_compare.data.toList.drop 0 = dktX3_compare_0 := by decide +kernel
theorem dksX3_compare_1 : cX3_compare.data.toList.drop 23 = dktX3_compare_1 := dk_seg dksX3_compare_0 23 rfl rfl
theorem dksX3_compare_2 : cX3_compare.data.toList.drop 47 = dktX3_compare_2 := dk_seg dksX3_compare_1 24 rfl rfl
theorem dksX3_compare_3 : cX3_compare.data.toList.drop 71 = dktX3_compare_3 := dk_seg dksX3_compare_2 24 rfl rfl
theorem dksX3_compare_4 : cX3_compare.data.toList.drop 93 = dktX3_compare_4 := dk_seg dksX3_compare_3 22 rfl rfl
theorem dksX3_compare_5 : cX3_compare.data.toList.drop 117 = dktX3_compare_5 := dk_seg dksX3_compare_4 24 rfl rfl
theorem dX3_compare_0 : decode cX3_compare 0 = .ok (.aload_n 0, 1) := dk_42 (dk_at dksX3_compare_0 0 rfl rfl)
theorem dX3_compare_1 : decode cX3_compare 1 = .ok (.invokevirtual 174, 3) := dk_182 0 174 (dk_at dksX3_compare_0 1 rfl rfl)
theorem dX3_compare_4 : decode cX3_compare 4 = .ok (.iload 5, 2) := dk_21 5 (dk_at dksX3_compare_0 4 rfl rfl)
theorem dX3_compare_6 : decode cX3_compare 6 = .ok (.ifCond .eq 11, 3) := dk_153 0 11 (dk_at dksX3_compare_0 6 rfl rfl)
theorem dX3_compare_9 : decode cX3_compare 9 = .ok (.lload_n 1, 1) := dk_31 (dk_at dksX3_compare_0 9 rfl rfl)
theorem dX3_compare_10 : decode cX3_compare 10 = .ok (.l2i, 1) := dk_136 (dk_at dksX3_compare_0 10 rfl rfl)
theorem dX3_compare_11 : decode cX3_compare 11 = .ok (.invokestatic 244, 3) := dk_184 0 244 (dk_at dksX3_compare_0 11 rfl rfl)
theorem dX3_compare_14 : decode cX3_compare 14 = .ok (.goto 7, 3) := dk_167 0 7 (dk_at dksX3_compare_0 14 rfl rfl)
theorem dX3_compare_17 : decode cX3_compare 17 = .ok (.lload_n 1, 1) := dk_31 (dk_at dksX3_compare_0 17 rfl rfl)
theorem dX3_compare_18 : decode cX3_compare 18 = .ok (.invokestatic 155, 3) := dk_184 0 155 (dk_at dksX3_compare_0 18 rfl rfl)
theorem dX3_compare_21 : decode cX3_compare 21 = .ok (.dstore 6, 2) := dk_57 6 (dk_at dksX3_compare_0 21 rfl rfl)
theorem dX3_compare_23 : decode cX3_compare 23 = .ok (.iload 5, 2) := dk_21 5 (dk_at dksX3_compare_1 0 rfl rfl)
theorem dX3_compare_25 : decode cX3_compare 25 = .ok (.ifCond .eq 11, 3) := dk_153 0 11 (dk_at dksX3_compare_1 2 rfl rfl)
theorem dX3_compare_28 : decode cX3_compare 28 = .ok (.lload_n 3, 1) := dk_33 (dk_at dksX3_compare_1 5 rfl rfl)
theorem dX3_compare_29 : decode cX3_compare 29 = .ok (.l2i, 1) := dk_136 (dk_at dksX3_compare_1 6 rfl rfl)
theorem dX3_compare_30 : decode cX3_compare 30 = .ok (.invokestatic 244, 3) := dk_184 0 244 (dk_at dksX3_compare_1 7 rfl rfl)
theorem dX3_compare_33 : decode cX3_compare 33 = .ok (.goto 7, 3) := dk_167 0 7 (dk_at dksX3_compare_1 10 rfl rfl)
theorem dX3_compare_36 : decode cX3_compare 36 = .ok (.lload_n 3, 1) := dk_33 (dk_at dksX3_compare_1 13 rfl rfl)
theorem dX3_compare_37 : decode cX3_compare 37 = .ok (.invokestatic 155, 3) := dk_184 0 155 (dk_at dksX3_compare_1 14 rfl rfl)
theorem dX3_compare_40 : decode cX3_compare 40 = .ok (.dstore 8, 2) := dk_57 8 (dk_at dksX3_compare_1 17 rfl rfl)
theorem dX3_compare_42 : decode cX3_compare 42 = .ok (.dload 6, 2) := dk_24 6 (dk_at dksX3_compare_1 19 rfl rfl)
theorem dX3_compare_44 : decode cX3_compare 44 = .ok (.dload 8, 2) := dk_24 8 (dk_at dksX3_compare_1 21 rfl rfl)
theorem dX3_compare_46 : decode cX3_compare 46 = .ok (.dcmp .g, 1) := dk_152 (dk_at dksX3_compare_1 23 rfl rfl)
theorem dX3_compare_47 : decode cX3_compare 47 = .ok (.ifCond .ge 7, 3) := dk_156 0 7 (dk_at dksX3_compare_2 0 rfl rfl)
theorem dX3_compare_50 : decode cX3_compare 50 = .ok (.iconst 1, 1) := dk_4 (dk_at dksX3_compare_2 3 rfl rfl)
theorem dX3_compare_51 : decode cX3_compare 51 = .ok (.goto 4, 3) := dk_167 0 4 (dk_at dksX3_compare_2 4 rfl rfl)
theorem dX3_compare_54 : decode cX3_compare 54 = .ok (.iconst 0, 1) := dk_3 (dk_at dksX3_compare_2 7 rfl rfl)
theorem dX3_compare_55 : decode cX3_compare 55 = .ok (.dload 6, 2) := dk_24 6 (dk_at dksX3_compare_2 8 rfl rfl)
theorem dX3_compare_57 : decode cX3_compare 57 = .ok (.dload 8, 2) := dk_24 8 (dk_at dksX3_compare_2 10 rfl rfl)
theorem dX3_compare_59 : decode cX3_compare 59 = .ok (.dcmp .g, 1) := dk_152 (dk_at dksX3_compare_2 12 rfl rfl)
theorem dX3_compare_60 : decode cX3_compare 60 = .ok (.ifCond .gt 7, 3) := dk_157 0 7 (dk_at dksX3_compare_2 13 rfl rfl)
theorem dX3_compare_63 : decode cX3_compare 63 = .ok (.iconst 2, 1) := dk_5 (dk_at dksX3_compare_2 16 rfl rfl)
theorem dX3_compare_64 : decode cX3_compare 64 = .ok (.goto 4, 3) := dk_167 0 4 (dk_at dksX3_compare_2 17 rfl rfl)
theorem dX3_compare_67 : decode cX3_compare 67 = .ok (.iconst 0, 1) := dk_3 (dk_at dksX3_compare_2 20 rfl rfl)
theorem dX3_compare_68 : decode cX3_compare 68 = .ok (.iadd, 1) := dk_96 (dk_at dksX3_compare_2 21 rfl rfl)
theorem dX3_compare_69 : decode cX3_compare 69 = .ok (.dload 6, 2) := dk_24 6 (dk_at dksX3_compare_2 22 rfl rfl)
theorem dX3_compare_71 : decode cX3_compare 71 = .ok (.dload 8, 2) := dk_24 8 (dk_at dksX3_compare_3 0 rfl rfl)
theorem dX3_compare_73 : decode cX3_compare 73 = .ok (.dcmp .l, 1) := dk_151 (dk_at dksX3_compare_3 2 rfl rfl)
theorem dX3_compare_74 : decode cX3_compare 74 = .ok (.ifCond .ne 7, 3) := dk_154 0 7 (dk_at dksX3_compare_3 3 rfl rfl)
theorem dX3_compare_77 : decode cX3_compare 77 = .ok (.iconst 4, 1) := dk_7 (dk_at dksX3_compare_3 6 rfl rfl)
theorem dX3_compare_78 : decode cX3_compare 78 = .ok (.goto 4, 3) := dk_167 0 4 (dk_at dksX3_compare_3 7 rfl rfl)
theorem dX3_compare_81 : decode cX3_compare 81 = .ok (.iconst 0, 1) := dk_3 (dk_at dksX3_compare_3 10 rfl rfl)
theorem dX3_compare_82 : decode cX3_compare 82 = .ok (.iadd, 1) := dk_96 (dk_at dksX3_compare_3 11 rfl rfl)
theorem dX3_compare_83 : decode cX3_compare 83 = .ok (.dload 6, 2) := dk_24 6 (dk_at dksX3_compare_3 12 rfl rfl)
theorem dX3_compare_85 : decode cX3_compare 85 = .ok (.dload 8, 2) := dk_24 8 (dk_at dksX3_compare_3 14 rfl rfl)
theorem dX3_compare_87 : decode cX3_compare 87 = .ok (.dcmp .l, 1) := dk_151 (dk_at dksX3_compare_3 16 rfl rfl)
theorem dX3_compare_88 : decode cX3_compare 88 = .ok (.ifCond .eq 8, 3) := dk_153 0 8 (dk_at dksX3_compare_3 17 rfl rfl)
theorem dX3_compare_91 : decode cX3_compare 91 = .ok (.bipush 8, 2) := dk_16 8 (dk_at dksX3_compare_3 20 rfl rfl)
theorem dX3_compare_93 : decode cX3_compare 93 = .ok (.goto 4, 3) := dk_167 0 4 (dk_at dksX3_compare_4 0 rfl rfl)
theorem dX3_compare_96 : decode cX3_compare 96 = .ok (.iconst 0, 1) := dk_3 (dk_at dksX3_compare_4 3 rfl rfl)
theorem dX3_compare_97 : decode cX3_compare 97 = .ok (.iadd, 1) := dk_96 (dk_at dksX3_compare_4 4 rfl rfl)
theorem dX3_compare_98 : decode cX3_compare 98 = .ok (.dload 6, 2) := dk_24 6 (dk_at dksX3_compare_4 5 rfl rfl)
theorem dX3_compare_100 : decode cX3_compare 100 = .ok (.dload 8, 2) := dk_24 8 (dk_at dksX3_compare_4 7 rfl rfl)
theorem dX3_compare_102 : decode cX3_compare 102 = .ok (.dcmp .l, 1) := dk_151 (dk_at dksX3_compare_4 9 rfl rfl)
theorem dX3_compare_103 : decode cX3_compare 103 = .ok (.ifCond .le 8, 3) := dk_158 0 8 (dk_at dksX3_compare_4 10 rfl rfl)
theorem dX3_compare_106 : decode cX3_compare 106 = .ok (.bipush 16, 2) := dk_16 16 (dk_at dksX3_compare_4 13 rfl rfl)
theorem dX3_compare_108 : decode cX3_compare 108 = .ok (.goto 4, 3) := dk_167 0 4 (dk_at dksX3_compare_4 15 rfl rfl)
theorem dX3_compare_111 : decode cX3_compare 111 = .ok (.iconst 0, 1) := dk_3 (dk_at dksX3_compare_4 18 rfl rfl)
theorem dX3_compare_112 : decode cX3_compare 112 = .ok (.iadd, 1) := dk_96 (dk_at dksX3_compare_4 19 rfl rfl)
theorem dX3_compare_113 : decode cX3_compare 113 = .ok (.dload 6, 2) := dk_24 6 (dk_at dksX3_compare_4 20 rfl rfl)
theorem dX3_compare_115 : decode cX3_compare 115 = .ok (.dload 8, 2) := dk_24 8 (dk_at dksX3_compare_4 22 rfl rfl)
theorem dX3_compare_117 : decode cX3_compare 117 = .ok (.dcmp .l, 1) := dk_151 (dk_at dksX3_compare_5 0 rfl rfl)
theorem dX3_compare_118 : decode cX3_compare 118 = .ok (.ifCond .lt 8, 3) := dk_155 0 8 (dk_at dksX3_compare_5 1 rfl rfl)
theorem dX3_compare_121 : decode cX3_compare 121 = .ok (.bipush 32, 2) := dk_16 32 (dk_at dksX3_compare_5 4 rfl rfl)
theorem dX3_compare_123 : decode cX3_compare 123 = .ok (.goto 4, 3) := dk_167 0 4 (dk_at dksX3_compare_5 6 rfl rfl)
theorem dX3_compare_126 : decode cX3_compare 126 = .ok (.iconst 0, 1) := dk_3 (dk_at dksX3_compare_5 9 rfl rfl)
theorem dX3_compare_127 : decode cX3_compare 127 = .ok (.iadd, 1) := dk_96 (dk_at dksX3_compare_5 10 rfl rfl)
theorem dX3_compare_128 : decode cX3_compare 128 = .ok (.ireturn, 1) := dk_172 (dk_at dksX3_compare_5 11 rfl rfl)
abbrev cX3_wide : ByteArray := prog_11_method_63_code
def yX3_wide : MethodName := ⟨RX3, "wide", "(I)D"⟩
def dkwX3_wide_0 : List UInt8 := [26, 184, 0, 147, 68, 35, 35, 149, 153, 0, 9, 20, 0, 93, 167, 0, 5, 35, 141, 175]
abbrev dktX3_wide_0 : List UInt8 := dkwX3_wide_0 ++ []
theorem dksX3_wide_0 : cX3_wide.data.toList.drop 0 = dktX3_wide_0 := by decide +kernel
theorem dX3_wide_0 : decode cX3_wide 0 = .ok (.iload_n 0, 1) := dk_26 (dk_at dksX3_wide_0 0 rfl rfl)
theorem dX3_wide_1 : decode cX3_wide 1 = .ok (.invokestatic 147, 3) := dk_184 0 147 (dk_at dksX3_wide_0 1 rfl rfl)
theorem dX3_wide_4 : decode cX3_wide 4 = .ok (.fstore_n 1, 1) := dk_68 (dk_at dksX3_wide_0 4 rfl rfl)
theorem dX3_wide_5 : decode cX3_wide 5 = .ok (.fload_n 1, 1) := dk_35 (dk_at dksX3_wide_0 5 rfl rfl)
theorem dX3_wide_6 : decode cX3_wide 6 = .ok (.fload_n 1, 1) := dk_35 (dk_at dksX3_wide_0 6 rfl rfl)
theorem dX3_wide_7 : decode cX3_wide 7 = .ok (.fcmp .l, 1) := dk_149 (dk_at dksX3_wide_0 7 rfl rfl)
theorem dX3_wide_8 : decode cX3_wide 8 = .ok (.ifCond .eq 9, 3) := dk_153 0 9 (dk_at dksX3_wide_0 8 rfl rfl)
theorem dX3_wide_11 : decode cX3_wide 11 = .ok (.ldc2_w 93, 3) := dk_20 0 93 (dk_at dksX3_wide_0 11 rfl rfl)
theorem dX3_wide_14 : decode cX3_wide 14 = .ok (.goto 5, 3) := dk_167 0 5 (dk_at dksX3_wide_0 14 rfl rfl)
theorem dX3_wide_17 : decode cX3_wide 17 = .ok (.fload_n 1, 1) := dk_35 (dk_at dksX3_wide_0 17 rfl rfl)
theorem dX3_wide_18 : decode cX3_wide 18 = .ok (.f2d, 1) := dk_141 (dk_at dksX3_wide_0 18 rfl rfl)
theorem dX3_wide_19 : decode cX3_wide 19 = .ok (.dreturn, 1) := dk_175 (dk_at dksX3_wide_0 19 rfl rfl)
abbrev cX3_turn : ByteArray := prog_11_method_65_code
def yX3_turn : MethodName := ⟨RX3, "turn", "(IIJ)J"⟩
def dkwX3_turn_2 : List UInt8 := [182, 0, 177, 133, 173, 27, 28, 27, 33, 184, 0, 171, 184, 0, 207, 173]
abbrev dktX3_turn_2 : List UInt8 := dkwX3_turn_2 ++ []
def dkwX3_turn_1 : List UInt8 := [27, 154, 0, 7, 4, 167, 0, 4, 3, 28, 154, 0, 7, 4, 167, 0, 4, 3, 159, 0, 10, 42, 4]
abbrev dktX3_turn_1 : List UInt8 := dkwX3_turn_1 ++ dktX3_turn_2
def dkwX3_turn_0 : List UInt8 := [42, 182, 0, 174, 27, 3, 16, 7, 184, 0, 67, 153, 0, 34, 28, 3, 16, 7, 184, 0, 67, 153, 0, 24]
abbrev dktX3_turn_0 : List UInt8 := dkwX3_turn_0 ++ dktX3_turn_1
theorem dksX3_turn_0 : cX3_turn.data.toList.drop 0 = dktX3_turn_0 := by decide +kernel
theorem dksX3_turn_1 : cX3_turn.data.toList.drop 24 = dktX3_turn_1 := dk_seg dksX3_turn_0 24 rfl rfl
theorem dksX3_turn_2 : cX3_turn.data.toList.drop 47 = dktX3_turn_2 := dk_seg dksX3_turn_1 23 rfl rfl
theorem dX3_turn_0 : decode cX3_turn 0 = .ok (.aload_n 0, 1) := dk_42 (dk_at dksX3_turn_0 0 rfl rfl)
theorem dX3_turn_1 : decode cX3_turn 1 = .ok (.invokevirtual 174, 3) := dk_182 0 174 (dk_at dksX3_turn_0 1 rfl rfl)
theorem dX3_turn_4 : decode cX3_turn 4 = .ok (.iload_n 1, 1) := dk_27 (dk_at dksX3_turn_0 4 rfl rfl)
theorem dX3_turn_5 : decode cX3_turn 5 = .ok (.iconst 0, 1) := dk_3 (dk_at dksX3_turn_0 5 rfl rfl)
theorem dX3_turn_6 : decode cX3_turn 6 = .ok (.bipush 7, 2) := dk_16 7 (dk_at dksX3_turn_0 6 rfl rfl)
theorem dX3_turn_8 : decode cX3_turn 8 = .ok (.invokestatic 67, 3) := dk_184 0 67 (dk_at dksX3_turn_0 8 rfl rfl)
theorem dX3_turn_11 : decode cX3_turn 11 = .ok (.ifCond .eq 34, 3) := dk_153 0 34 (dk_at dksX3_turn_0 11 rfl rfl)
theorem dX3_turn_14 : decode cX3_turn 14 = .ok (.iload_n 2, 1) := dk_28 (dk_at dksX3_turn_0 14 rfl rfl)
theorem dX3_turn_15 : decode cX3_turn 15 = .ok (.iconst 0, 1) := dk_3 (dk_at dksX3_turn_0 15 rfl rfl)
theorem dX3_turn_16 : decode cX3_turn 16 = .ok (.bipush 7, 2) := dk_16 7 (dk_at dksX3_turn_0 16 rfl rfl)
theorem dX3_turn_18 : decode cX3_turn 18 = .ok (.invokestatic 67, 3) := dk_184 0 67 (dk_at dksX3_turn_0 18 rfl rfl)
theorem dX3_turn_21 : decode cX3_turn 21 = .ok (.ifCond .eq 24, 3) := dk_153 0 24 (dk_at dksX3_turn_0 21 rfl rfl)
theorem dX3_turn_24 : decode cX3_turn 24 = .ok (.iload_n 1, 1) := dk_27 (dk_at dksX3_turn_1 0 rfl rfl)
theorem dX3_turn_25 : decode cX3_turn 25 = .ok (.ifCond .ne 7, 3) := dk_154 0 7 (dk_at dksX3_turn_1 1 rfl rfl)
theorem dX3_turn_28 : decode cX3_turn 28 = .ok (.iconst 1, 1) := dk_4 (dk_at dksX3_turn_1 4 rfl rfl)
theorem dX3_turn_29 : decode cX3_turn 29 = .ok (.goto 4, 3) := dk_167 0 4 (dk_at dksX3_turn_1 5 rfl rfl)
theorem dX3_turn_32 : decode cX3_turn 32 = .ok (.iconst 0, 1) := dk_3 (dk_at dksX3_turn_1 8 rfl rfl)
theorem dX3_turn_33 : decode cX3_turn 33 = .ok (.iload_n 2, 1) := dk_28 (dk_at dksX3_turn_1 9 rfl rfl)
theorem dX3_turn_34 : decode cX3_turn 34 = .ok (.ifCond .ne 7, 3) := dk_154 0 7 (dk_at dksX3_turn_1 10 rfl rfl)
theorem dX3_turn_37 : decode cX3_turn 37 = .ok (.iconst 1, 1) := dk_4 (dk_at dksX3_turn_1 13 rfl rfl)
theorem dX3_turn_38 : decode cX3_turn 38 = .ok (.goto 4, 3) := dk_167 0 4 (dk_at dksX3_turn_1 14 rfl rfl)
theorem dX3_turn_41 : decode cX3_turn 41 = .ok (.iconst 0, 1) := dk_3 (dk_at dksX3_turn_1 17 rfl rfl)
theorem dX3_turn_42 : decode cX3_turn 42 = .ok (.if_icmp .eq 10, 3) := dk_159 0 10 (dk_at dksX3_turn_1 18 rfl rfl)
theorem dX3_turn_45 : decode cX3_turn 45 = .ok (.aload_n 0, 1) := dk_42 (dk_at dksX3_turn_1 21 rfl rfl)
theorem dX3_turn_46 : decode cX3_turn 46 = .ok (.iconst 1, 1) := dk_4 (dk_at dksX3_turn_1 22 rfl rfl)
theorem dX3_turn_47 : decode cX3_turn 47 = .ok (.invokevirtual 177, 3) := dk_182 0 177 (dk_at dksX3_turn_2 0 rfl rfl)
theorem dX3_turn_50 : decode cX3_turn 50 = .ok (.i2l, 1) := dk_133 (dk_at dksX3_turn_2 3 rfl rfl)
theorem dX3_turn_51 : decode cX3_turn 51 = .ok (.lreturn, 1) := dk_173 (dk_at dksX3_turn_2 4 rfl rfl)
theorem dX3_turn_52 : decode cX3_turn 52 = .ok (.iload_n 1, 1) := dk_27 (dk_at dksX3_turn_2 5 rfl rfl)
theorem dX3_turn_53 : decode cX3_turn 53 = .ok (.iload_n 2, 1) := dk_28 (dk_at dksX3_turn_2 6 rfl rfl)
theorem dX3_turn_54 : decode cX3_turn 54 = .ok (.iload_n 1, 1) := dk_27 (dk_at dksX3_turn_2 7 rfl rfl)
theorem dX3_turn_55 : decode cX3_turn 55 = .ok (.lload_n 3, 1) := dk_33 (dk_at dksX3_turn_2 8 rfl rfl)
theorem dX3_turn_56 : decode cX3_turn 56 = .ok (.invokestatic 171, 3) := dk_184 0 171 (dk_at dksX3_turn_2 9 rfl rfl)
theorem dX3_turn_59 : decode cX3_turn 59 = .ok (.invokestatic 207, 3) := dk_184 0 207 (dk_at dksX3_turn_2 12 rfl rfl)
theorem dX3_turn_62 : decode cX3_turn 62 = .ok (.lreturn, 1) := dk_173 (dk_at dksX3_turn_2 15 rfl rfl)
abbrev cX3_keep : ByteArray := prog_11_method_67_code
def yX3_keep : MethodName := ⟨RX3, "keep", "(I)I"⟩
def dkwX3_keep_11 : List UInt8 := [42, 180, 0, 50, 28, 92, 46, 21, 5, 96, 79, 21, 5, 172]
abbrev dktX3_keep_11 : List UInt8 := dkwX3_keep_11 ++ []
def dkwX3_keep_10 : List UInt8 := [42, 180, 0, 41, 28, 42, 180, 0, 16, 29, 46, 79, 42, 180, 0, 44, 28, 42, 180, 0, 19, 29, 46, 79]
abbrev dktX3_keep_10 : List UInt8 := dkwX3_keep_10 ++ dktX3_keep_11
def dkwX3_keep_9 : List UInt8 := [153, 0, 7, 4, 167, 0, 4, 3, 96, 54, 5, 132, 6, 1, 167, 255, 127, 42, 180, 0, 38, 28, 4, 84]
abbrev dktX3_keep_9 : List UInt8 := dkwX3_keep_9 ++ dktX3_keep_10
def dkwX3_keep_8 : List UInt8 := [104, 21, 8, 96, 42, 29, 21, 8, 182, 0, 71, 80, 132, 8, 1, 167, 255, 176, 21, 5, 21, 7]
abbrev dktX3_keep_8 : List UInt8 := dkwX3_keep_8 ++ dktX3_keep_9
def dkwX3_keep_7 : List UInt8 := [21, 8, 182, 0, 71, 148, 153, 0, 7, 4, 167, 0, 4, 3, 128, 54, 7, 42, 180, 0, 47, 16, 40, 28]
abbrev dktX3_keep_7 : List UInt8 := dkwX3_keep_7 ++ dktX3_keep_8
def dkwX3_keep_6 : List UInt8 := [180, 0, 53, 104, 162, 0, 61, 21, 7, 42, 180, 0, 47, 16, 40, 28, 104, 21, 8, 96, 47, 42, 29]
abbrev dktX3_keep_6 : List UInt8 := dkwX3_keep_6 ++ dktX3_keep_7
def dkwX3_keep_5 : List UInt8 := [180, 0, 53, 104, 54, 8, 21, 8, 42, 180, 0, 19, 29, 46, 162, 0, 75, 21, 8, 21, 6, 4, 96, 42]
abbrev dktX3_keep_5 : List UInt8 := dkwX3_keep_5 ++ dktX3_keep_6
def dkwX3_keep_4 : List UInt8 := [21, 6, 42, 42, 180, 0, 19, 29, 46, 182, 0, 247, 162, 0, 120, 21, 4, 54, 7, 21, 6, 42]
abbrev dktX3_keep_4 : List UInt8 := dkwX3_keep_4 ++ dktX3_keep_5
def dkwX3_keep_3 : List UInt8 := [46, 42, 180, 0, 19, 29, 46, 159, 0, 7, 4, 167, 0, 4, 3, 54, 4, 3, 54, 5, 3, 54, 6]
abbrev dktX3_keep_3 : List UInt8 := dkwX3_keep_3 ++ dktX3_keep_4
def dkwX3_keep_2 : List UInt8 := [51, 153, 0, 33, 42, 180, 0, 41, 28, 46, 42, 180, 0, 16, 29, 46, 160, 0, 18, 42, 180, 0, 44, 28]
abbrev dktX3_keep_2 : List UInt8 := dkwX3_keep_2 ++ dktX3_keep_3
def dkwX3_keep_1 : List UInt8 := [28, 3, 84, 3, 172, 42, 29, 182, 0, 198, 154, 0, 9, 42, 4, 182, 0, 177, 172, 42, 180, 0, 38, 28]
abbrev dktX3_keep_1 : List UInt8 := dkwX3_keep_1 ++ dktX3_keep_2
def dkwX3_keep_0 : List UInt8 := [42, 182, 0, 174, 27, 16, 15, 126, 61, 42, 180, 0, 13, 28, 46, 62, 29, 154, 0, 12, 42, 180, 0, 38]
abbrev dktX3_keep_0 : List UInt8 := dkwX3_keep_0 ++ dktX3_keep_1
theorem dksX3_keep_0 : cX3_keep.data.toList.drop 0 = dktX3_keep_0 := by decide +kernel
theorem dksX3_keep_1 : cX3_keep.data.toList.drop 24 = dktX3_keep_1 := dk_seg dksX3_keep_0 24 rfl rfl
theorem dksX3_keep_2 : cX3_keep.data.toList.drop 48 = dktX3_keep_2 := dk_seg dksX3_keep_1 24 rfl rfl
theorem dksX3_keep_3 : cX3_keep.data.toList.drop 72 = dktX3_keep_3 := dk_seg dksX3_keep_2 24 rfl rfl
theorem dksX3_keep_4 : cX3_keep.data.toList.drop 95 = dktX3_keep_4 := dk_seg dksX3_keep_3 23 rfl rfl
theorem dksX3_keep_5 : cX3_keep.data.toList.drop 117 = dktX3_keep_5 := dk_seg dksX3_keep_4 22 rfl rfl
theorem dksX3_keep_6 : cX3_keep.data.toList.drop 141 = dktX3_keep_6 := dk_seg dksX3_keep_5 24 rfl rfl
theorem dksX3_keep_7 : cX3_keep.data.toList.drop 164 = dktX3_keep_7 := dk_seg dksX3_keep_6 23 rfl rfl
theorem dksX3_keep_8 : cX3_keep.data.toList.drop 188 = dktX3_keep_8 := dk_seg dksX3_keep_7 24 rfl rfl
theorem dksX3_keep_9 : cX3_keep.data.toList.drop 210 = dktX3_keep_9 := dk_seg dksX3_keep_8 22 rfl rfl
theorem dksX3_keep_10 : cX3_keep.data.toList.drop 234 = dktX3_keep_10 := dk_seg dksX3_keep_9 24 rfl rfl
theorem dksX3_keep_11 : cX3_keep.data.toList.drop 258 = dktX3_keep_11 := dk_seg dksX3_keep_10 24 rfl rfl
theorem dX3_keep_0 : decode cX3_keep 0 = .ok (.aload_n 0, 1) := dk_42 (dk_at dksX3_keep_0 0 rfl rfl)
theorem dX3_keep_1 : decode cX3_keep 1 = .ok (.invokevirtual 174, 3) := dk_182 0 174 (dk_at dksX3_keep_0 1 rfl rfl)
theorem dX3_keep_4 : decode cX3_keep 4 = .ok (.iload_n 1, 1) := dk_27 (dk_at dksX3_keep_0 4 rfl rfl)
theorem dX3_keep_5 : decode cX3_keep 5 = .ok (.bipush 15, 2) := dk_16 15 (dk_at dksX3_keep_0 5 rfl rfl)
theorem dX3_keep_7 : decode cX3_keep 7 = .ok (.iand, 1) := dk_126 (dk_at dksX3_keep_0 7 rfl rfl)
theorem dX3_keep_8 : decode cX3_keep 8 = .ok (.istore_n 2, 1) := dk_61 (dk_at dksX3_keep_0 8 rfl rfl)
theorem dX3_keep_9 : decode cX3_keep 9 = .ok (.aload_n 0, 1) := dk_42 (dk_at dksX3_keep_0 9 rfl rfl)
theorem dX3_keep_10 : decode cX3_keep 10 = .ok (.getfield 13, 3) := dk_180 0 13 (dk_at dksX3_keep_0 10 rfl rfl)
theorem dX3_keep_13 : decode cX3_keep 13 = .ok (.iload_n 2, 1) := dk_28 (dk_at dksX3_keep_0 13 rfl rfl)
theorem dX3_keep_14 : decode cX3_keep 14 = .ok (.iaload, 1) := dk_46 (dk_at dksX3_keep_0 14 rfl rfl)
theorem dX3_keep_15 : decode cX3_keep 15 = .ok (.istore_n 3, 1) := dk_62 (dk_at dksX3_keep_0 15 rfl rfl)
theorem dX3_keep_16 : decode cX3_keep 16 = .ok (.iload_n 3, 1) := dk_29 (dk_at dksX3_keep_0 16 rfl rfl)
theorem dX3_keep_17 : decode cX3_keep 17 = .ok (.ifCond .ne 12, 3) := dk_154 0 12 (dk_at dksX3_keep_0 17 rfl rfl)
theorem dX3_keep_20 : decode cX3_keep 20 = .ok (.aload_n 0, 1) := dk_42 (dk_at dksX3_keep_0 20 rfl rfl)
theorem dX3_keep_21 : decode cX3_keep 21 = .ok (.getfield 38, 3) := dk_180 0 38 (dk_at dksX3_keep_0 21 rfl rfl)
theorem dX3_keep_24 : decode cX3_keep 24 = .ok (.iload_n 2, 1) := dk_28 (dk_at dksX3_keep_1 0 rfl rfl)
theorem dX3_keep_25 : decode cX3_keep 25 = .ok (.iconst 0, 1) := dk_3 (dk_at dksX3_keep_1 1 rfl rfl)
theorem dX3_keep_26 : decode cX3_keep 26 = .ok (.bastore, 1) := dk_84 (dk_at dksX3_keep_1 2 rfl rfl)
theorem dX3_keep_27 : decode cX3_keep 27 = .ok (.iconst 0, 1) := dk_3 (dk_at dksX3_keep_1 3 rfl rfl)
theorem dX3_keep_28 : decode cX3_keep 28 = .ok (.ireturn, 1) := dk_172 (dk_at dksX3_keep_1 4 rfl rfl)
theorem dX3_keep_29 : decode cX3_keep 29 = .ok (.aload_n 0, 1) := dk_42 (dk_at dksX3_keep_1 5 rfl rfl)
theorem dX3_keep_30 : decode cX3_keep 30 = .ok (.iload_n 3, 1) := dk_29 (dk_at dksX3_keep_1 6 rfl rfl)
theorem dX3_keep_31 : decode cX3_keep 31 = .ok (.invokevirtual 198, 3) := dk_182 0 198 (dk_at dksX3_keep_1 7 rfl rfl)
theorem dX3_keep_34 : decode cX3_keep 34 = .ok (.ifCond .ne 9, 3) := dk_154 0 9 (dk_at dksX3_keep_1 10 rfl rfl)
theorem dX3_keep_37 : decode cX3_keep 37 = .ok (.aload_n 0, 1) := dk_42 (dk_at dksX3_keep_1 13 rfl rfl)
theorem dX3_keep_38 : decode cX3_keep 38 = .ok (.iconst 1, 1) := dk_4 (dk_at dksX3_keep_1 14 rfl rfl)
theorem dX3_keep_39 : decode cX3_keep 39 = .ok (.invokevirtual 177, 3) := dk_182 0 177 (dk_at dksX3_keep_1 15 rfl rfl)
theorem dX3_keep_42 : decode cX3_keep 42 = .ok (.ireturn, 1) := dk_172 (dk_at dksX3_keep_1 18 rfl rfl)
theorem dX3_keep_43 : decode cX3_keep 43 = .ok (.aload_n 0, 1) := dk_42 (dk_at dksX3_keep_1 19 rfl rfl)
theorem dX3_keep_44 : decode cX3_keep 44 = .ok (.getfield 38, 3) := dk_180 0 38 (dk_at dksX3_keep_1 20 rfl rfl)
theorem dX3_keep_47 : decode cX3_keep 47 = .ok (.iload_n 2, 1) := dk_28 (dk_at dksX3_keep_1 23 rfl rfl)
theorem dX3_keep_48 : decode cX3_keep 48 = .ok (.baload, 1) := dk_51 (dk_at dksX3_keep_2 0 rfl rfl)
theorem dX3_keep_49 : decode cX3_keep 49 = .ok (.ifCond .eq 33, 3) := dk_153 0 33 (dk_at dksX3_keep_2 1 rfl rfl)
theorem dX3_keep_52 : decode cX3_keep 52 = .ok (.aload_n 0, 1) := dk_42 (dk_at dksX3_keep_2 4 rfl rfl)
theorem dX3_keep_53 : decode cX3_keep 53 = .ok (.getfield 41, 3) := dk_180 0 41 (dk_at dksX3_keep_2 5 rfl rfl)
theorem dX3_keep_56 : decode cX3_keep 56 = .ok (.iload_n 2, 1) := dk_28 (dk_at dksX3_keep_2 8 rfl rfl)
theorem dX3_keep_57 : decode cX3_keep 57 = .ok (.iaload, 1) := dk_46 (dk_at dksX3_keep_2 9 rfl rfl)
theorem dX3_keep_58 : decode cX3_keep 58 = .ok (.aload_n 0, 1) := dk_42 (dk_at dksX3_keep_2 10 rfl rfl)
theorem dX3_keep_59 : decode cX3_keep 59 = .ok (.getfield 16, 3) := dk_180 0 16 (dk_at dksX3_keep_2 11 rfl rfl)
theorem dX3_keep_62 : decode cX3_keep 62 = .ok (.iload_n 3, 1) := dk_29 (dk_at dksX3_keep_2 14 rfl rfl)
theorem dX3_keep_63 : decode cX3_keep 63 = .ok (.iaload, 1) := dk_46 (dk_at dksX3_keep_2 15 rfl rfl)
theorem dX3_keep_64 : decode cX3_keep 64 = .ok (.if_icmp .ne 18, 3) := dk_160 0 18 (dk_at dksX3_keep_2 16 rfl rfl)
theorem dX3_keep_67 : decode cX3_keep 67 = .ok (.aload_n 0, 1) := dk_42 (dk_at dksX3_keep_2 19 rfl rfl)
theorem dX3_keep_68 : decode cX3_keep 68 = .ok (.getfield 44, 3) := dk_180 0 44 (dk_at dksX3_keep_2 20 rfl rfl)
theorem dX3_keep_71 : decode cX3_keep 71 = .ok (.iload_n 2, 1) := dk_28 (dk_at dksX3_keep_2 23 rfl rfl)
theorem dX3_keep_72 : decode cX3_keep 72 = .ok (.iaload, 1) := dk_46 (dk_at dksX3_keep_3 0 rfl rfl)
theorem dX3_keep_73 : decode cX3_keep 73 = .ok (.aload_n 0, 1) := dk_42 (dk_at dksX3_keep_3 1 rfl rfl)
theorem dX3_keep_74 : decode cX3_keep 74 = .ok (.getfield 19, 3) := dk_180 0 19 (dk_at dksX3_keep_3 2 rfl rfl)
theorem dX3_keep_77 : decode cX3_keep 77 = .ok (.iload_n 3, 1) := dk_29 (dk_at dksX3_keep_3 5 rfl rfl)
theorem dX3_keep_78 : decode cX3_keep 78 = .ok (.iaload, 1) := dk_46 (dk_at dksX3_keep_3 6 rfl rfl)
theorem dX3_keep_79 : decode cX3_keep 79 = .ok (.if_icmp .eq 7, 3) := dk_159 0 7 (dk_at dksX3_keep_3 7 rfl rfl)
theorem dX3_keep_82 : decode cX3_keep 82 = .ok (.iconst 1, 1) := dk_4 (dk_at dksX3_keep_3 10 rfl rfl)
theorem dX3_keep_83 : decode cX3_keep 83 = .ok (.goto 4, 3) := dk_167 0 4 (dk_at dksX3_keep_3 11 rfl rfl)
theorem dX3_keep_86 : decode cX3_keep 86 = .ok (.iconst 0, 1) := dk_3 (dk_at dksX3_keep_3 14 rfl rfl)
theorem dX3_keep_87 : decode cX3_keep 87 = .ok (.istore 4, 2) := dk_54 4 (dk_at dksX3_keep_3 15 rfl rfl)
theorem dX3_keep_89 : decode cX3_keep 89 = .ok (.iconst 0, 1) := dk_3 (dk_at dksX3_keep_3 17 rfl rfl)
theorem dX3_keep_90 : decode cX3_keep 90 = .ok (.istore 5, 2) := dk_54 5 (dk_at dksX3_keep_3 18 rfl rfl)
theorem dX3_keep_92 : decode cX3_keep 92 = .ok (.iconst 0, 1) := dk_3 (dk_at dksX3_keep_3 20 rfl rfl)
theorem dX3_keep_93 : decode cX3_keep 93 = .ok (.istore 6, 2) := dk_54 6 (dk_at dksX3_keep_3 21 rfl rfl)
theorem dX3_keep_95 : decode cX3_keep 95 = .ok (.iload 6, 2) := dk_21 6 (dk_at dksX3_keep_4 0 rfl rfl)
theorem dX3_keep_97 : decode cX3_keep 97 = .ok (.aload_n 0, 1) := dk_42 (dk_at dksX3_keep_4 2 rfl rfl)
theorem dX3_keep_98 : decode cX3_keep 98 = .ok (.aload_n 0, 1) := dk_42 (dk_at dksX3_keep_4 3 rfl rfl)
theorem dX3_keep_99 : decode cX3_keep 99 = .ok (.getfield 19, 3) := dk_180 0 19 (dk_at dksX3_keep_4 4 rfl rfl)
theorem dX3_keep_102 : decode cX3_keep 102 = .ok (.iload_n 3, 1) := dk_29 (dk_at dksX3_keep_4 7 rfl rfl)
theorem dX3_keep_103 : decode cX3_keep 103 = .ok (.iaload, 1) := dk_46 (dk_at dksX3_keep_4 8 rfl rfl)
theorem dX3_keep_104 : decode cX3_keep 104 = .ok (.invokevirtual 247, 3) := dk_182 0 247 (dk_at dksX3_keep_4 9 rfl rfl)
theorem dX3_keep_107 : decode cX3_keep 107 = .ok (.if_icmp .ge 120, 3) := dk_162 0 120 (dk_at dksX3_keep_4 12 rfl rfl)
theorem dX3_keep_110 : decode cX3_keep 110 = .ok (.iload 4, 2) := dk_21 4 (dk_at dksX3_keep_4 15 rfl rfl)
theorem dX3_keep_112 : decode cX3_keep 112 = .ok (.istore 7, 2) := dk_54 7 (dk_at dksX3_keep_4 17 rfl rfl)
theorem dX3_keep_114 : decode cX3_keep 114 = .ok (.iload 6, 2) := dk_21 6 (dk_at dksX3_keep_4 19 rfl rfl)
theorem dX3_keep_116 : decode cX3_keep 116 = .ok (.aload_n 0, 1) := dk_42 (dk_at dksX3_keep_4 21 rfl rfl)
theorem dX3_keep_117 : decode cX3_keep 117 = .ok (.getfield 53, 3) := dk_180 0 53 (dk_at dksX3_keep_5 0 rfl rfl)
theorem dX3_keep_120 : decode cX3_keep 120 = .ok (.imul, 1) := dk_104 (dk_at dksX3_keep_5 3 rfl rfl)
theorem dX3_keep_121 : decode cX3_keep 121 = .ok (.istore 8, 2) := dk_54 8 (dk_at dksX3_keep_5 4 rfl rfl)
theorem dX3_keep_123 : decode cX3_keep 123 = .ok (.iload 8, 2) := dk_21 8 (dk_at dksX3_keep_5 6 rfl rfl)
theorem dX3_keep_125 : decode cX3_keep 125 = .ok (.aload_n 0, 1) := dk_42 (dk_at dksX3_keep_5 8 rfl rfl)
theorem dX3_keep_126 : decode cX3_keep 126 = .ok (.getfield 19, 3) := dk_180 0 19 (dk_at dksX3_keep_5 9 rfl rfl)
theorem dX3_keep_129 : decode cX3_keep 129 = .ok (.iload_n 3, 1) := dk_29 (dk_at dksX3_keep_5 12 rfl rfl)
theorem dX3_keep_130 : decode cX3_keep 130 = .ok (.iaload, 1) := dk_46 (dk_at dksX3_keep_5 13 rfl rfl)
theorem dX3_keep_131 : decode cX3_keep 131 = .ok (.if_icmp .ge 75, 3) := dk_162 0 75 (dk_at dksX3_keep_5 14 rfl rfl)
theorem dX3_keep_134 : decode cX3_keep 134 = .ok (.iload 8, 2) := dk_21 8 (dk_at dksX3_keep_5 17 rfl rfl)
theorem dX3_keep_136 : decode cX3_keep 136 = .ok (.iload 6, 2) := dk_21 6 (dk_at dksX3_keep_5 19 rfl rfl)
theorem dX3_keep_138 : decode cX3_keep 138 = .ok (.iconst 1, 1) := dk_4 (dk_at dksX3_keep_5 21 rfl rfl)
theorem dX3_keep_139 : decode cX3_keep 139 = .ok (.iadd, 1) := dk_96 (dk_at dksX3_keep_5 22 rfl rfl)
theorem dX3_keep_140 : decode cX3_keep 140 = .ok (.aload_n 0, 1) := dk_42 (dk_at dksX3_keep_5 23 rfl rfl)
theorem dX3_keep_141 : decode cX3_keep 141 = .ok (.getfield 53, 3) := dk_180 0 53 (dk_at dksX3_keep_6 0 rfl rfl)
theorem dX3_keep_144 : decode cX3_keep 144 = .ok (.imul, 1) := dk_104 (dk_at dksX3_keep_6 3 rfl rfl)
theorem dX3_keep_145 : decode cX3_keep 145 = .ok (.if_icmp .ge 61, 3) := dk_162 0 61 (dk_at dksX3_keep_6 4 rfl rfl)
theorem dX3_keep_148 : decode cX3_keep 148 = .ok (.iload 7, 2) := dk_21 7 (dk_at dksX3_keep_6 7 rfl rfl)
theorem dX3_keep_150 : decode cX3_keep 150 = .ok (.aload_n 0, 1) := dk_42 (dk_at dksX3_keep_6 9 rfl rfl)
theorem dX3_keep_151 : decode cX3_keep 151 = .ok (.getfield 47, 3) := dk_180 0 47 (dk_at dksX3_keep_6 10 rfl rfl)
theorem dX3_keep_154 : decode cX3_keep 154 = .ok (.bipush 40, 2) := dk_16 40 (dk_at dksX3_keep_6 13 rfl rfl)
theorem dX3_keep_156 : decode cX3_keep 156 = .ok (.iload_n 2, 1) := dk_28 (dk_at dksX3_keep_6 15 rfl rfl)
theorem dX3_keep_157 : decode cX3_keep 157 = .ok (.imul, 1) := dk_104 (dk_at dksX3_keep_6 16 rfl rfl)
theorem dX3_keep_158 : decode cX3_keep 158 = .ok (.iload 8, 2) := dk_21 8 (dk_at dksX3_keep_6 17 rfl rfl)
theorem dX3_keep_160 : decode cX3_keep 160 = .ok (.iadd, 1) := dk_96 (dk_at dksX3_keep_6 19 rfl rfl)
theorem dX3_keep_161 : decode cX3_keep 161 = .ok (.laload, 1) := dk_47 (dk_at dksX3_keep_6 20 rfl rfl)
theorem dX3_keep_162 : decode cX3_keep 162 = .ok (.aload_n 0, 1) := dk_42 (dk_at dksX3_keep_6 21 rfl rfl)
theorem dX3_keep_163 : decode cX3_keep 163 = .ok (.iload_n 3, 1) := dk_29 (dk_at dksX3_keep_6 22 rfl rfl)
theorem dX3_keep_164 : decode cX3_keep 164 = .ok (.iload 8, 2) := dk_21 8 (dk_at dksX3_keep_7 0 rfl rfl)
theorem dX3_keep_166 : decode cX3_keep 166 = .ok (.invokevirtual 71, 3) := dk_182 0 71 (dk_at dksX3_keep_7 2 rfl rfl)
theorem dX3_keep_169 : decode cX3_keep 169 = .ok (.lcmp, 1) := dk_148 (dk_at dksX3_keep_7 5 rfl rfl)
theorem dX3_keep_170 : decode cX3_keep 170 = .ok (.ifCond .eq 7, 3) := dk_153 0 7 (dk_at dksX3_keep_7 6 rfl rfl)
theorem dX3_keep_173 : decode cX3_keep 173 = .ok (.iconst 1, 1) := dk_4 (dk_at dksX3_keep_7 9 rfl rfl)
theorem dX3_keep_174 : decode cX3_keep 174 = .ok (.goto 4, 3) := dk_167 0 4 (dk_at dksX3_keep_7 10 rfl rfl)
theorem dX3_keep_177 : decode cX3_keep 177 = .ok (.iconst 0, 1) := dk_3 (dk_at dksX3_keep_7 13 rfl rfl)
theorem dX3_keep_178 : decode cX3_keep 178 = .ok (.ior, 1) := dk_128 (dk_at dksX3_keep_7 14 rfl rfl)
theorem dX3_keep_179 : decode cX3_keep 179 = .ok (.istore 7, 2) := dk_54 7 (dk_at dksX3_keep_7 15 rfl rfl)
theorem dX3_keep_181 : decode cX3_keep 181 = .ok (.aload_n 0, 1) := dk_42 (dk_at dksX3_keep_7 17 rfl rfl)
theorem dX3_keep_182 : decode cX3_keep 182 = .ok (.getfield 47, 3) := dk_180 0 47 (dk_at dksX3_keep_7 18 rfl rfl)
theorem dX3_keep_185 : decode cX3_keep 185 = .ok (.bipush 40, 2) := dk_16 40 (dk_at dksX3_keep_7 21 rfl rfl)
theorem dX3_keep_187 : decode cX3_keep 187 = .ok (.iload_n 2, 1) := dk_28 (dk_at dksX3_keep_7 23 rfl rfl)
theorem dX3_keep_188 : decode cX3_keep 188 = .ok (.imul, 1) := dk_104 (dk_at dksX3_keep_8 0 rfl rfl)
theorem dX3_keep_189 : decode cX3_keep 189 = .ok (.iload 8, 2) := dk_21 8 (dk_at dksX3_keep_8 1 rfl rfl)
theorem dX3_keep_191 : decode cX3_keep 191 = .ok (.iadd, 1) := dk_96 (dk_at dksX3_keep_8 3 rfl rfl)
theorem dX3_keep_192 : decode cX3_keep 192 = .ok (.aload_n 0, 1) := dk_42 (dk_at dksX3_keep_8 4 rfl rfl)
theorem dX3_keep_193 : decode cX3_keep 193 = .ok (.iload_n 3, 1) := dk_29 (dk_at dksX3_keep_8 5 rfl rfl)
theorem dX3_keep_194 : decode cX3_keep 194 = .ok (.iload 8, 2) := dk_21 8 (dk_at dksX3_keep_8 6 rfl rfl)
theorem dX3_keep_196 : decode cX3_keep 196 = .ok (.invokevirtual 71, 3) := dk_182 0 71 (dk_at dksX3_keep_8 8 rfl rfl)
theorem dX3_keep_199 : decode cX3_keep 199 = .ok (.lastore, 1) := dk_80 (dk_at dksX3_keep_8 11 rfl rfl)
theorem dX3_keep_200 : decode cX3_keep 200 = .ok (.iinc 8 1, 3) := dk_132 8 1 (dk_at dksX3_keep_8 12 rfl rfl)
theorem dX3_keep_203 : decode cX3_keep 203 = .ok (.goto (-80), 3) := dk_167 255 176 (dk_at dksX3_keep_8 15 rfl rfl)
theorem dX3_keep_206 : decode cX3_keep 206 = .ok (.iload 5, 2) := dk_21 5 (dk_at dksX3_keep_8 18 rfl rfl)
theorem dX3_keep_208 : decode cX3_keep 208 = .ok (.iload 7, 2) := dk_21 7 (dk_at dksX3_keep_8 20 rfl rfl)
theorem dX3_keep_210 : decode cX3_keep 210 = .ok (.ifCond .eq 7, 3) := dk_153 0 7 (dk_at dksX3_keep_9 0 rfl rfl)
theorem dX3_keep_213 : decode cX3_keep 213 = .ok (.iconst 1, 1) := dk_4 (dk_at dksX3_keep_9 3 rfl rfl)
theorem dX3_keep_214 : decode cX3_keep 214 = .ok (.goto 4, 3) := dk_167 0 4 (dk_at dksX3_keep_9 4 rfl rfl)
theorem dX3_keep_217 : decode cX3_keep 217 = .ok (.iconst 0, 1) := dk_3 (dk_at dksX3_keep_9 7 rfl rfl)
theorem dX3_keep_218 : decode cX3_keep 218 = .ok (.iadd, 1) := dk_96 (dk_at dksX3_keep_9 8 rfl rfl)
theorem dX3_keep_219 : decode cX3_keep 219 = .ok (.istore 5, 2) := dk_54 5 (dk_at dksX3_keep_9 9 rfl rfl)
theorem dX3_keep_221 : decode cX3_keep 221 = .ok (.iinc 6 1, 3) := dk_132 6 1 (dk_at dksX3_keep_9 11 rfl rfl)
theorem dX3_keep_224 : decode cX3_keep 224 = .ok (.goto (-129), 3) := dk_167 255 127 (dk_at dksX3_keep_9 14 rfl rfl)
theorem dX3_keep_227 : decode cX3_keep 227 = .ok (.aload_n 0, 1) := dk_42 (dk_at dksX3_keep_9 17 rfl rfl)
theorem dX3_keep_228 : decode cX3_keep 228 = .ok (.getfield 38, 3) := dk_180 0 38 (dk_at dksX3_keep_9 18 rfl rfl)
theorem dX3_keep_231 : decode cX3_keep 231 = .ok (.iload_n 2, 1) := dk_28 (dk_at dksX3_keep_9 21 rfl rfl)
theorem dX3_keep_232 : decode cX3_keep 232 = .ok (.iconst 1, 1) := dk_4 (dk_at dksX3_keep_9 22 rfl rfl)
theorem dX3_keep_233 : decode cX3_keep 233 = .ok (.bastore, 1) := dk_84 (dk_at dksX3_keep_9 23 rfl rfl)
theorem dX3_keep_234 : decode cX3_keep 234 = .ok (.aload_n 0, 1) := dk_42 (dk_at dksX3_keep_10 0 rfl rfl)
theorem dX3_keep_235 : decode cX3_keep 235 = .ok (.getfield 41, 3) := dk_180 0 41 (dk_at dksX3_keep_10 1 rfl rfl)
theorem dX3_keep_238 : decode cX3_keep 238 = .ok (.iload_n 2, 1) := dk_28 (dk_at dksX3_keep_10 4 rfl rfl)
theorem dX3_keep_239 : decode cX3_keep 239 = .ok (.aload_n 0, 1) := dk_42 (dk_at dksX3_keep_10 5 rfl rfl)
theorem dX3_keep_240 : decode cX3_keep 240 = .ok (.getfield 16, 3) := dk_180 0 16 (dk_at dksX3_keep_10 6 rfl rfl)
theorem dX3_keep_243 : decode cX3_keep 243 = .ok (.iload_n 3, 1) := dk_29 (dk_at dksX3_keep_10 9 rfl rfl)
theorem dX3_keep_244 : decode cX3_keep 244 = .ok (.iaload, 1) := dk_46 (dk_at dksX3_keep_10 10 rfl rfl)
theorem dX3_keep_245 : decode cX3_keep 245 = .ok (.iastore, 1) := dk_79 (dk_at dksX3_keep_10 11 rfl rfl)
theorem dX3_keep_246 : decode cX3_keep 246 = .ok (.aload_n 0, 1) := dk_42 (dk_at dksX3_keep_10 12 rfl rfl)
theorem dX3_keep_247 : decode cX3_keep 247 = .ok (.getfield 44, 3) := dk_180 0 44 (dk_at dksX3_keep_10 13 rfl rfl)
theorem dX3_keep_250 : decode cX3_keep 250 = .ok (.iload_n 2, 1) := dk_28 (dk_at dksX3_keep_10 16 rfl rfl)
theorem dX3_keep_251 : decode cX3_keep 251 = .ok (.aload_n 0, 1) := dk_42 (dk_at dksX3_keep_10 17 rfl rfl)
theorem dX3_keep_252 : decode cX3_keep 252 = .ok (.getfield 19, 3) := dk_180 0 19 (dk_at dksX3_keep_10 18 rfl rfl)
theorem dX3_keep_255 : decode cX3_keep 255 = .ok (.iload_n 3, 1) := dk_29 (dk_at dksX3_keep_10 21 rfl rfl)
theorem dX3_keep_256 : decode cX3_keep 256 = .ok (.iaload, 1) := dk_46 (dk_at dksX3_keep_10 22 rfl rfl)
theorem dX3_keep_257 : decode cX3_keep 257 = .ok (.iastore, 1) := dk_79 (dk_at dksX3_keep_10 23 rfl rfl)
theorem dX3_keep_258 : decode cX3_keep 258 = .ok (.aload_n 0, 1) := dk_42 (dk_at dksX3_keep_11 0 rfl rfl)
theorem dX3_keep_259 : decode cX3_keep 259 = .ok (.getfield 50, 3) := dk_180 0 50 (dk_at dksX3_keep_11 1 rfl rfl)
theorem dX3_keep_262 : decode cX3_keep 262 = .ok (.iload_n 2, 1) := dk_28 (dk_at dksX3_keep_11 4 rfl rfl)
theorem dX3_keep_263 : decode cX3_keep 263 = .ok (.dup2, 1) := dk_92 (dk_at dksX3_keep_11 5 rfl rfl)
theorem dX3_keep_264 : decode cX3_keep 264 = .ok (.iaload, 1) := dk_46 (dk_at dksX3_keep_11 6 rfl rfl)
theorem dX3_keep_265 : decode cX3_keep 265 = .ok (.iload 5, 2) := dk_21 5 (dk_at dksX3_keep_11 7 rfl rfl)
theorem dX3_keep_267 : decode cX3_keep 267 = .ok (.iadd, 1) := dk_96 (dk_at dksX3_keep_11 9 rfl rfl)
theorem dX3_keep_268 : decode cX3_keep 268 = .ok (.iastore, 1) := dk_79 (dk_at dksX3_keep_11 10 rfl rfl)
theorem dX3_keep_269 : decode cX3_keep 269 = .ok (.iload 5, 2) := dk_21 5 (dk_at dksX3_keep_11 11 rfl rfl)
theorem dX3_keep_271 : decode cX3_keep 271 = .ok (.ireturn, 1) := dk_172 (dk_at dksX3_keep_11 13 rfl rfl)
abbrev cX3_blocks : ByteArray := prog_11_method_66_code
def yX3_blocks : MethodName := ⟨RX3, "blocks", "(I)I"⟩
def dkwX3_blocks_0 : List UInt8 := [27, 42, 180, 0, 53, 96, 4, 100, 42, 180, 0, 53, 108, 172]
abbrev dktX3_blocks_0 : List UInt8 := dkwX3_blocks_0 ++ []
theorem dksX3_blocks_0 : cX3_blocks.data.toList.drop 0 = dktX3_blocks_0 := by decide +kernel
theorem dX3_blocks_0 : decode cX3_blocks 0 = .ok (.iload_n 1, 1) := dk_27 (dk_at dksX3_blocks_0 0 rfl rfl)
theorem dX3_blocks_1 : decode cX3_blocks 1 = .ok (.aload_n 0, 1) := dk_42 (dk_at dksX3_blocks_0 1 rfl rfl)
theorem dX3_blocks_2 : decode cX3_blocks 2 = .ok (.getfield 53, 3) := dk_180 0 53 (dk_at dksX3_blocks_0 2 rfl rfl)
theorem dX3_blocks_5 : decode cX3_blocks 5 = .ok (.iadd, 1) := dk_96 (dk_at dksX3_blocks_0 5 rfl rfl)
theorem dX3_blocks_6 : decode cX3_blocks 6 = .ok (.iconst 1, 1) := dk_4 (dk_at dksX3_blocks_0 6 rfl rfl)
theorem dX3_blocks_7 : decode cX3_blocks 7 = .ok (.isub, 1) := dk_100 (dk_at dksX3_blocks_0 7 rfl rfl)
theorem dX3_blocks_8 : decode cX3_blocks 8 = .ok (.aload_n 0, 1) := dk_42 (dk_at dksX3_blocks_0 8 rfl rfl)
theorem dX3_blocks_9 : decode cX3_blocks 9 = .ok (.getfield 53, 3) := dk_180 0 53 (dk_at dksX3_blocks_0 9 rfl rfl)
theorem dX3_blocks_12 : decode cX3_blocks 12 = .ok (.idiv, 1) := dk_108 (dk_at dksX3_blocks_0 12 rfl rfl)
theorem dX3_blocks_13 : decode cX3_blocks 13 = .ok (.ireturn, 1) := dk_172 (dk_at dksX3_blocks_0 13 rfl rfl)
abbrev cX3_back : ByteArray := prog_11_method_68_code
def yX3_back : MethodName := ⟨RX3, "back", "(II)I"⟩
def dkwX3_back_4 : List UInt8 := [28, 16, 15, 126, 21, 4, 79, 42, 180, 0, 44, 29, 46, 172]
abbrev dktX3_back_4 : List UInt8 := dkwX3_back_4 ++ []
def dkwX3_back_3 : List UInt8 := [96, 42, 180, 0, 47, 16, 40, 29, 104, 21, 5, 96, 47, 80, 132, 5, 1, 167, 255, 217, 42, 180, 0, 13]
abbrev dktX3_back_3 : List UInt8 := dkwX3_back_3 ++ dktX3_back_4
def dkwX3_back_2 : List UInt8 := [54, 5, 21, 5, 42, 180, 0, 44, 29, 46, 162, 0, 34, 42, 180, 0, 27, 16, 40, 21, 4, 104, 21, 5]
abbrev dktX3_back_2 : List UInt8 := dkwX3_back_2 ++ dktX3_back_3
def dkwX3_back_1 : List UInt8 := [42, 182, 0, 180, 42, 42, 180, 0, 41, 29, 46, 42, 180, 0, 44, 29, 46, 182, 0, 183, 54, 4, 3]
abbrev dktX3_back_1 : List UInt8 := dkwX3_back_1 ++ dktX3_back_2
def dkwX3_back_0 : List UInt8 := [42, 182, 0, 174, 27, 16, 15, 126, 62, 42, 180, 0, 38, 29, 51, 154, 0, 9, 42, 4, 182, 0, 177, 172]
abbrev dktX3_back_0 : List UInt8 := dkwX3_back_0 ++ dktX3_back_1
theorem dksX3_back_0 : cX3_back.data.toList.drop 0 = dktX3_back_0 := by decide +kernel
theorem dksX3_back_1 : cX3_back.data.toList.drop 24 = dktX3_back_1 := dk_seg dksX3_back_0 24 rfl rfl
theorem dksX3_back_2 : cX3_back.data.toList.drop 47 = dktX3_back_2 := dk_seg dksX3_back_1 23 rfl rfl
theorem dksX3_back_3 : cX3_back.data.toList.drop 71 = dktX3_back_3 := dk_seg dksX3_back_2 24 rfl rfl
theorem dksX3_back_4 : cX3_back.data.toList.drop 95 = dktX3_back_4 := dk_seg dksX3_back_3 24 rfl rfl
theorem dX3_back_0 : decode cX3_back 0 = .ok (.aload_n 0, 1) := dk_42 (dk_at dksX3_back_0 0 rfl rfl)
theorem dX3_back_1 : decode cX3_back 1 = .ok (.invokevirtual 174, 3) := dk_182 0 174 (dk_at dksX3_back_0 1 rfl rfl)
theorem dX3_back_4 : decode cX3_back 4 = .ok (.iload_n 1, 1) := dk_27 (dk_at dksX3_back_0 4 rfl rfl)
theorem dX3_back_5 : decode cX3_back 5 = .ok (.bipush 15, 2) := dk_16 15 (dk_at dksX3_back_0 5 rfl rfl)
theorem dX3_back_7 : decode cX3_back 7 = .ok (.iand, 1) := dk_126 (dk_at dksX3_back_0 7 rfl rfl)
theorem dX3_back_8 : decode cX3_back 8 = .ok (.istore_n 3, 1) := dk_62 (dk_at dksX3_back_0 8 rfl rfl)
theorem dX3_back_9 : decode cX3_back 9 = .ok (.aload_n 0, 1) := dk_42 (dk_at dksX3_back_0 9 rfl rfl)
theorem dX3_back_10 : decode cX3_back 10 = .ok (.getfield 38, 3) := dk_180 0 38 (dk_at dksX3_back_0 10 rfl rfl)
theorem dX3_back_13 : decode cX3_back 13 = .ok (.iload_n 3, 1) := dk_29 (dk_at dksX3_back_0 13 rfl rfl)
theorem dX3_back_14 : decode cX3_back 14 = .ok (.baload, 1) := dk_51 (dk_at dksX3_back_0 14 rfl rfl)
theorem dX3_back_15 : decode cX3_back 15 = .ok (.ifCond .ne 9, 3) := dk_154 0 9 (dk_at dksX3_back_0 15 rfl rfl)
theorem dX3_back_18 : decode cX3_back 18 = .ok (.aload_n 0, 1) := dk_42 (dk_at dksX3_back_0 18 rfl rfl)
theorem dX3_back_19 : decode cX3_back 19 = .ok (.iconst 1, 1) := dk_4 (dk_at dksX3_back_0 19 rfl rfl)
theorem dX3_back_20 : decode cX3_back 20 = .ok (.invokevirtual 177, 3) := dk_182 0 177 (dk_at dksX3_back_0 20 rfl rfl)
theorem dX3_back_23 : decode cX3_back 23 = .ok (.ireturn, 1) := dk_172 (dk_at dksX3_back_0 23 rfl rfl)
theorem dX3_back_24 : decode cX3_back 24 = .ok (.aload_n 0, 1) := dk_42 (dk_at dksX3_back_1 0 rfl rfl)
theorem dX3_back_25 : decode cX3_back 25 = .ok (.invokevirtual 180, 3) := dk_182 0 180 (dk_at dksX3_back_1 1 rfl rfl)
theorem dX3_back_28 : decode cX3_back 28 = .ok (.aload_n 0, 1) := dk_42 (dk_at dksX3_back_1 4 rfl rfl)
theorem dX3_back_29 : decode cX3_back 29 = .ok (.aload_n 0, 1) := dk_42 (dk_at dksX3_back_1 5 rfl rfl)
theorem dX3_back_30 : decode cX3_back 30 = .ok (.getfield 41, 3) := dk_180 0 41 (dk_at dksX3_back_1 6 rfl rfl)
theorem dX3_back_33 : decode cX3_back 33 = .ok (.iload_n 3, 1) := dk_29 (dk_at dksX3_back_1 9 rfl rfl)
theorem dX3_back_34 : decode cX3_back 34 = .ok (.iaload, 1) := dk_46 (dk_at dksX3_back_1 10 rfl rfl)
theorem dX3_back_35 : decode cX3_back 35 = .ok (.aload_n 0, 1) := dk_42 (dk_at dksX3_back_1 11 rfl rfl)
theorem dX3_back_36 : decode cX3_back 36 = .ok (.getfield 44, 3) := dk_180 0 44 (dk_at dksX3_back_1 12 rfl rfl)
theorem dX3_back_39 : decode cX3_back 39 = .ok (.iload_n 3, 1) := dk_29 (dk_at dksX3_back_1 15 rfl rfl)
theorem dX3_back_40 : decode cX3_back 40 = .ok (.iaload, 1) := dk_46 (dk_at dksX3_back_1 16 rfl rfl)
theorem dX3_back_41 : decode cX3_back 41 = .ok (.invokevirtual 183, 3) := dk_182 0 183 (dk_at dksX3_back_1 17 rfl rfl)
theorem dX3_back_44 : decode cX3_back 44 = .ok (.istore 4, 2) := dk_54 4 (dk_at dksX3_back_1 20 rfl rfl)
theorem dX3_back_46 : decode cX3_back 46 = .ok (.iconst 0, 1) := dk_3 (dk_at dksX3_back_1 22 rfl rfl)
theorem dX3_back_47 : decode cX3_back 47 = .ok (.istore 5, 2) := dk_54 5 (dk_at dksX3_back_2 0 rfl rfl)
theorem dX3_back_49 : decode cX3_back 49 = .ok (.iload 5, 2) := dk_21 5 (dk_at dksX3_back_2 2 rfl rfl)
theorem dX3_back_51 : decode cX3_back 51 = .ok (.aload_n 0, 1) := dk_42 (dk_at dksX3_back_2 4 rfl rfl)
theorem dX3_back_52 : decode cX3_back 52 = .ok (.getfield 44, 3) := dk_180 0 44 (dk_at dksX3_back_2 5 rfl rfl)
theorem dX3_back_55 : decode cX3_back 55 = .ok (.iload_n 3, 1) := dk_29 (dk_at dksX3_back_2 8 rfl rfl)
theorem dX3_back_56 : decode cX3_back 56 = .ok (.iaload, 1) := dk_46 (dk_at dksX3_back_2 9 rfl rfl)
theorem dX3_back_57 : decode cX3_back 57 = .ok (.if_icmp .ge 34, 3) := dk_162 0 34 (dk_at dksX3_back_2 10 rfl rfl)
theorem dX3_back_60 : decode cX3_back 60 = .ok (.aload_n 0, 1) := dk_42 (dk_at dksX3_back_2 13 rfl rfl)
theorem dX3_back_61 : decode cX3_back 61 = .ok (.getfield 27, 3) := dk_180 0 27 (dk_at dksX3_back_2 14 rfl rfl)
theorem dX3_back_64 : decode cX3_back 64 = .ok (.bipush 40, 2) := dk_16 40 (dk_at dksX3_back_2 17 rfl rfl)
theorem dX3_back_66 : decode cX3_back 66 = .ok (.iload 4, 2) := dk_21 4 (dk_at dksX3_back_2 19 rfl rfl)
theorem dX3_back_68 : decode cX3_back 68 = .ok (.imul, 1) := dk_104 (dk_at dksX3_back_2 21 rfl rfl)
theorem dX3_back_69 : decode cX3_back 69 = .ok (.iload 5, 2) := dk_21 5 (dk_at dksX3_back_2 22 rfl rfl)
theorem dX3_back_71 : decode cX3_back 71 = .ok (.iadd, 1) := dk_96 (dk_at dksX3_back_3 0 rfl rfl)
theorem dX3_back_72 : decode cX3_back 72 = .ok (.aload_n 0, 1) := dk_42 (dk_at dksX3_back_3 1 rfl rfl)
theorem dX3_back_73 : decode cX3_back 73 = .ok (.getfield 47, 3) := dk_180 0 47 (dk_at dksX3_back_3 2 rfl rfl)
theorem dX3_back_76 : decode cX3_back 76 = .ok (.bipush 40, 2) := dk_16 40 (dk_at dksX3_back_3 5 rfl rfl)
theorem dX3_back_78 : decode cX3_back 78 = .ok (.iload_n 3, 1) := dk_29 (dk_at dksX3_back_3 7 rfl rfl)
theorem dX3_back_79 : decode cX3_back 79 = .ok (.imul, 1) := dk_104 (dk_at dksX3_back_3 8 rfl rfl)
theorem dX3_back_80 : decode cX3_back 80 = .ok (.iload 5, 2) := dk_21 5 (dk_at dksX3_back_3 9 rfl rfl)
theorem dX3_back_82 : decode cX3_back 82 = .ok (.iadd, 1) := dk_96 (dk_at dksX3_back_3 11 rfl rfl)
theorem dX3_back_83 : decode cX3_back 83 = .ok (.laload, 1) := dk_47 (dk_at dksX3_back_3 12 rfl rfl)
theorem dX3_back_84 : decode cX3_back 84 = .ok (.lastore, 1) := dk_80 (dk_at dksX3_back_3 13 rfl rfl)
theorem dX3_back_85 : decode cX3_back 85 = .ok (.iinc 5 1, 3) := dk_132 5 1 (dk_at dksX3_back_3 14 rfl rfl)
theorem dX3_back_88 : decode cX3_back 88 = .ok (.goto (-39), 3) := dk_167 255 217 (dk_at dksX3_back_3 17 rfl rfl)
theorem dX3_back_91 : decode cX3_back 91 = .ok (.aload_n 0, 1) := dk_42 (dk_at dksX3_back_3 20 rfl rfl)
theorem dX3_back_92 : decode cX3_back 92 = .ok (.getfield 13, 3) := dk_180 0 13 (dk_at dksX3_back_3 21 rfl rfl)
theorem dX3_back_95 : decode cX3_back 95 = .ok (.iload_n 2, 1) := dk_28 (dk_at dksX3_back_4 0 rfl rfl)
theorem dX3_back_96 : decode cX3_back 96 = .ok (.bipush 15, 2) := dk_16 15 (dk_at dksX3_back_4 1 rfl rfl)
theorem dX3_back_98 : decode cX3_back 98 = .ok (.iand, 1) := dk_126 (dk_at dksX3_back_4 3 rfl rfl)
theorem dX3_back_99 : decode cX3_back 99 = .ok (.iload 4, 2) := dk_21 4 (dk_at dksX3_back_4 4 rfl rfl)
theorem dX3_back_101 : decode cX3_back 101 = .ok (.iastore, 1) := dk_79 (dk_at dksX3_back_4 6 rfl rfl)
theorem dX3_back_102 : decode cX3_back 102 = .ok (.aload_n 0, 1) := dk_42 (dk_at dksX3_back_4 7 rfl rfl)
theorem dX3_back_103 : decode cX3_back 103 = .ok (.getfield 44, 3) := dk_180 0 44 (dk_at dksX3_back_4 8 rfl rfl)
theorem dX3_back_106 : decode cX3_back 106 = .ok (.iload_n 3, 1) := dk_29 (dk_at dksX3_back_4 11 rfl rfl)
theorem dX3_back_107 : decode cX3_back 107 = .ok (.iaload, 1) := dk_46 (dk_at dksX3_back_4 12 rfl rfl)
theorem dX3_back_108 : decode cX3_back 108 = .ok (.ireturn, 1) := dk_172 (dk_at dksX3_back_4 13 rfl rfl)
abbrev cX3_leaf : ByteArray := prog_11_method_69_code
def yX3_leaf : MethodName := ⟨RX3, "leaf", "(II)I"⟩
def dkwX3_leaf_5 : List UInt8 := [172, 42, 4, 182, 0, 177, 172]
abbrev dktX3_leaf_5 : List UInt8 := dkwX3_leaf_5 ++ []
def dkwX3_leaf_4 : List UInt8 := [153, 0, 16, 42, 42, 180, 0, 44, 29, 46, 182, 0, 247, 167, 0, 4, 3, 172, 42, 180, 0, 50, 29, 46]
abbrev dktX3_leaf_4 : List UInt8 := dkwX3_leaf_4 ++ dktX3_leaf_5
def dkwX3_leaf_3 : List UInt8 := [29, 51, 153, 0, 12, 42, 180, 0, 44, 29, 46, 167, 0, 4, 3, 172, 42, 180, 0, 38, 29, 51]
abbrev dktX3_leaf_3 : List UInt8 := dkwX3_leaf_3 ++ dktX3_leaf_4
def dkwX3_leaf_2 : List UInt8 := [42, 180, 0, 38, 29, 51, 153, 0, 12, 42, 180, 0, 41, 29, 46, 167, 0, 4, 2, 172, 42, 180, 0, 38]
abbrev dktX3_leaf_2 : List UInt8 := dkwX3_leaf_2 ++ dktX3_leaf_3
def dkwX3_leaf_1 : List UInt8 := [170, 0, 0, 0, 0, 101, 0, 0, 0, 0, 0, 0, 0, 3, 0, 0, 0, 30, 0, 0, 0, 50, 0, 0, 0, 70, 0, 0, 0, 94]
abbrev dktX3_leaf_1 : List UInt8 := dkwX3_leaf_1 ++ dktX3_leaf_2
def dkwX3_leaf_0 : List UInt8 := [42, 182, 0, 174, 27, 16, 15, 126, 62, 28]
abbrev dktX3_leaf_0 : List UInt8 := dkwX3_leaf_0 ++ dktX3_leaf_1
theorem dksX3_leaf_0 : cX3_leaf.data.toList.drop 0 = dktX3_leaf_0 := by decide +kernel
theorem dksX3_leaf_1 : cX3_leaf.data.toList.drop 10 = dktX3_leaf_1 := dk_seg dksX3_leaf_0 10 rfl rfl
theorem dksX3_leaf_2 : cX3_leaf.data.toList.drop 40 = dktX3_leaf_2 := dk_seg dksX3_leaf_1 30 rfl rfl
theorem dksX3_leaf_3 : cX3_leaf.data.toList.drop 64 = dktX3_leaf_3 := dk_seg dksX3_leaf_2 24 rfl rfl
theorem dksX3_leaf_4 : cX3_leaf.data.toList.drop 86 = dktX3_leaf_4 := dk_seg dksX3_leaf_3 22 rfl rfl
theorem dksX3_leaf_5 : cX3_leaf.data.toList.drop 110 = dktX3_leaf_5 := dk_seg dksX3_leaf_4 24 rfl rfl
theorem dX3_leaf_0 : decode cX3_leaf 0 = .ok (.aload_n 0, 1) := dk_42 (dk_at dksX3_leaf_0 0 rfl rfl)
theorem dX3_leaf_1 : decode cX3_leaf 1 = .ok (.invokevirtual 174, 3) := dk_182 0 174 (dk_at dksX3_leaf_0 1 rfl rfl)
theorem dX3_leaf_4 : decode cX3_leaf 4 = .ok (.iload_n 1, 1) := dk_27 (dk_at dksX3_leaf_0 4 rfl rfl)
theorem dX3_leaf_5 : decode cX3_leaf 5 = .ok (.bipush 15, 2) := dk_16 15 (dk_at dksX3_leaf_0 5 rfl rfl)
theorem dX3_leaf_7 : decode cX3_leaf 7 = .ok (.iand, 1) := dk_126 (dk_at dksX3_leaf_0 7 rfl rfl)
theorem dX3_leaf_8 : decode cX3_leaf 8 = .ok (.istore_n 3, 1) := dk_62 (dk_at dksX3_leaf_0 8 rfl rfl)
theorem dX3_leaf_9 : decode cX3_leaf 9 = .ok (.iload_n 2, 1) := dk_28 (dk_at dksX3_leaf_0 9 rfl rfl)
theorem dX3_leaf_10 : decode cX3_leaf 10 = .ok (.tableswitch 101 0 3 #[30, 50, 70, 94], 30) := by decide +kernel
theorem dX3_leaf_40 : decode cX3_leaf 40 = .ok (.aload_n 0, 1) := dk_42 (dk_at dksX3_leaf_2 0 rfl rfl)
theorem dX3_leaf_41 : decode cX3_leaf 41 = .ok (.getfield 38, 3) := dk_180 0 38 (dk_at dksX3_leaf_2 1 rfl rfl)
theorem dX3_leaf_44 : decode cX3_leaf 44 = .ok (.iload_n 3, 1) := dk_29 (dk_at dksX3_leaf_2 4 rfl rfl)
theorem dX3_leaf_45 : decode cX3_leaf 45 = .ok (.baload, 1) := dk_51 (dk_at dksX3_leaf_2 5 rfl rfl)
theorem dX3_leaf_46 : decode cX3_leaf 46 = .ok (.ifCond .eq 12, 3) := dk_153 0 12 (dk_at dksX3_leaf_2 6 rfl rfl)
theorem dX3_leaf_49 : decode cX3_leaf 49 = .ok (.aload_n 0, 1) := dk_42 (dk_at dksX3_leaf_2 9 rfl rfl)
theorem dX3_leaf_50 : decode cX3_leaf 50 = .ok (.getfield 41, 3) := dk_180 0 41 (dk_at dksX3_leaf_2 10 rfl rfl)
theorem dX3_leaf_53 : decode cX3_leaf 53 = .ok (.iload_n 3, 1) := dk_29 (dk_at dksX3_leaf_2 13 rfl rfl)
theorem dX3_leaf_54 : decode cX3_leaf 54 = .ok (.iaload, 1) := dk_46 (dk_at dksX3_leaf_2 14 rfl rfl)
theorem dX3_leaf_55 : decode cX3_leaf 55 = .ok (.goto 4, 3) := dk_167 0 4 (dk_at dksX3_leaf_2 15 rfl rfl)
theorem dX3_leaf_58 : decode cX3_leaf 58 = .ok (.iconst (-1), 1) := dk_2 (dk_at dksX3_leaf_2 18 rfl rfl)
theorem dX3_leaf_59 : decode cX3_leaf 59 = .ok (.ireturn, 1) := dk_172 (dk_at dksX3_leaf_2 19 rfl rfl)
theorem dX3_leaf_60 : decode cX3_leaf 60 = .ok (.aload_n 0, 1) := dk_42 (dk_at dksX3_leaf_2 20 rfl rfl)
theorem dX3_leaf_61 : decode cX3_leaf 61 = .ok (.getfield 38, 3) := dk_180 0 38 (dk_at dksX3_leaf_2 21 rfl rfl)
theorem dX3_leaf_64 : decode cX3_leaf 64 = .ok (.iload_n 3, 1) := dk_29 (dk_at dksX3_leaf_3 0 rfl rfl)
theorem dX3_leaf_65 : decode cX3_leaf 65 = .ok (.baload, 1) := dk_51 (dk_at dksX3_leaf_3 1 rfl rfl)
theorem dX3_leaf_66 : decode cX3_leaf 66 = .ok (.ifCond .eq 12, 3) := dk_153 0 12 (dk_at dksX3_leaf_3 2 rfl rfl)
theorem dX3_leaf_69 : decode cX3_leaf 69 = .ok (.aload_n 0, 1) := dk_42 (dk_at dksX3_leaf_3 5 rfl rfl)
theorem dX3_leaf_70 : decode cX3_leaf 70 = .ok (.getfield 44, 3) := dk_180 0 44 (dk_at dksX3_leaf_3 6 rfl rfl)
theorem dX3_leaf_73 : decode cX3_leaf 73 = .ok (.iload_n 3, 1) := dk_29 (dk_at dksX3_leaf_3 9 rfl rfl)
theorem dX3_leaf_74 : decode cX3_leaf 74 = .ok (.iaload, 1) := dk_46 (dk_at dksX3_leaf_3 10 rfl rfl)
theorem dX3_leaf_75 : decode cX3_leaf 75 = .ok (.goto 4, 3) := dk_167 0 4 (dk_at dksX3_leaf_3 11 rfl rfl)
theorem dX3_leaf_78 : decode cX3_leaf 78 = .ok (.iconst 0, 1) := dk_3 (dk_at dksX3_leaf_3 14 rfl rfl)
theorem dX3_leaf_79 : decode cX3_leaf 79 = .ok (.ireturn, 1) := dk_172 (dk_at dksX3_leaf_3 15 rfl rfl)
theorem dX3_leaf_80 : decode cX3_leaf 80 = .ok (.aload_n 0, 1) := dk_42 (dk_at dksX3_leaf_3 16 rfl rfl)
theorem dX3_leaf_81 : decode cX3_leaf 81 = .ok (.getfield 38, 3) := dk_180 0 38 (dk_at dksX3_leaf_3 17 rfl rfl)
theorem dX3_leaf_84 : decode cX3_leaf 84 = .ok (.iload_n 3, 1) := dk_29 (dk_at dksX3_leaf_3 20 rfl rfl)
theorem dX3_leaf_85 : decode cX3_leaf 85 = .ok (.baload, 1) := dk_51 (dk_at dksX3_leaf_3 21 rfl rfl)
theorem dX3_leaf_86 : decode cX3_leaf 86 = .ok (.ifCond .eq 16, 3) := dk_153 0 16 (dk_at dksX3_leaf_4 0 rfl rfl)
theorem dX3_leaf_89 : decode cX3_leaf 89 = .ok (.aload_n 0, 1) := dk_42 (dk_at dksX3_leaf_4 3 rfl rfl)
theorem dX3_leaf_90 : decode cX3_leaf 90 = .ok (.aload_n 0, 1) := dk_42 (dk_at dksX3_leaf_4 4 rfl rfl)
theorem dX3_leaf_91 : decode cX3_leaf 91 = .ok (.getfield 44, 3) := dk_180 0 44 (dk_at dksX3_leaf_4 5 rfl rfl)
theorem dX3_leaf_94 : decode cX3_leaf 94 = .ok (.iload_n 3, 1) := dk_29 (dk_at dksX3_leaf_4 8 rfl rfl)
theorem dX3_leaf_95 : decode cX3_leaf 95 = .ok (.iaload, 1) := dk_46 (dk_at dksX3_leaf_4 9 rfl rfl)
theorem dX3_leaf_96 : decode cX3_leaf 96 = .ok (.invokevirtual 247, 3) := dk_182 0 247 (dk_at dksX3_leaf_4 10 rfl rfl)
theorem dX3_leaf_99 : decode cX3_leaf 99 = .ok (.goto 4, 3) := dk_167 0 4 (dk_at dksX3_leaf_4 13 rfl rfl)
theorem dX3_leaf_102 : decode cX3_leaf 102 = .ok (.iconst 0, 1) := dk_3 (dk_at dksX3_leaf_4 16 rfl rfl)
theorem dX3_leaf_103 : decode cX3_leaf 103 = .ok (.ireturn, 1) := dk_172 (dk_at dksX3_leaf_4 17 rfl rfl)
theorem dX3_leaf_104 : decode cX3_leaf 104 = .ok (.aload_n 0, 1) := dk_42 (dk_at dksX3_leaf_4 18 rfl rfl)
theorem dX3_leaf_105 : decode cX3_leaf 105 = .ok (.getfield 50, 3) := dk_180 0 50 (dk_at dksX3_leaf_4 19 rfl rfl)
theorem dX3_leaf_108 : decode cX3_leaf 108 = .ok (.iload_n 3, 1) := dk_29 (dk_at dksX3_leaf_4 22 rfl rfl)
theorem dX3_leaf_109 : decode cX3_leaf 109 = .ok (.iaload, 1) := dk_46 (dk_at dksX3_leaf_4 23 rfl rfl)
theorem dX3_leaf_110 : decode cX3_leaf 110 = .ok (.ireturn, 1) := dk_172 (dk_at dksX3_leaf_5 0 rfl rfl)
theorem dX3_leaf_111 : decode cX3_leaf 111 = .ok (.aload_n 0, 1) := dk_42 (dk_at dksX3_leaf_5 1 rfl rfl)
theorem dX3_leaf_112 : decode cX3_leaf 112 = .ok (.iconst 1, 1) := dk_4 (dk_at dksX3_leaf_5 2 rfl rfl)
theorem dX3_leaf_113 : decode cX3_leaf 113 = .ok (.invokevirtual 177, 3) := dk_182 0 177 (dk_at dksX3_leaf_5 3 rfl rfl)
theorem dX3_leaf_116 : decode cX3_leaf 116 = .ok (.ireturn, 1) := dk_172 (dk_at dksX3_leaf_5 6 rfl rfl)
abbrev cX3_leafAt : ByteArray := prog_11_method_70_code
def yX3_leafAt : MethodName := ⟨RX3, "leafAt", "(II)J"⟩
def dkwX3_leafAt_2 : List UInt8 := [96, 47, 167, 0, 9, 42, 5, 182, 0, 177, 133, 173]
abbrev dktX3_leafAt_2 : List UInt8 := dkwX3_leafAt_2 ++ []
def dkwX3_leafAt_1 : List UInt8 := [173, 28, 155, 0, 27, 28, 42, 180, 0, 44, 29, 46, 162, 0, 17, 42, 180, 0, 47, 16, 40, 29, 104, 28]
abbrev dktX3_leafAt_1 : List UInt8 := dkwX3_leafAt_1 ++ dktX3_leafAt_2
def dkwX3_leafAt_0 : List UInt8 := [42, 182, 0, 174, 27, 16, 15, 126, 62, 42, 180, 0, 38, 29, 51, 154, 0, 10, 42, 4, 182, 0, 177, 133]
abbrev dktX3_leafAt_0 : List UInt8 := dkwX3_leafAt_0 ++ dktX3_leafAt_1
theorem dksX3_leafAt_0 : cX3_leafAt.data.toList.drop 0 = dktX3_leafAt_0 := by decide +kernel
theorem dksX3_leafAt_1 : cX3_leafAt.data.toList.drop 24 = dktX3_leafAt_1 := dk_seg dksX3_leafAt_0 24 rfl rfl
theorem dksX3_leafAt_2 : cX3_leafAt.data.toList.drop 48 = dktX3_leafAt_2 := dk_seg dksX3_leafAt_1 24 rfl rfl
theorem dX3_leafAt_0 : decode cX3_leafAt 0 = .ok (.aload_n 0, 1) := dk_42 (dk_at dksX3_leafAt_0 0 rfl rfl)
theorem dX3_leafAt_1 : decode cX3_leafAt 1 = .ok (.invokevirtual 174, 3) := dk_182 0 174 (dk_at dksX3_leafAt_0 1 rfl rfl)
theorem dX3_leafAt_4 : decode cX3_leafAt 4 = .ok (.iload_n 1, 1) := dk_27 (dk_at dksX3_leafAt_0 4 rfl rfl)
theorem dX3_leafAt_5 : decode cX3_leafAt 5 = .ok (.bipush 15, 2) := dk_16 15 (dk_at dksX3_leafAt_0 5 rfl rfl)
theorem dX3_leafAt_7 : decode cX3_leafAt 7 = .ok (.iand, 1) := dk_126 (dk_at dksX3_leafAt_0 7 rfl rfl)
theorem dX3_leafAt_8 : decode cX3_leafAt 8 = .ok (.istore_n 3, 1) := dk_62 (dk_at dksX3_leafAt_0 8 rfl rfl)
theorem dX3_leafAt_9 : decode cX3_leafAt 9 = .ok (.aload_n 0, 1) := dk_42 (dk_at dksX3_leafAt_0 9 rfl rfl)
theorem dX3_leafAt_10 : decode cX3_leafAt 10 = .ok (.getfield 38, 3) := dk_180 0 38 (dk_at dksX3_leafAt_0 10 rfl rfl)
theorem dX3_leafAt_13 : decode cX3_leafAt 13 = .ok (.iload_n 3, 1) := dk_29 (dk_at dksX3_leafAt_0 13 rfl rfl)
theorem dX3_leafAt_14 : decode cX3_leafAt 14 = .ok (.baload, 1) := dk_51 (dk_at dksX3_leafAt_0 14 rfl rfl)
theorem dX3_leafAt_15 : decode cX3_leafAt 15 = .ok (.ifCond .ne 10, 3) := dk_154 0 10 (dk_at dksX3_leafAt_0 15 rfl rfl)
theorem dX3_leafAt_18 : decode cX3_leafAt 18 = .ok (.aload_n 0, 1) := dk_42 (dk_at dksX3_leafAt_0 18 rfl rfl)
theorem dX3_leafAt_19 : decode cX3_leafAt 19 = .ok (.iconst 1, 1) := dk_4 (dk_at dksX3_leafAt_0 19 rfl rfl)
theorem dX3_leafAt_20 : decode cX3_leafAt 20 = .ok (.invokevirtual 177, 3) := dk_182 0 177 (dk_at dksX3_leafAt_0 20 rfl rfl)
theorem dX3_leafAt_23 : decode cX3_leafAt 23 = .ok (.i2l, 1) := dk_133 (dk_at dksX3_leafAt_0 23 rfl rfl)
theorem dX3_leafAt_24 : decode cX3_leafAt 24 = .ok (.lreturn, 1) := dk_173 (dk_at dksX3_leafAt_1 0 rfl rfl)
theorem dX3_leafAt_25 : decode cX3_leafAt 25 = .ok (.iload_n 2, 1) := dk_28 (dk_at dksX3_leafAt_1 1 rfl rfl)
theorem dX3_leafAt_26 : decode cX3_leafAt 26 = .ok (.ifCond .lt 27, 3) := dk_155 0 27 (dk_at dksX3_leafAt_1 2 rfl rfl)
theorem dX3_leafAt_29 : decode cX3_leafAt 29 = .ok (.iload_n 2, 1) := dk_28 (dk_at dksX3_leafAt_1 5 rfl rfl)
theorem dX3_leafAt_30 : decode cX3_leafAt 30 = .ok (.aload_n 0, 1) := dk_42 (dk_at dksX3_leafAt_1 6 rfl rfl)
theorem dX3_leafAt_31 : decode cX3_leafAt 31 = .ok (.getfield 44, 3) := dk_180 0 44 (dk_at dksX3_leafAt_1 7 rfl rfl)
theorem dX3_leafAt_34 : decode cX3_leafAt 34 = .ok (.iload_n 3, 1) := dk_29 (dk_at dksX3_leafAt_1 10 rfl rfl)
theorem dX3_leafAt_35 : decode cX3_leafAt 35 = .ok (.iaload, 1) := dk_46 (dk_at dksX3_leafAt_1 11 rfl rfl)
theorem dX3_leafAt_36 : decode cX3_leafAt 36 = .ok (.if_icmp .ge 17, 3) := dk_162 0 17 (dk_at dksX3_leafAt_1 12 rfl rfl)
theorem dX3_leafAt_39 : decode cX3_leafAt 39 = .ok (.aload_n 0, 1) := dk_42 (dk_at dksX3_leafAt_1 15 rfl rfl)
theorem dX3_leafAt_40 : decode cX3_leafAt 40 = .ok (.getfield 47, 3) := dk_180 0 47 (dk_at dksX3_leafAt_1 16 rfl rfl)
theorem dX3_leafAt_43 : decode cX3_leafAt 43 = .ok (.bipush 40, 2) := dk_16 40 (dk_at dksX3_leafAt_1 19 rfl rfl)
theorem dX3_leafAt_45 : decode cX3_leafAt 45 = .ok (.iload_n 3, 1) := dk_29 (dk_at dksX3_leafAt_1 21 rfl rfl)
theorem dX3_leafAt_46 : decode cX3_leafAt 46 = .ok (.imul, 1) := dk_104 (dk_at dksX3_leafAt_1 22 rfl rfl)
theorem dX3_leafAt_47 : decode cX3_leafAt 47 = .ok (.iload_n 2, 1) := dk_28 (dk_at dksX3_leafAt_1 23 rfl rfl)
theorem dX3_leafAt_48 : decode cX3_leafAt 48 = .ok (.iadd, 1) := dk_96 (dk_at dksX3_leafAt_2 0 rfl rfl)
theorem dX3_leafAt_49 : decode cX3_leafAt 49 = .ok (.laload, 1) := dk_47 (dk_at dksX3_leafAt_2 1 rfl rfl)
theorem dX3_leafAt_50 : decode cX3_leafAt 50 = .ok (.goto 9, 3) := dk_167 0 9 (dk_at dksX3_leafAt_2 2 rfl rfl)
theorem dX3_leafAt_53 : decode cX3_leafAt 53 = .ok (.aload_n 0, 1) := dk_42 (dk_at dksX3_leafAt_2 5 rfl rfl)
theorem dX3_leafAt_54 : decode cX3_leafAt 54 = .ok (.iconst 2, 1) := dk_5 (dk_at dksX3_leafAt_2 6 rfl rfl)
theorem dX3_leafAt_55 : decode cX3_leafAt 55 = .ok (.invokevirtual 177, 3) := dk_182 0 177 (dk_at dksX3_leafAt_2 7 rfl rfl)
theorem dX3_leafAt_58 : decode cX3_leafAt 58 = .ok (.i2l, 1) := dk_133 (dk_at dksX3_leafAt_2 10 rfl rfl)
theorem dX3_leafAt_59 : decode cX3_leafAt 59 = .ok (.lreturn, 1) := dk_173 (dk_at dksX3_leafAt_2 11 rfl rfl)
theorem q28 : (Jvm.Cond.initialized "MixedLeavesModel") ∈ lw_all := lw_g (lw_at lw_m1 4 rfl) rfl
theorem q853 : (Jvm.Cond.instantiable "MixedLeavesModel" (17 : Nat)) ∈ lw_all := lw_g (lw_at lw_m4 109 rfl) rfl
theorem q855 : (Jvm.Cond.instanceMethod ({ cls := "MixedLeavesModel", name := "<init>", desc := "(I)V" } : Jvm.MethodName)) ∈ lw_all := lw_g (lw_at lw_m4 111 rfl) rfl
theorem q856 : (Jvm.Cond.code ({ cls := "MixedLeavesModel", name := "<init>", desc := "(I)V" } : Jvm.MethodName) prog_11_method_1_code (2 : Nat) (Option.none : Option Jvm.ClassFile.FieldType)) ∈ lw_all := lw_g (lw_at lw_m4 112 rfl) rfl
theorem q857 : (Jvm.Cond.methodLink "MixedLeavesModel" (1 : Nat) ({ cls := "java/lang/Object", name := "<init>", desc := "()V" } : Jvm.MethodName)) ∈ lw_all := lw_g (lw_at lw_m4 113 rfl) rfl
theorem q858 : (Jvm.Cond.constant "MixedLeavesModel" (26 : Nat) (60000 : Int32)) ∈ lw_all := lw_g (lw_at lw_m4 114 rfl) rfl
theorem q859 : (Jvm.Cond.fieldLink "MixedLeavesModel" (53 : Nat) "MixedLeavesModel" "block" "I") ∈ lw_all := lw_g (lw_at lw_m4 115 rfl) rfl
theorem q860 : (Jvm.Cond.fieldLink "MixedLeavesModel" (56 : Nat) "MixedLeavesModel" "fault" "I") ∈ lw_all := lw_g (lw_at lw_m4 116 rfl) rfl
theorem q861 : (Jvm.Cond.fieldLink "MixedLeavesModel" (7 : Nat) "MixedLeavesModel" "faults" "[I") ∈ lw_all := lw_g (lw_at lw_m4 117 rfl) rfl
theorem q862 : (Jvm.Cond.fieldLink "MixedLeavesModel" (13 : Nat) "MixedLeavesModel" "holds" "[I") ∈ lw_all := lw_g (lw_at lw_m4 118 rfl) rfl
theorem q863 : (Jvm.Cond.fieldLink "MixedLeavesModel" (16 : Nat) "MixedLeavesModel" "kind" "[I") ∈ lw_all := lw_g (lw_at lw_m4 119 rfl) rfl
theorem q864 : (Jvm.Cond.fieldLink "MixedLeavesModel" (19 : Nat) "MixedLeavesModel" "length" "[I") ∈ lw_all := lw_g (lw_at lw_m4 120 rfl) rfl
theorem q865 : (Jvm.Cond.fieldLink "MixedLeavesModel" (22 : Nat) "MixedLeavesModel" "used" "[Z") ∈ lw_all := lw_g (lw_at lw_m4 121 rfl) rfl
theorem q866 : (Jvm.Cond.fieldLink "MixedLeavesModel" (27 : Nat) "MixedLeavesModel" "item" "[J") ∈ lw_all := lw_g (lw_at lw_m4 122 rfl) rfl
theorem q867 : (Jvm.Cond.fieldLink "MixedLeavesModel" (31 : Nat) "MixedLeavesModel" "free" "I") ∈ lw_all := lw_g (lw_at lw_m4 123 rfl) rfl
theorem q868 : (Jvm.Cond.fieldLink "MixedLeavesModel" (78 : Nat) "MixedLeavesModel" "at" "I") ∈ lw_all := lw_g (lw_at lw_m4 124 rfl) rfl
theorem q869 : (Jvm.Cond.fieldLink "MixedLeavesModel" (35 : Nat) "MixedLeavesModel" "middle" "[J") ∈ lw_all := lw_g (lw_at lw_m4 125 rfl) rfl
theorem q870 : (Jvm.Cond.fieldLink "MixedLeavesModel" (221 : Nat) "MixedLeavesModel" "trail" "I") ∈ lw_all := lw_g (lw_at lw_m4 126 rfl) rfl
theorem q871 : (Jvm.Cond.fieldLink "MixedLeavesModel" (38 : Nat) "MixedLeavesModel" "hasLeaf" "[Z") ∈ lw_all := lw_g (lw_at lw_m4 127 rfl) rfl
theorem q872 : (Jvm.Cond.fieldLink "MixedLeavesModel" (41 : Nat) "MixedLeavesModel" "leafKind" "[I") ∈ lw_all := lw_g (lw_at lw_m4 128 rfl) rfl
theorem q873 : (Jvm.Cond.fieldLink "MixedLeavesModel" (44 : Nat) "MixedLeavesModel" "leafLength" "[I") ∈ lw_all := lw_g (lw_at lw_m4 129 rfl) rfl
theorem q874 : (Jvm.Cond.fieldLink "MixedLeavesModel" (47 : Nat) "MixedLeavesModel" "leafItem" "[J") ∈ lw_all := lw_g (lw_at lw_m4 130 rfl) rfl
theorem q875 : (Jvm.Cond.fieldLink "MixedLeavesModel" (50 : Nat) "MixedLeavesModel" "written" "[I") ∈ lw_all := lw_g (lw_at lw_m4 131 rfl) rfl
theorem q876 : (Jvm.Cond.laysFinal "MixedLeavesModel" "MixedLeavesModel" "block" "I") ∈ lw_all := lw_g (lw_at lw_m4 132 rfl) rfl
theorem q877 : (Jvm.Cond.soleField "MixedLeavesModel" "block") ∈ lw_all := lw_g (lw_at lw_m4 133 rfl) rfl
theorem q878 : (Jvm.Cond.lays "MixedLeavesModel" "MixedLeavesModel" "fault" "I") ∈ lw_all := lw_g (lw_at lw_m4 134 rfl) rfl
theorem q879 : (Jvm.Cond.soleField "MixedLeavesModel" "fault") ∈ lw_all := lw_g (lw_at lw_m4 135 rfl) rfl
theorem q880 : (Jvm.Cond.laysFinal "MixedLeavesModel" "MixedLeavesModel" "faults" "[I") ∈ lw_all := lw_g (lw_at lw_m4 136 rfl) rfl
theorem q881 : (Jvm.Cond.soleField "MixedLeavesModel" "faults") ∈ lw_all := lw_g (lw_at lw_m4 137 rfl) rfl
theorem q882 : (Jvm.Cond.laysFinal "MixedLeavesModel" "MixedLeavesModel" "holds" "[I") ∈ lw_all := lw_g (lw_at lw_m4 138 rfl) rfl
theorem q883 : (Jvm.Cond.soleField "MixedLeavesModel" "holds") ∈ lw_all := lw_g (lw_at lw_m4 139 rfl) rfl
theorem q884 : (Jvm.Cond.laysFinal "MixedLeavesModel" "MixedLeavesModel" "kind" "[I") ∈ lw_all := lw_g (lw_at lw_m4 140 rfl) rfl
theorem q885 : (Jvm.Cond.soleField "MixedLeavesModel" "kind") ∈ lw_all := lw_g (lw_at lw_m4 141 rfl) rfl
theorem q886 : (Jvm.Cond.laysFinal "MixedLeavesModel" "MixedLeavesModel" "length" "[I") ∈ lw_all := lw_g (lw_at lw_m4 142 rfl) rfl
theorem q887 : (Jvm.Cond.soleField "MixedLeavesModel" "length") ∈ lw_all := lw_g (lw_at lw_m4 143 rfl) rfl
theorem q888 : (Jvm.Cond.laysFinal "MixedLeavesModel" "MixedLeavesModel" "used" "[Z") ∈ lw_all := lw_g (lw_at lw_m4 144 rfl) rfl
theorem q889 : (Jvm.Cond.soleField "MixedLeavesModel" "used") ∈ lw_all := lw_g (lw_at lw_m4 145 rfl) rfl
theorem q890 : (Jvm.Cond.laysFinal "MixedLeavesModel" "MixedLeavesModel" "item" "[J") ∈ lw_all := lw_g (lw_at lw_m4 146 rfl) rfl
theorem q891 : (Jvm.Cond.soleField "MixedLeavesModel" "item") ∈ lw_all := lw_g (lw_at lw_m4 147 rfl) rfl
theorem q892 : (Jvm.Cond.lays "MixedLeavesModel" "MixedLeavesModel" "free" "I") ∈ lw_all := lw_g (lw_at lw_m4 148 rfl) rfl
theorem q893 : (Jvm.Cond.soleField "MixedLeavesModel" "free") ∈ lw_all := lw_g (lw_at lw_m4 149 rfl) rfl
theorem q894 : (Jvm.Cond.lays "MixedLeavesModel" "MixedLeavesModel" "at" "I") ∈ lw_all := lw_g (lw_at lw_m4 150 rfl) rfl
theorem q895 : (Jvm.Cond.soleField "MixedLeavesModel" "at") ∈ lw_all := lw_g (lw_at lw_m4 151 rfl) rfl
theorem q896 : (Jvm.Cond.laysFinal "MixedLeavesModel" "MixedLeavesModel" "middle" "[J") ∈ lw_all := lw_g (lw_at lw_m4 152 rfl) rfl
theorem q897 : (Jvm.Cond.soleField "MixedLeavesModel" "middle") ∈ lw_all := lw_g (lw_at lw_m4 153 rfl) rfl
theorem q898 : (Jvm.Cond.lays "MixedLeavesModel" "MixedLeavesModel" "trail" "I") ∈ lw_all := lw_g (lw_at lw_m4 154 rfl) rfl
theorem q899 : (Jvm.Cond.soleField "MixedLeavesModel" "trail") ∈ lw_all := lw_g (lw_at lw_m4 155 rfl) rfl
theorem q900 : (Jvm.Cond.laysFinal "MixedLeavesModel" "MixedLeavesModel" "hasLeaf" "[Z") ∈ lw_all := lw_g (lw_at lw_m4 156 rfl) rfl
theorem q901 : (Jvm.Cond.soleField "MixedLeavesModel" "hasLeaf") ∈ lw_all := lw_g (lw_at lw_m4 157 rfl) rfl
theorem q902 : (Jvm.Cond.laysFinal "MixedLeavesModel" "MixedLeavesModel" "leafKind" "[I") ∈ lw_all := lw_g (lw_at lw_m4 158 rfl) rfl
theorem q903 : (Jvm.Cond.soleField "MixedLeavesModel" "leafKind") ∈ lw_all := lw_g (lw_at lw_m4 159 rfl) rfl
theorem q904 : (Jvm.Cond.laysFinal "MixedLeavesModel" "MixedLeavesModel" "leafLength" "[I") ∈ lw_all := lw_g (lw_at lw_m4 160 rfl) rfl
theorem q905 : (Jvm.Cond.soleField "MixedLeavesModel" "leafLength") ∈ lw_all := lw_g (lw_at lw_m4 161 rfl) rfl
theorem q906 : (Jvm.Cond.laysFinal "MixedLeavesModel" "MixedLeavesModel" "leafItem" "[J") ∈ lw_all := lw_g (lw_at lw_m4 162 rfl) rfl
theorem q907 : (Jvm.Cond.soleField "MixedLeavesModel" "leafItem") ∈ lw_all := lw_g (lw_at lw_m4 163 rfl) rfl
theorem q908 : (Jvm.Cond.laysFinal "MixedLeavesModel" "MixedLeavesModel" "written" "[I") ∈ lw_all := lw_g (lw_at lw_m4 164 rfl) rfl
theorem q909 : (Jvm.Cond.soleField "MixedLeavesModel" "written") ∈ lw_all := lw_g (lw_at lw_m4 165 rfl) rfl
theorem q910 : (Jvm.Cond.superclass "MixedLeavesModel" "java/lang/Object") ∈ lw_all := lw_g (lw_at lw_m4 166 rfl) rfl
theorem q912 : (Jvm.Cond.instanceMethod ({ cls := "MixedLeavesModel", name := "fault", desc := "()I" } : Jvm.MethodName)) ∈ lw_all := lw_g (lw_at lw_m4 168 rfl) rfl
theorem q913 : (Jvm.Cond.selects "MixedLeavesModel" ({ cls := "MixedLeavesModel", name := "fault", desc := "()I" } : Jvm.MethodName) ({ cls := "MixedLeavesModel", name := "fault", desc := "()I" } : Jvm.MethodName)) ∈ lw_all := lw_g (lw_at lw_m4 169 rfl) rfl
theorem q914 : (Jvm.Cond.code ({ cls := "MixedLeavesModel", name := "fault", desc := "()I" } : Jvm.MethodName) prog_11_method_3_code (1 : Nat) (Option.some Jvm.ClassFile.FieldType.int)) ∈ lw_all := lw_g (lw_at lw_m4 170 rfl) rfl
theorem q916 : (Jvm.Cond.instanceMethod ({ cls := "MixedLeavesModel", name := "faults", desc := "(I)I" } : Jvm.MethodName)) ∈ lw_all := lw_g (lw_at lw_m4 172 rfl) rfl
theorem q917 : (Jvm.Cond.selects "MixedLeavesModel" ({ cls := "MixedLeavesModel", name := "faults", desc := "(I)I" } : Jvm.MethodName) ({ cls := "MixedLeavesModel", name := "faults", desc := "(I)I" } : Jvm.MethodName)) ∈ lw_all := lw_g (lw_at lw_m4 173 rfl) rfl
theorem q918 : (Jvm.Cond.code ({ cls := "MixedLeavesModel", name := "faults", desc := "(I)I" } : Jvm.MethodName) prog_11_method_4_code (2 : Nat) (Option.some Jvm.ClassFile.FieldType.int)) ∈ lw_all := lw_g (lw_at lw_m4 174 rfl) rfl
theorem q920 : (Jvm.Cond.instanceMethod ({ cls := "MixedLeavesModel", name := "row", desc := "(III)I" } : Jvm.MethodName)) ∈ lw_all := lw_g (lw_at lw_m4 176 rfl) rfl
theorem q921 : (Jvm.Cond.selects "MixedLeavesModel" ({ cls := "MixedLeavesModel", name := "row", desc := "(III)I" } : Jvm.MethodName) ({ cls := "MixedLeavesModel", name := "row", desc := "(III)I" } : Jvm.MethodName)) ∈ lw_all := lw_g (lw_at lw_m4 177 rfl) rfl
theorem q922 : (Jvm.Cond.code ({ cls := "MixedLeavesModel", name := "row", desc := "(III)I" } : Jvm.MethodName) prog_11_method_27_code (4 : Nat) (Option.some Jvm.ClassFile.FieldType.int)) ∈ lw_all := lw_g (lw_at lw_m4 178 rfl) rfl
theorem q923 : (Jvm.Cond.methodLink "MixedLeavesModel" (174 : Nat) ({ cls := "MixedLeavesModel", name := "begin", desc := "()V" } : Jvm.MethodName)) ∈ lw_all := lw_g (lw_at lw_m4 179 rfl) rfl
theorem q924 : (Jvm.Cond.privateMethod ({ cls := "MixedLeavesModel", name := "begin", desc := "()V" } : Jvm.MethodName)) ∈ lw_tbl := lw_at lw_m4 180 rfl
theorem q925 : (Jvm.Cond.instanceMethod ({ cls := "MixedLeavesModel", name := "begin", desc := "()V" } : Jvm.MethodName)) ∈ lw_all := lw_g (lw_at lw_m4 181 rfl) rfl
theorem q926 : (Jvm.Cond.code ({ cls := "MixedLeavesModel", name := "begin", desc := "()V" } : Jvm.MethodName) prog_11_method_5_code (1 : Nat) (Option.none : Option Jvm.ClassFile.FieldType)) ∈ lw_all := lw_g (lw_at lw_m4 182 rfl) rfl
theorem q927 : (Jvm.Cond.methodLink "MixedLeavesModel" (67 : Nat) ({ cls := "MixedLeavesModel", name := "isIn", desc := "(III)Z" } : Jvm.MethodName)) ∈ lw_all := lw_g (lw_at lw_m4 183 rfl) rfl
theorem q928 : (Jvm.Cond.static ({ cls := "MixedLeavesModel", name := "isIn", desc := "(III)Z" } : Jvm.MethodName)) ∈ lw_all := lw_g (lw_at lw_m4 184 rfl) rfl
theorem q929 : (Jvm.Cond.code ({ cls := "MixedLeavesModel", name := "isIn", desc := "(III)Z" } : Jvm.MethodName) prog_11_method_9_code (3 : Nat) (Option.some Jvm.ClassFile.FieldType.boolean)) ∈ lw_all := lw_g (lw_at lw_m4 185 rfl) rfl
theorem q930 : (Jvm.Cond.methodLink "MixedLeavesModel" (177 : Nat) ({ cls := "MixedLeavesModel", name := "fails", desc := "(I)I" } : Jvm.MethodName)) ∈ lw_all := lw_g (lw_at lw_m4 186 rfl) rfl
theorem q931 : (Jvm.Cond.privateMethod ({ cls := "MixedLeavesModel", name := "fails", desc := "(I)I" } : Jvm.MethodName)) ∈ lw_tbl := lw_at lw_m4 187 rfl
theorem q932 : (Jvm.Cond.instanceMethod ({ cls := "MixedLeavesModel", name := "fails", desc := "(I)I" } : Jvm.MethodName)) ∈ lw_all := lw_g (lw_at lw_m4 188 rfl) rfl
theorem q933 : (Jvm.Cond.code ({ cls := "MixedLeavesModel", name := "fails", desc := "(I)I" } : Jvm.MethodName) prog_11_method_2_code (2 : Nat) (Option.some Jvm.ClassFile.FieldType.int)) ∈ lw_all := lw_g (lw_at lw_m4 189 rfl) rfl
theorem q934 : (Jvm.Cond.methodLink "MixedLeavesModel" (180 : Nat) ({ cls := "MixedLeavesModel", name := "makeRoom", desc := "()V" } : Jvm.MethodName)) ∈ lw_all := lw_g (lw_at lw_m4 190 rfl) rfl
theorem q935 : (Jvm.Cond.privateMethod ({ cls := "MixedLeavesModel", name := "makeRoom", desc := "()V" } : Jvm.MethodName)) ∈ lw_tbl := lw_at lw_m4 191 rfl
theorem q936 : (Jvm.Cond.instanceMethod ({ cls := "MixedLeavesModel", name := "makeRoom", desc := "()V" } : Jvm.MethodName)) ∈ lw_all := lw_g (lw_at lw_m4 192 rfl) rfl
theorem q937 : (Jvm.Cond.code ({ cls := "MixedLeavesModel", name := "makeRoom", desc := "()V" } : Jvm.MethodName) prog_11_method_12_code (1 : Nat) (Option.none : Option Jvm.ClassFile.FieldType)) ∈ lw_all := lw_g (lw_at lw_m4 193 rfl) rfl
theorem q938 : (Jvm.Cond.methodLink "MixedLeavesModel" (75 : Nat) ({ cls := "MixedLeavesModel", name := "sweep", desc := "()V" } : Jvm.MethodName)) ∈ lw_all := lw_g (lw_at lw_m4 194 rfl) rfl
theorem q939 : (Jvm.Cond.privateMethod ({ cls := "MixedLeavesModel", name := "sweep", desc := "()V" } : Jvm.MethodName)) ∈ lw_tbl := lw_at lw_m4 195 rfl
theorem q940 : (Jvm.Cond.instanceMethod ({ cls := "MixedLeavesModel", name := "sweep", desc := "()V" } : Jvm.MethodName)) ∈ lw_all := lw_g (lw_at lw_m4 196 rfl) rfl
theorem q941 : (Jvm.Cond.code ({ cls := "MixedLeavesModel", name := "sweep", desc := "()V" } : Jvm.MethodName) prog_11_method_11_code (4 : Nat) (Option.none : Option Jvm.ClassFile.FieldType)) ∈ lw_all := lw_g (lw_at lw_m4 197 rfl) rfl
theorem q942 : (Jvm.Cond.methodLink "MixedLeavesModel" (59 : Nat) ({ cls := "MixedLeavesModel", name := "touch", desc := "(I)V" } : Jvm.MethodName)) ∈ lw_all := lw_g (lw_at lw_m4 198 rfl) rfl
theorem q943 : (Jvm.Cond.privateMethod ({ cls := "MixedLeavesModel", name := "touch", desc := "(I)V" } : Jvm.MethodName)) ∈ lw_tbl := lw_at lw_m4 199 rfl
theorem q944 : (Jvm.Cond.instanceMethod ({ cls := "MixedLeavesModel", name := "touch", desc := "(I)V" } : Jvm.MethodName)) ∈ lw_all := lw_g (lw_at lw_m4 200 rfl) rfl
theorem q945 : (Jvm.Cond.code ({ cls := "MixedLeavesModel", name := "touch", desc := "(I)V" } : Jvm.MethodName) prog_11_method_10_code (2 : Nat) (Option.none : Option Jvm.ClassFile.FieldType)) ∈ lw_all := lw_g (lw_at lw_m4 201 rfl) rfl
theorem q946 : (Jvm.Cond.methodLink "MixedLeavesModel" (63 : Nat) ({ cls := "MixedLeavesModel", name := "sortOf", desc := "(I)I" } : Jvm.MethodName)) ∈ lw_all := lw_g (lw_at lw_m4 202 rfl) rfl
theorem q947 : (Jvm.Cond.privateMethod ({ cls := "MixedLeavesModel", name := "sortOf", desc := "(I)I" } : Jvm.MethodName)) ∈ lw_tbl := lw_at lw_m4 203 rfl
theorem q948 : (Jvm.Cond.instanceMethod ({ cls := "MixedLeavesModel", name := "sortOf", desc := "(I)I" } : Jvm.MethodName)) ∈ lw_all := lw_g (lw_at lw_m4 204 rfl) rfl
theorem q949 : (Jvm.Cond.code ({ cls := "MixedLeavesModel", name := "sortOf", desc := "(I)I" } : Jvm.MethodName) prog_11_method_6_code (2 : Nat) (Option.some Jvm.ClassFile.FieldType.int)) ∈ lw_all := lw_g (lw_at lw_m4 205 rfl) rfl
theorem q950 : (Jvm.Cond.methodLink "MixedLeavesModel" (71 : Nat) ({ cls := "MixedLeavesModel", name := "itemAt", desc := "(II)J" } : Jvm.MethodName)) ∈ lw_all := lw_g (lw_at lw_m4 206 rfl) rfl
theorem q951 : (Jvm.Cond.privateMethod ({ cls := "MixedLeavesModel", name := "itemAt", desc := "(II)J" } : Jvm.MethodName)) ∈ lw_tbl := lw_at lw_m4 207 rfl
theorem q952 : (Jvm.Cond.instanceMethod ({ cls := "MixedLeavesModel", name := "itemAt", desc := "(II)J" } : Jvm.MethodName)) ∈ lw_all := lw_g (lw_at lw_m4 208 rfl) rfl
theorem q953 : (Jvm.Cond.code ({ cls := "MixedLeavesModel", name := "itemAt", desc := "(II)J" } : Jvm.MethodName) prog_11_method_8_code (3 : Nat) (Option.some Jvm.ClassFile.FieldType.long)) ∈ lw_all := lw_g (lw_at lw_m4 209 rfl) rfl
theorem q954 : (Jvm.Cond.methodLink "MixedLeavesModel" (183 : Nat) ({ cls := "MixedLeavesModel", name := "made", desc := "(II)I" } : Jvm.MethodName)) ∈ lw_all := lw_g (lw_at lw_m4 210 rfl) rfl
theorem q955 : (Jvm.Cond.privateMethod ({ cls := "MixedLeavesModel", name := "made", desc := "(II)I" } : Jvm.MethodName)) ∈ lw_tbl := lw_at lw_m4 211 rfl
theorem q956 : (Jvm.Cond.instanceMethod ({ cls := "MixedLeavesModel", name := "made", desc := "(II)I" } : Jvm.MethodName)) ∈ lw_all := lw_g (lw_at lw_m4 212 rfl) rfl
theorem q957 : (Jvm.Cond.code ({ cls := "MixedLeavesModel", name := "made", desc := "(II)I" } : Jvm.MethodName) prog_11_method_13_code (4 : Nat) (Option.some Jvm.ClassFile.FieldType.int)) ∈ lw_all := lw_g (lw_at lw_m4 213 rfl) rfl
theorem q959 : (Jvm.Cond.instanceMethod ({ cls := "MixedLeavesModel", name := "rows", desc := "(III)I" } : Jvm.MethodName)) ∈ lw_all := lw_g (lw_at lw_m4 215 rfl) rfl
theorem q960 : (Jvm.Cond.selects "MixedLeavesModel" ({ cls := "MixedLeavesModel", name := "rows", desc := "(III)I" } : Jvm.MethodName) ({ cls := "MixedLeavesModel", name := "rows", desc := "(III)I" } : Jvm.MethodName)) ∈ lw_all := lw_g (lw_at lw_m4 216 rfl) rfl
theorem q961 : (Jvm.Cond.code ({ cls := "MixedLeavesModel", name := "rows", desc := "(III)I" } : Jvm.MethodName) prog_11_method_28_code (6 : Nat) (Option.some Jvm.ClassFile.FieldType.int)) ∈ lw_all := lw_g (lw_at lw_m4 217 rfl) rfl
theorem q963 : (Jvm.Cond.instanceMethod ({ cls := "MixedLeavesModel", name := "thing", desc := "(III)I" } : Jvm.MethodName)) ∈ lw_all := lw_g (lw_at lw_m4 219 rfl) rfl
theorem q964 : (Jvm.Cond.selects "MixedLeavesModel" ({ cls := "MixedLeavesModel", name := "thing", desc := "(III)I" } : Jvm.MethodName) ({ cls := "MixedLeavesModel", name := "thing", desc := "(III)I" } : Jvm.MethodName)) ∈ lw_all := lw_g (lw_at lw_m4 220 rfl) rfl
theorem q965 : (Jvm.Cond.code ({ cls := "MixedLeavesModel", name := "thing", desc := "(III)I" } : Jvm.MethodName) prog_11_method_29_code (5 : Nat) (Option.some Jvm.ClassFile.FieldType.int)) ∈ lw_all := lw_g (lw_at lw_m4 221 rfl) rfl
theorem q967 : (Jvm.Cond.instanceMethod ({ cls := "MixedLeavesModel", name := "hold", desc := "(II)I" } : Jvm.MethodName)) ∈ lw_all := lw_g (lw_at lw_m4 223 rfl) rfl
theorem q968 : (Jvm.Cond.selects "MixedLeavesModel" ({ cls := "MixedLeavesModel", name := "hold", desc := "(II)I" } : Jvm.MethodName) ({ cls := "MixedLeavesModel", name := "hold", desc := "(II)I" } : Jvm.MethodName)) ∈ lw_all := lw_g (lw_at lw_m4 224 rfl) rfl
theorem q969 : (Jvm.Cond.code ({ cls := "MixedLeavesModel", name := "hold", desc := "(II)I" } : Jvm.MethodName) prog_11_method_30_code (3 : Nat) (Option.some Jvm.ClassFile.FieldType.int)) ∈ lw_all := lw_g (lw_at lw_m4 225 rfl) rfl
theorem q970 : (Jvm.Cond.methodLink "MixedLeavesModel" (187 : Nat) ({ cls := "MixedLeavesModel", name := "held", desc := "(I)I" } : Jvm.MethodName)) ∈ lw_all := lw_g (lw_at lw_m4 226 rfl) rfl
theorem q971 : (Jvm.Cond.privateMethod ({ cls := "MixedLeavesModel", name := "held", desc := "(I)I" } : Jvm.MethodName)) ∈ lw_tbl := lw_at lw_m4 227 rfl
theorem q972 : (Jvm.Cond.instanceMethod ({ cls := "MixedLeavesModel", name := "held", desc := "(I)I" } : Jvm.MethodName)) ∈ lw_all := lw_g (lw_at lw_m4 228 rfl) rfl
theorem q973 : (Jvm.Cond.code ({ cls := "MixedLeavesModel", name := "held", desc := "(I)I" } : Jvm.MethodName) prog_11_method_7_code (2 : Nat) (Option.some Jvm.ClassFile.FieldType.int)) ∈ lw_all := lw_g (lw_at lw_m4 229 rfl) rfl
theorem q975 : (Jvm.Cond.instanceMethod ({ cls := "MixedLeavesModel", name := "clear", desc := "(I)I" } : Jvm.MethodName)) ∈ lw_all := lw_g (lw_at lw_m4 231 rfl) rfl
theorem q976 : (Jvm.Cond.selects "MixedLeavesModel" ({ cls := "MixedLeavesModel", name := "clear", desc := "(I)I" } : Jvm.MethodName) ({ cls := "MixedLeavesModel", name := "clear", desc := "(I)I" } : Jvm.MethodName)) ∈ lw_all := lw_g (lw_at lw_m4 232 rfl) rfl
theorem q977 : (Jvm.Cond.code ({ cls := "MixedLeavesModel", name := "clear", desc := "(I)I" } : Jvm.MethodName) prog_11_method_31_code (3 : Nat) (Option.some Jvm.ClassFile.FieldType.int)) ∈ lw_all := lw_g (lw_at lw_m4 233 rfl) rfl
theorem q979 : (Jvm.Cond.instanceMethod ({ cls := "MixedLeavesModel", name := "sort", desc := "(I)I" } : Jvm.MethodName)) ∈ lw_all := lw_g (lw_at lw_m4 235 rfl) rfl
theorem q980 : (Jvm.Cond.selects "MixedLeavesModel" ({ cls := "MixedLeavesModel", name := "sort", desc := "(I)I" } : Jvm.MethodName) ({ cls := "MixedLeavesModel", name := "sort", desc := "(I)I" } : Jvm.MethodName)) ∈ lw_all := lw_g (lw_at lw_m4 236 rfl) rfl
theorem q981 : (Jvm.Cond.code ({ cls := "MixedLeavesModel", name := "sort", desc := "(I)I" } : Jvm.MethodName) prog_11_method_32_code (2 : Nat) (Option.some Jvm.ClassFile.FieldType.int)) ∈ lw_all := lw_g (lw_at lw_m4 237 rfl) rfl
theorem q983 : (Jvm.Cond.instanceMethod ({ cls := "MixedLeavesModel", name := "alike", desc := "(II)I" } : Jvm.MethodName)) ∈ lw_all := lw_g (lw_at lw_m4 239 rfl) rfl
theorem q984 : (Jvm.Cond.selects "MixedLeavesModel" ({ cls := "MixedLeavesModel", name := "alike", desc := "(II)I" } : Jvm.MethodName) ({ cls := "MixedLeavesModel", name := "alike", desc := "(II)I" } : Jvm.MethodName)) ∈ lw_all := lw_g (lw_at lw_m5 0 rfl) rfl
theorem q985 : (Jvm.Cond.code ({ cls := "MixedLeavesModel", name := "alike", desc := "(II)I" } : Jvm.MethodName) prog_11_method_33_code (3 : Nat) (Option.some Jvm.ClassFile.FieldType.int)) ∈ lw_all := lw_g (lw_at lw_m5 1 rfl) rfl
theorem q987 : (Jvm.Cond.instanceMethod ({ cls := "MixedLeavesModel", name := "is", desc := "(II)I" } : Jvm.MethodName)) ∈ lw_all := lw_g (lw_at lw_m5 3 rfl) rfl
theorem q988 : (Jvm.Cond.selects "MixedLeavesModel" ({ cls := "MixedLeavesModel", name := "is", desc := "(II)I" } : Jvm.MethodName) ({ cls := "MixedLeavesModel", name := "is", desc := "(II)I" } : Jvm.MethodName)) ∈ lw_all := lw_g (lw_at lw_m5 4 rfl) rfl
theorem q989 : (Jvm.Cond.code ({ cls := "MixedLeavesModel", name := "is", desc := "(II)I" } : Jvm.MethodName) prog_11_method_35_code (3 : Nat) (Option.some Jvm.ClassFile.FieldType.int)) ∈ lw_all := lw_g (lw_at lw_m5 5 rfl) rfl
theorem q990 : (Jvm.Cond.methodLink "MixedLeavesModel" (190 : Nat) ({ cls := "MixedLeavesModel", name := "isSort", desc := "(II)Z" } : Jvm.MethodName)) ∈ lw_all := lw_g (lw_at lw_m5 6 rfl) rfl
theorem q991 : (Jvm.Cond.static ({ cls := "MixedLeavesModel", name := "isSort", desc := "(II)Z" } : Jvm.MethodName)) ∈ lw_all := lw_g (lw_at lw_m5 7 rfl) rfl
theorem q992 : (Jvm.Cond.code ({ cls := "MixedLeavesModel", name := "isSort", desc := "(II)Z" } : Jvm.MethodName) prog_11_method_34_code (2 : Nat) (Option.some Jvm.ClassFile.FieldType.boolean)) ∈ lw_all := lw_g (lw_at lw_m5 8 rfl) rfl
theorem q994 : (Jvm.Cond.instanceMethod ({ cls := "MixedLeavesModel", name := "as", desc := "(II)I" } : Jvm.MethodName)) ∈ lw_all := lw_g (lw_at lw_m5 10 rfl) rfl
theorem q995 : (Jvm.Cond.selects "MixedLeavesModel" ({ cls := "MixedLeavesModel", name := "as", desc := "(II)I" } : Jvm.MethodName) ({ cls := "MixedLeavesModel", name := "as", desc := "(II)I" } : Jvm.MethodName)) ∈ lw_all := lw_g (lw_at lw_m5 11 rfl) rfl
theorem q996 : (Jvm.Cond.code ({ cls := "MixedLeavesModel", name := "as", desc := "(II)I" } : Jvm.MethodName) prog_11_method_36_code (3 : Nat) (Option.some Jvm.ClassFile.FieldType.int)) ∈ lw_all := lw_g (lw_at lw_m5 12 rfl) rfl
theorem q998 : (Jvm.Cond.instanceMethod ({ cls := "MixedLeavesModel", name := "length", desc := "(I)I" } : Jvm.MethodName)) ∈ lw_all := lw_g (lw_at lw_m5 14 rfl) rfl
theorem q999 : (Jvm.Cond.selects "MixedLeavesModel" ({ cls := "MixedLeavesModel", name := "length", desc := "(I)I" } : Jvm.MethodName) ({ cls := "MixedLeavesModel", name := "length", desc := "(I)I" } : Jvm.MethodName)) ∈ lw_all := lw_g (lw_at lw_m5 15 rfl) rfl
theorem q1000 : (Jvm.Cond.code ({ cls := "MixedLeavesModel", name := "length", desc := "(I)I" } : Jvm.MethodName) prog_11_method_39_code (3 : Nat) (Option.some Jvm.ClassFile.FieldType.int)) ∈ lw_all := lw_g (lw_at lw_m5 16 rfl) rfl
theorem q1001 : (Jvm.Cond.methodLink "MixedLeavesModel" (194 : Nat) ({ cls := "MixedLeavesModel", name := "isRow", desc := "(I)Z" } : Jvm.MethodName)) ∈ lw_all := lw_g (lw_at lw_m5 17 rfl) rfl
theorem q1002 : (Jvm.Cond.privateMethod ({ cls := "MixedLeavesModel", name := "isRow", desc := "(I)Z" } : Jvm.MethodName)) ∈ lw_tbl := lw_at lw_m5 18 rfl
theorem q1003 : (Jvm.Cond.instanceMethod ({ cls := "MixedLeavesModel", name := "isRow", desc := "(I)Z" } : Jvm.MethodName)) ∈ lw_all := lw_g (lw_at lw_m5 19 rfl) rfl
theorem q1004 : (Jvm.Cond.code ({ cls := "MixedLeavesModel", name := "isRow", desc := "(I)Z" } : Jvm.MethodName) prog_11_method_37_code (2 : Nat) (Option.some Jvm.ClassFile.FieldType.boolean)) ∈ lw_all := lw_g (lw_at lw_m5 20 rfl) rfl
theorem q1006 : (Jvm.Cond.instanceMethod ({ cls := "MixedLeavesModel", name := "get", desc := "(III)J" } : Jvm.MethodName)) ∈ lw_all := lw_g (lw_at lw_m5 22 rfl) rfl
theorem q1007 : (Jvm.Cond.selects "MixedLeavesModel" ({ cls := "MixedLeavesModel", name := "get", desc := "(III)J" } : Jvm.MethodName) ({ cls := "MixedLeavesModel", name := "get", desc := "(III)J" } : Jvm.MethodName)) ∈ lw_all := lw_g (lw_at lw_m5 23 rfl) rfl
theorem q1008 : (Jvm.Cond.code ({ cls := "MixedLeavesModel", name := "get", desc := "(III)J" } : Jvm.MethodName) prog_11_method_41_code (5 : Nat) (Option.some Jvm.ClassFile.FieldType.long)) ∈ lw_all := lw_g (lw_at lw_m5 24 rfl) rfl
theorem q1009 : (Jvm.Cond.methodLink "MixedLeavesModel" (198 : Nat) ({ cls := "MixedLeavesModel", name := "hasNumbers", desc := "(I)Z" } : Jvm.MethodName)) ∈ lw_all := lw_g (lw_at lw_m5 25 rfl) rfl
theorem q1010 : (Jvm.Cond.privateMethod ({ cls := "MixedLeavesModel", name := "hasNumbers", desc := "(I)Z" } : Jvm.MethodName)) ∈ lw_tbl := lw_at lw_m5 26 rfl
theorem q1011 : (Jvm.Cond.instanceMethod ({ cls := "MixedLeavesModel", name := "hasNumbers", desc := "(I)Z" } : Jvm.MethodName)) ∈ lw_all := lw_g (lw_at lw_m5 27 rfl) rfl
theorem q1012 : (Jvm.Cond.code ({ cls := "MixedLeavesModel", name := "hasNumbers", desc := "(I)Z" } : Jvm.MethodName) prog_11_method_38_code (2 : Nat) (Option.some Jvm.ClassFile.FieldType.boolean)) ∈ lw_all := lw_g (lw_at lw_m5 28 rfl) rfl
theorem q1013 : (Jvm.Cond.methodLink "MixedLeavesModel" (201 : Nat) ({ cls := "MixedLeavesModel", name := "isWider", desc := "(II)Z" } : Jvm.MethodName)) ∈ lw_all := lw_g (lw_at lw_m5 29 rfl) rfl
theorem q1014 : (Jvm.Cond.static ({ cls := "MixedLeavesModel", name := "isWider", desc := "(II)Z" } : Jvm.MethodName)) ∈ lw_all := lw_g (lw_at lw_m5 30 rfl) rfl
theorem q1015 : (Jvm.Cond.code ({ cls := "MixedLeavesModel", name := "isWider", desc := "(II)Z" } : Jvm.MethodName) prog_11_method_26_code (2 : Nat) (Option.some Jvm.ClassFile.FieldType.boolean)) ∈ lw_all := lw_g (lw_at lw_m5 31 rfl) rfl
theorem q1016 : (Jvm.Cond.methodLink "MixedLeavesModel" (204 : Nat) ({ cls := "MixedLeavesModel", name := "has", desc := "(II)Z" } : Jvm.MethodName)) ∈ lw_all := lw_g (lw_at lw_m5 32 rfl) rfl
theorem q1017 : (Jvm.Cond.privateMethod ({ cls := "MixedLeavesModel", name := "has", desc := "(II)Z" } : Jvm.MethodName)) ∈ lw_tbl := lw_at lw_m5 33 rfl
theorem q1018 : (Jvm.Cond.instanceMethod ({ cls := "MixedLeavesModel", name := "has", desc := "(II)Z" } : Jvm.MethodName)) ∈ lw_all := lw_g (lw_at lw_m5 34 rfl) rfl
theorem q1019 : (Jvm.Cond.code ({ cls := "MixedLeavesModel", name := "has", desc := "(II)Z" } : Jvm.MethodName) prog_11_method_40_code (3 : Nat) (Option.some Jvm.ClassFile.FieldType.boolean)) ∈ lw_all := lw_g (lw_at lw_m5 35 rfl) rfl
theorem q1020 : (Jvm.Cond.methodLink "MixedLeavesModel" (207 : Nat) ({ cls := "MixedLeavesModel", name := "cast", desc := "(IIJ)J" } : Jvm.MethodName)) ∈ lw_all := lw_g (lw_at lw_m5 36 rfl) rfl
theorem q1021 : (Jvm.Cond.static ({ cls := "MixedLeavesModel", name := "cast", desc := "(IIJ)J" } : Jvm.MethodName)) ∈ lw_all := lw_g (lw_at lw_m5 37 rfl) rfl
theorem q1022 : (Jvm.Cond.code ({ cls := "MixedLeavesModel", name := "cast", desc := "(IIJ)J" } : Jvm.MethodName) prog_11_method_22_code (4 : Nat) (Option.some Jvm.ClassFile.FieldType.long)) ∈ lw_all := lw_g (lw_at lw_m5 38 rfl) rfl
theorem q1023 : (Jvm.Cond.methodLink "MixedLeavesModel" (143 : Nat) ({ cls := "MixedLeavesModel", name := "castWhole", desc := "(IJ)J" } : Jvm.MethodName)) ∈ lw_all := lw_g (lw_at lw_m5 39 rfl) rfl
theorem q1024 : (Jvm.Cond.static ({ cls := "MixedLeavesModel", name := "castWhole", desc := "(IJ)J" } : Jvm.MethodName)) ∈ lw_all := lw_g (lw_at lw_m5 40 rfl) rfl
theorem q1025 : (Jvm.Cond.code ({ cls := "MixedLeavesModel", name := "castWhole", desc := "(IJ)J" } : Jvm.MethodName) prog_11_method_23_code (3 : Nat) (Option.some Jvm.ClassFile.FieldType.long)) ∈ lw_all := lw_g (lw_at lw_m5 41 rfl) rfl
theorem q1026 : (Jvm.Cond.methodLink "MixedLeavesModel" (163 : Nat) ({ cls := "MixedLeavesModel", name := "bitsOfSingle", desc := "(F)I" } : Jvm.MethodName)) ∈ lw_all := lw_g (lw_at lw_m5 42 rfl) rfl
theorem q1027 : (Jvm.Cond.static ({ cls := "MixedLeavesModel", name := "bitsOfSingle", desc := "(F)I" } : Jvm.MethodName)) ∈ lw_all := lw_g (lw_at lw_m5 43 rfl) rfl
theorem q1028 : (Jvm.Cond.code ({ cls := "MixedLeavesModel", name := "bitsOfSingle", desc := "(F)I" } : Jvm.MethodName) prog_11_method_20_code (7 : Nat) (Option.some Jvm.ClassFile.FieldType.int)) ∈ lw_all := lw_g (lw_at lw_m5 44 rfl) rfl
theorem q1029 : (Jvm.Cond.constant "MixedLeavesModel" (126 : Nat) (2143289344 : Int32)) ∈ lw_all := lw_g (lw_at lw_m5 45 rfl) rfl
theorem q1030 : (Jvm.Cond.methodLink "MixedLeavesModel" (114 : Nat) ({ cls := "MixedLeavesModel", name := "isBelow", desc := "(D)Z" } : Jvm.MethodName)) ∈ lw_all := lw_g (lw_at lw_m5 46 rfl) rfl
theorem q1031 : (Jvm.Cond.static ({ cls := "MixedLeavesModel", name := "isBelow", desc := "(D)Z" } : Jvm.MethodName)) ∈ lw_all := lw_g (lw_at lw_m5 47 rfl) rfl
theorem q1032 : (Jvm.Cond.code ({ cls := "MixedLeavesModel", name := "isBelow", desc := "(D)Z" } : Jvm.MethodName) prog_11_method_18_code (2 : Nat) (Option.some Jvm.ClassFile.FieldType.boolean)) ∈ lw_all := lw_g (lw_at lw_m5 48 rfl) rfl
theorem q1033 : (Jvm.Cond.constant "MixedLeavesModel" (127 : Nat) (-2147483648 : Int32)) ∈ lw_all := lw_g (lw_at lw_m5 49 rfl) rfl
theorem q1034 : (Jvm.Cond.constantDouble "MixedLeavesModel" (97 : Nat) (9218868437227405312 : UInt64)) ∈ lw_all := lw_g (lw_at lw_m5 50 rfl) rfl
theorem q1035 : (Jvm.Cond.constant "MixedLeavesModel" (128 : Nat) (2139095040 : Int32)) ∈ lw_all := lw_g (lw_at lw_m5 51 rfl) rfl
theorem q1036 : (Jvm.Cond.methodLink "MixedLeavesModel" (85 : Nat) ({ cls := "MixedLeavesModel", name := "power", desc := "(I)D" } : Jvm.MethodName)) ∈ lw_all := lw_g (lw_at lw_m5 52 rfl) rfl
theorem q1037 : (Jvm.Cond.static ({ cls := "MixedLeavesModel", name := "power", desc := "(I)D" } : Jvm.MethodName)) ∈ lw_all := lw_g (lw_at lw_m5 53 rfl) rfl
theorem q1038 : (Jvm.Cond.code ({ cls := "MixedLeavesModel", name := "power", desc := "(I)D" } : Jvm.MethodName) prog_11_method_14_code (5 : Nat) (Option.some Jvm.ClassFile.FieldType.double)) ∈ lw_all := lw_g (lw_at lw_m5 54 rfl) rfl
theorem q1039 : (Jvm.Cond.constantDouble "MixedLeavesModel" (81 : Nat) (4602678819172646912 : UInt64)) ∈ lw_all := lw_g (lw_at lw_m5 55 rfl) rfl
theorem q1040 : (Jvm.Cond.constantDouble "MixedLeavesModel" (83 : Nat) (4611686018427387904 : UInt64)) ∈ lw_all := lw_g (lw_at lw_m5 56 rfl) rfl
theorem q1041 : (Jvm.Cond.constantDouble "MixedLeavesModel" (129 : Nat) (4715268809856909312 : UInt64)) ∈ lw_all := lw_g (lw_at lw_m5 57 rfl) rfl
theorem q1042 : (Jvm.Cond.constantDouble "MixedLeavesModel" (131 : Nat) (4710765210229538816 : UInt64)) ∈ lw_all := lw_g (lw_at lw_m5 58 rfl) rfl
theorem q1043 : (Jvm.Cond.constant "MixedLeavesModel" (105 : Nat) (8388607 : Int32)) ∈ lw_all := lw_g (lw_at lw_m5 59 rfl) rfl
theorem q1044 : (Jvm.Cond.methodLink "MixedLeavesModel" (167 : Nat) ({ cls := "MixedLeavesModel", name := "bitsOf", desc := "(D)J" } : Jvm.MethodName)) ∈ lw_all := lw_g (lw_at lw_m5 60 rfl) rfl
theorem q1045 : (Jvm.Cond.static ({ cls := "MixedLeavesModel", name := "bitsOf", desc := "(D)J" } : Jvm.MethodName)) ∈ lw_all := lw_g (lw_at lw_m5 61 rfl) rfl
theorem q1046 : (Jvm.Cond.code ({ cls := "MixedLeavesModel", name := "bitsOf", desc := "(D)J" } : Jvm.MethodName) prog_11_method_19_code (7 : Nat) (Option.some Jvm.ClassFile.FieldType.long)) ∈ lw_all := lw_g (lw_at lw_m5 62 rfl) rfl
theorem q1047 : (Jvm.Cond.constantLong "MixedLeavesModel" (112 : Nat) (9221120237041090560 : Int64)) ∈ lw_all := lw_g (lw_at lw_m5 63 rfl) rfl
theorem q1048 : (Jvm.Cond.constantLong "MixedLeavesModel" (118 : Nat) (-9223372036854775808 : Int64)) ∈ lw_all := lw_g (lw_at lw_m5 64 rfl) rfl
theorem q1049 : (Jvm.Cond.constantLong "MixedLeavesModel" (120 : Nat) (9218868437227405312 : Int64)) ∈ lw_all := lw_g (lw_at lw_m5 65 rfl) rfl
theorem q1050 : (Jvm.Cond.constantDouble "MixedLeavesModel" (122 : Nat) (4845873199050653696 : UInt64)) ∈ lw_all := lw_g (lw_at lw_m5 66 rfl) rfl
theorem q1051 : (Jvm.Cond.constantDouble "MixedLeavesModel" (124 : Nat) (4841369599423283200 : UInt64)) ∈ lw_all := lw_g (lw_at lw_m5 67 rfl) rfl
theorem q1052 : (Jvm.Cond.constantLong "MixedLeavesModel" (89 : Nat) (4503599627370495 : Int64)) ∈ lw_all := lw_g (lw_at lw_m5 68 rfl) rfl
theorem q1053 : (Jvm.Cond.methodLink "MixedLeavesModel" (171 : Nat) ({ cls := "MixedLeavesModel", name := "clean", desc := "(IJ)J" } : Jvm.MethodName)) ∈ lw_all := lw_g (lw_at lw_m5 69 rfl) rfl
theorem q1054 : (Jvm.Cond.static ({ cls := "MixedLeavesModel", name := "clean", desc := "(IJ)J" } : Jvm.MethodName)) ∈ lw_all := lw_g (lw_at lw_m5 70 rfl) rfl
theorem q1055 : (Jvm.Cond.code ({ cls := "MixedLeavesModel", name := "clean", desc := "(IJ)J" } : Jvm.MethodName) prog_11_method_21_code (3 : Nat) (Option.some Jvm.ClassFile.FieldType.long)) ∈ lw_all := lw_g (lw_at lw_m5 71 rfl) rfl
theorem q1056 : (Jvm.Cond.constantLong "MixedLeavesModel" (133 : Nat) (65535 : Int64)) ∈ lw_all := lw_g (lw_at lw_m5 72 rfl) rfl
theorem q1057 : (Jvm.Cond.constantLong "MixedLeavesModel" (135 : Nat) (2147483647 : Int64)) ∈ lw_all := lw_g (lw_at lw_m5 73 rfl) rfl
theorem q1058 : (Jvm.Cond.constantLong "MixedLeavesModel" (137 : Nat) (2139095040 : Int64)) ∈ lw_all := lw_g (lw_at lw_m5 74 rfl) rfl
theorem q1059 : (Jvm.Cond.constantLong "MixedLeavesModel" (139 : Nat) (2143289344 : Int64)) ∈ lw_all := lw_g (lw_at lw_m5 75 rfl) rfl
theorem q1060 : (Jvm.Cond.constantLong "MixedLeavesModel" (141 : Nat) (9223372036854775807 : Int64)) ∈ lw_all := lw_g (lw_at lw_m5 76 rfl) rfl
theorem q1061 : (Jvm.Cond.methodLink "MixedLeavesModel" (147 : Nat) ({ cls := "MixedLeavesModel", name := "single", desc := "(I)F" } : Jvm.MethodName)) ∈ lw_all := lw_g (lw_at lw_m5 77 rfl) rfl
theorem q1062 : (Jvm.Cond.static ({ cls := "MixedLeavesModel", name := "single", desc := "(I)F" } : Jvm.MethodName)) ∈ lw_all := lw_g (lw_at lw_m5 78 rfl) rfl
theorem q1063 : (Jvm.Cond.code ({ cls := "MixedLeavesModel", name := "single", desc := "(I)F" } : Jvm.MethodName) prog_11_method_17_code (5 : Nat) (Option.some Jvm.ClassFile.FieldType.float)) ∈ lw_all := lw_g (lw_at lw_m5 79 rfl) rfl
theorem q1064 : (Jvm.Cond.constantFloat "MixedLeavesModel" (108 : Nat) (2143289344 : UInt32)) ∈ lw_all := lw_g (lw_at lw_m5 80 rfl) rfl
theorem q1065 : (Jvm.Cond.constantFloat "MixedLeavesModel" (109 : Nat) (4286578688 : UInt32)) ∈ lw_all := lw_g (lw_at lw_m5 81 rfl) rfl
theorem q1066 : (Jvm.Cond.constantFloat "MixedLeavesModel" (110 : Nat) (2139095040 : UInt32)) ∈ lw_all := lw_g (lw_at lw_m5 82 rfl) rfl
theorem q1067 : (Jvm.Cond.methodLink "MixedLeavesModel" (99 : Nat) ({ cls := "MixedLeavesModel", name := "moved", desc := "(JI)D" } : Jvm.MethodName)) ∈ lw_all := lw_g (lw_at lw_m5 83 rfl) rfl
theorem q1068 : (Jvm.Cond.static ({ cls := "MixedLeavesModel", name := "moved", desc := "(JI)D" } : Jvm.MethodName)) ∈ lw_all := lw_g (lw_at lw_m5 84 rfl) rfl
theorem q1069 : (Jvm.Cond.code ({ cls := "MixedLeavesModel", name := "moved", desc := "(JI)D" } : Jvm.MethodName) prog_11_method_15_code (7 : Nat) (Option.some Jvm.ClassFile.FieldType.double)) ∈ lw_all := lw_g (lw_at lw_m5 85 rfl) rfl
theorem q1070 : (Jvm.Cond.constant "MixedLeavesModel" (111 : Nat) (8388608 : Int32)) ∈ lw_all := lw_g (lw_at lw_m5 86 rfl) rfl
theorem q1071 : (Jvm.Cond.methodLink "MixedLeavesModel" (151 : Nat) ({ cls := "MixedLeavesModel", name := "castSingle", desc := "(IF)J" } : Jvm.MethodName)) ∈ lw_all := lw_g (lw_at lw_m5 87 rfl) rfl
theorem q1072 : (Jvm.Cond.static ({ cls := "MixedLeavesModel", name := "castSingle", desc := "(IF)J" } : Jvm.MethodName)) ∈ lw_all := lw_g (lw_at lw_m5 88 rfl) rfl
theorem q1073 : (Jvm.Cond.code ({ cls := "MixedLeavesModel", name := "castSingle", desc := "(IF)J" } : Jvm.MethodName) prog_11_method_24_code (2 : Nat) (Option.some Jvm.ClassFile.FieldType.long)) ∈ lw_all := lw_g (lw_at lw_m5 89 rfl) rfl
theorem q1074 : (Jvm.Cond.methodLink "MixedLeavesModel" (155 : Nat) ({ cls := "MixedLeavesModel", name := "real", desc := "(J)D" } : Jvm.MethodName)) ∈ lw_all := lw_g (lw_at lw_m5 90 rfl) rfl
theorem q1075 : (Jvm.Cond.static ({ cls := "MixedLeavesModel", name := "real", desc := "(J)D" } : Jvm.MethodName)) ∈ lw_all := lw_g (lw_at lw_m5 91 rfl) rfl
theorem q1076 : (Jvm.Cond.code ({ cls := "MixedLeavesModel", name := "real", desc := "(J)D" } : Jvm.MethodName) prog_11_method_16_code (7 : Nat) (Option.some Jvm.ClassFile.FieldType.double)) ∈ lw_all := lw_g (lw_at lw_m5 92 rfl) rfl
theorem q1077 : (Jvm.Cond.constantDouble "MixedLeavesModel" (93 : Nat) (9221120237041090560 : UInt64)) ∈ lw_all := lw_g (lw_at lw_m5 93 rfl) rfl
theorem q1078 : (Jvm.Cond.constantDouble "MixedLeavesModel" (95 : Nat) (18442240474082181120 : UInt64)) ∈ lw_all := lw_g (lw_at lw_m5 94 rfl) rfl
theorem q1079 : (Jvm.Cond.constantLong "MixedLeavesModel" (103 : Nat) (4503599627370496 : Int64)) ∈ lw_all := lw_g (lw_at lw_m5 95 rfl) rfl
theorem q1080 : (Jvm.Cond.methodLink "MixedLeavesModel" (159 : Nat) ({ cls := "MixedLeavesModel", name := "castReal", desc := "(ID)J" } : Jvm.MethodName)) ∈ lw_all := lw_g (lw_at lw_m5 96 rfl) rfl
theorem q1081 : (Jvm.Cond.static ({ cls := "MixedLeavesModel", name := "castReal", desc := "(ID)J" } : Jvm.MethodName)) ∈ lw_all := lw_g (lw_at lw_m5 97 rfl) rfl
theorem q1082 : (Jvm.Cond.code ({ cls := "MixedLeavesModel", name := "castReal", desc := "(ID)J" } : Jvm.MethodName) prog_11_method_25_code (3 : Nat) (Option.some Jvm.ClassFile.FieldType.long)) ∈ lw_all := lw_g (lw_at lw_m5 98 rfl) rfl
theorem q1084 : (Jvm.Cond.instanceMethod ({ cls := "MixedLeavesModel", name := "put", desc := "(IIIJ)I" } : Jvm.MethodName)) ∈ lw_all := lw_g (lw_at lw_m5 100 rfl) rfl
theorem q1085 : (Jvm.Cond.selects "MixedLeavesModel" ({ cls := "MixedLeavesModel", name := "put", desc := "(IIIJ)I" } : Jvm.MethodName) ({ cls := "MixedLeavesModel", name := "put", desc := "(IIIJ)I" } : Jvm.MethodName)) ∈ lw_all := lw_g (lw_at lw_m5 101 rfl) rfl
theorem q1086 : (Jvm.Cond.code ({ cls := "MixedLeavesModel", name := "put", desc := "(IIIJ)I" } : Jvm.MethodName) prog_11_method_42_code (7 : Nat) (Option.some Jvm.ClassFile.FieldType.int)) ∈ lw_all := lw_g (lw_at lw_m5 102 rfl) rfl
theorem q1088 : (Jvm.Cond.instanceMethod ({ cls := "MixedLeavesModel", name := "take", desc := "(III)I" } : Jvm.MethodName)) ∈ lw_all := lw_g (lw_at lw_m5 104 rfl) rfl
theorem q1089 : (Jvm.Cond.selects "MixedLeavesModel" ({ cls := "MixedLeavesModel", name := "take", desc := "(III)I" } : Jvm.MethodName) ({ cls := "MixedLeavesModel", name := "take", desc := "(III)I" } : Jvm.MethodName)) ∈ lw_all := lw_g (lw_at lw_m5 105 rfl) rfl
theorem q1090 : (Jvm.Cond.code ({ cls := "MixedLeavesModel", name := "take", desc := "(III)I" } : Jvm.MethodName) prog_11_method_43_code (5 : Nat) (Option.some Jvm.ClassFile.FieldType.int)) ∈ lw_all := lw_g (lw_at lw_m5 106 rfl) rfl
theorem q1092 : (Jvm.Cond.instanceMethod ({ cls := "MixedLeavesModel", name := "give", desc := "(IIIZ)I" } : Jvm.MethodName)) ∈ lw_all := lw_g (lw_at lw_m5 108 rfl) rfl
theorem q1093 : (Jvm.Cond.selects "MixedLeavesModel" ({ cls := "MixedLeavesModel", name := "give", desc := "(IIIZ)I" } : Jvm.MethodName) ({ cls := "MixedLeavesModel", name := "give", desc := "(IIIZ)I" } : Jvm.MethodName)) ∈ lw_all := lw_g (lw_at lw_m5 109 rfl) rfl
theorem q1094 : (Jvm.Cond.code ({ cls := "MixedLeavesModel", name := "give", desc := "(IIIZ)I" } : Jvm.MethodName) prog_11_method_45_code (8 : Nat) (Option.some Jvm.ClassFile.FieldType.int)) ∈ lw_all := lw_g (lw_at lw_m5 110 rfl) rfl
theorem q1095 : (Jvm.Cond.methodLink "MixedLeavesModel" (211 : Nat) ({ cls := "MixedLeavesModel", name := "mayStand", desc := "(II)Z" } : Jvm.MethodName)) ∈ lw_all := lw_g (lw_at lw_m5 111 rfl) rfl
theorem q1096 : (Jvm.Cond.privateMethod ({ cls := "MixedLeavesModel", name := "mayStand", desc := "(II)Z" } : Jvm.MethodName)) ∈ lw_tbl := lw_at lw_m5 112 rfl
theorem q1097 : (Jvm.Cond.instanceMethod ({ cls := "MixedLeavesModel", name := "mayStand", desc := "(II)Z" } : Jvm.MethodName)) ∈ lw_all := lw_g (lw_at lw_m5 113 rfl) rfl
theorem q1098 : (Jvm.Cond.code ({ cls := "MixedLeavesModel", name := "mayStand", desc := "(II)Z" } : Jvm.MethodName) prog_11_method_44_code (3 : Nat) (Option.some Jvm.ClassFile.FieldType.boolean)) ∈ lw_all := lw_g (lw_at lw_m5 114 rfl) rfl
theorem q1100 : (Jvm.Cond.instanceMethod ({ cls := "MixedLeavesModel", name := "deep", desc := "(III)I" } : Jvm.MethodName)) ∈ lw_all := lw_g (lw_at lw_m5 116 rfl) rfl
theorem q1101 : (Jvm.Cond.selects "MixedLeavesModel" ({ cls := "MixedLeavesModel", name := "deep", desc := "(III)I" } : Jvm.MethodName) ({ cls := "MixedLeavesModel", name := "deep", desc := "(III)I" } : Jvm.MethodName)) ∈ lw_all := lw_g (lw_at lw_m5 117 rfl) rfl
theorem q1102 : (Jvm.Cond.code ({ cls := "MixedLeavesModel", name := "deep", desc := "(III)I" } : Jvm.MethodName) prog_11_method_47_code (5 : Nat) (Option.some Jvm.ClassFile.FieldType.int)) ∈ lw_all := lw_g (lw_at lw_m5 118 rfl) rfl
theorem q1103 : (Jvm.Cond.methodLink "MixedLeavesModel" (214 : Nat) ({ cls := "MixedLeavesModel", name := "inner", desc := "(III)I" } : Jvm.MethodName)) ∈ lw_all := lw_g (lw_at lw_m5 119 rfl) rfl
theorem q1104 : (Jvm.Cond.privateMethod ({ cls := "MixedLeavesModel", name := "inner", desc := "(III)I" } : Jvm.MethodName)) ∈ lw_tbl := lw_at lw_m5 120 rfl
theorem q1105 : (Jvm.Cond.instanceMethod ({ cls := "MixedLeavesModel", name := "inner", desc := "(III)I" } : Jvm.MethodName)) ∈ lw_all := lw_g (lw_at lw_m5 121 rfl) rfl
theorem q1106 : (Jvm.Cond.code ({ cls := "MixedLeavesModel", name := "inner", desc := "(III)I" } : Jvm.MethodName) prog_11_method_46_code (6 : Nat) (Option.some Jvm.ClassFile.FieldType.int)) ∈ lw_all := lw_g (lw_at lw_m5 122 rfl) rfl
theorem q1108 : (Jvm.Cond.instanceMethod ({ cls := "MixedLeavesModel", name := "deepPut", desc := "(IIII)I" } : Jvm.MethodName)) ∈ lw_all := lw_g (lw_at lw_m5 124 rfl) rfl
theorem q1109 : (Jvm.Cond.selects "MixedLeavesModel" ({ cls := "MixedLeavesModel", name := "deepPut", desc := "(IIII)I" } : Jvm.MethodName) ({ cls := "MixedLeavesModel", name := "deepPut", desc := "(IIII)I" } : Jvm.MethodName)) ∈ lw_all := lw_g (lw_at lw_m5 125 rfl) rfl
theorem q1110 : (Jvm.Cond.code ({ cls := "MixedLeavesModel", name := "deepPut", desc := "(IIII)I" } : Jvm.MethodName) prog_11_method_48_code (6 : Nat) (Option.some Jvm.ClassFile.FieldType.int)) ∈ lw_all := lw_g (lw_at lw_m5 126 rfl) rfl
theorem q1112 : (Jvm.Cond.instanceMethod ({ cls := "MixedLeavesModel", name := "copy", desc := "(IIIII)I" } : Jvm.MethodName)) ∈ lw_all := lw_g (lw_at lw_m5 128 rfl) rfl
theorem q1113 : (Jvm.Cond.selects "MixedLeavesModel" ({ cls := "MixedLeavesModel", name := "copy", desc := "(IIIII)I" } : Jvm.MethodName) ({ cls := "MixedLeavesModel", name := "copy", desc := "(IIIII)I" } : Jvm.MethodName)) ∈ lw_all := lw_g (lw_at lw_m5 129 rfl) rfl
theorem q1114 : (Jvm.Cond.code ({ cls := "MixedLeavesModel", name := "copy", desc := "(IIIII)I" } : Jvm.MethodName) prog_11_method_49_code (9 : Nat) (Option.some Jvm.ClassFile.FieldType.int)) ∈ lw_all := lw_g (lw_at lw_m5 130 rfl) rfl
theorem q1116 : (Jvm.Cond.instanceMethod ({ cls := "MixedLeavesModel", name := "twin", desc := "(II)I" } : Jvm.MethodName)) ∈ lw_all := lw_g (lw_at lw_m5 132 rfl) rfl
theorem q1117 : (Jvm.Cond.selects "MixedLeavesModel" ({ cls := "MixedLeavesModel", name := "twin", desc := "(II)I" } : Jvm.MethodName) ({ cls := "MixedLeavesModel", name := "twin", desc := "(II)I" } : Jvm.MethodName)) ∈ lw_all := lw_g (lw_at lw_m5 133 rfl) rfl
theorem q1118 : (Jvm.Cond.code ({ cls := "MixedLeavesModel", name := "twin", desc := "(II)I" } : Jvm.MethodName) prog_11_method_50_code (6 : Nat) (Option.some Jvm.ClassFile.FieldType.int)) ∈ lw_all := lw_g (lw_at lw_m5 134 rfl) rfl
theorem q1120 : (Jvm.Cond.instanceMethod ({ cls := "MixedLeavesModel", name := "call", desc := "(II)I" } : Jvm.MethodName)) ∈ lw_all := lw_g (lw_at lw_m5 136 rfl) rfl
theorem q1121 : (Jvm.Cond.selects "MixedLeavesModel" ({ cls := "MixedLeavesModel", name := "call", desc := "(II)I" } : Jvm.MethodName) ({ cls := "MixedLeavesModel", name := "call", desc := "(II)I" } : Jvm.MethodName)) ∈ lw_all := lw_g (lw_at lw_m5 137 rfl) rfl
theorem q1122 : (Jvm.Cond.code ({ cls := "MixedLeavesModel", name := "call", desc := "(II)I" } : Jvm.MethodName) prog_11_method_51_code (9 : Nat) (Option.some Jvm.ClassFile.FieldType.int)) ∈ lw_all := lw_g (lw_at lw_m5 138 rfl) rfl
theorem q1124 : (Jvm.Cond.instanceMethod ({ cls := "MixedLeavesModel", name := "number", desc := "(I)I" } : Jvm.MethodName)) ∈ lw_all := lw_g (lw_at lw_m5 140 rfl) rfl
theorem q1125 : (Jvm.Cond.selects "MixedLeavesModel" ({ cls := "MixedLeavesModel", name := "number", desc := "(I)I" } : Jvm.MethodName) ({ cls := "MixedLeavesModel", name := "number", desc := "(I)I" } : Jvm.MethodName)) ∈ lw_all := lw_g (lw_at lw_m5 141 rfl) rfl
theorem q1126 : (Jvm.Cond.code ({ cls := "MixedLeavesModel", name := "number", desc := "(I)I" } : Jvm.MethodName) prog_11_method_53_code (3 : Nat) (Option.some Jvm.ClassFile.FieldType.int)) ∈ lw_all := lw_g (lw_at lw_m5 142 rfl) rfl
theorem q1127 : (Jvm.Cond.methodLink "MixedLeavesModel" (218 : Nat) ({ cls := "MixedLeavesModel", name := "isPlain", desc := "(I)Z" } : Jvm.MethodName)) ∈ lw_all := lw_g (lw_at lw_m5 143 rfl) rfl
theorem q1128 : (Jvm.Cond.privateMethod ({ cls := "MixedLeavesModel", name := "isPlain", desc := "(I)Z" } : Jvm.MethodName)) ∈ lw_tbl := lw_at lw_m5 144 rfl
theorem q1129 : (Jvm.Cond.instanceMethod ({ cls := "MixedLeavesModel", name := "isPlain", desc := "(I)Z" } : Jvm.MethodName)) ∈ lw_all := lw_g (lw_at lw_m5 145 rfl) rfl
theorem q1130 : (Jvm.Cond.code ({ cls := "MixedLeavesModel", name := "isPlain", desc := "(I)Z" } : Jvm.MethodName) prog_11_method_52_code (2 : Nat) (Option.some Jvm.ClassFile.FieldType.boolean)) ∈ lw_all := lw_g (lw_at lw_m5 146 rfl) rfl
theorem q1132 : (Jvm.Cond.instanceMethod ({ cls := "MixedLeavesModel", name := "setNumber", desc := "(II)I" } : Jvm.MethodName)) ∈ lw_all := lw_g (lw_at lw_m5 148 rfl) rfl
theorem q1133 : (Jvm.Cond.selects "MixedLeavesModel" ({ cls := "MixedLeavesModel", name := "setNumber", desc := "(II)I" } : Jvm.MethodName) ({ cls := "MixedLeavesModel", name := "setNumber", desc := "(II)I" } : Jvm.MethodName)) ∈ lw_all := lw_g (lw_at lw_m5 149 rfl) rfl
theorem q1134 : (Jvm.Cond.code ({ cls := "MixedLeavesModel", name := "setNumber", desc := "(II)I" } : Jvm.MethodName) prog_11_method_54_code (5 : Nat) (Option.some Jvm.ClassFile.FieldType.int)) ∈ lw_all := lw_g (lw_at lw_m5 150 rfl) rfl
theorem q1136 : (Jvm.Cond.instanceMethod ({ cls := "MixedLeavesModel", name := "raise", desc := "(II)I" } : Jvm.MethodName)) ∈ lw_all := lw_g (lw_at lw_m5 152 rfl) rfl
theorem q1137 : (Jvm.Cond.selects "MixedLeavesModel" ({ cls := "MixedLeavesModel", name := "raise", desc := "(II)I" } : Jvm.MethodName) ({ cls := "MixedLeavesModel", name := "raise", desc := "(II)I" } : Jvm.MethodName)) ∈ lw_all := lw_g (lw_at lw_m5 153 rfl) rfl
theorem q1138 : (Jvm.Cond.code ({ cls := "MixedLeavesModel", name := "raise", desc := "(II)I" } : Jvm.MethodName) prog_11_method_55_code (4 : Nat) (Option.some Jvm.ClassFile.FieldType.int)) ∈ lw_all := lw_g (lw_at lw_m5 154 rfl) rfl
theorem q1140 : (Jvm.Cond.instanceMethod ({ cls := "MixedLeavesModel", name := "trail", desc := "()I" } : Jvm.MethodName)) ∈ lw_all := lw_g (lw_at lw_m5 156 rfl) rfl
theorem q1141 : (Jvm.Cond.selects "MixedLeavesModel" ({ cls := "MixedLeavesModel", name := "trail", desc := "()I" } : Jvm.MethodName) ({ cls := "MixedLeavesModel", name := "trail", desc := "()I" } : Jvm.MethodName)) ∈ lw_all := lw_g (lw_at lw_m5 157 rfl) rfl
theorem q1142 : (Jvm.Cond.code ({ cls := "MixedLeavesModel", name := "trail", desc := "()I" } : Jvm.MethodName) prog_11_method_56_code (1 : Nat) (Option.some Jvm.ClassFile.FieldType.int)) ∈ lw_all := lw_g (lw_at lw_m5 158 rfl) rfl
theorem q1144 : (Jvm.Cond.instanceMethod ({ cls := "MixedLeavesModel", name := "divide", desc := "(JJZZ)J" } : Jvm.MethodName)) ∈ lw_all := lw_g (lw_at lw_m5 160 rfl) rfl
theorem q1145 : (Jvm.Cond.selects "MixedLeavesModel" ({ cls := "MixedLeavesModel", name := "divide", desc := "(JJZZ)J" } : Jvm.MethodName) ({ cls := "MixedLeavesModel", name := "divide", desc := "(JJZZ)J" } : Jvm.MethodName)) ∈ lw_all := lw_g (lw_at lw_m5 161 rfl) rfl
theorem q1146 : (Jvm.Cond.code ({ cls := "MixedLeavesModel", name := "divide", desc := "(JJZZ)J" } : Jvm.MethodName) prog_11_method_57_code (9 : Nat) (Option.some Jvm.ClassFile.FieldType.long)) ∈ lw_all := lw_g (lw_at lw_m5 162 rfl) rfl
theorem q1148 : (Jvm.Cond.instanceMethod ({ cls := "MixedLeavesModel", name := "reckon", desc := "(IJJ)J" } : Jvm.MethodName)) ∈ lw_all := lw_g (lw_at lw_m5 164 rfl) rfl
theorem q1149 : (Jvm.Cond.selects "MixedLeavesModel" ({ cls := "MixedLeavesModel", name := "reckon", desc := "(IJJ)J" } : Jvm.MethodName) ({ cls := "MixedLeavesModel", name := "reckon", desc := "(IJJ)J" } : Jvm.MethodName)) ∈ lw_all := lw_g (lw_at lw_m5 165 rfl) rfl
theorem q1150 : (Jvm.Cond.code ({ cls := "MixedLeavesModel", name := "reckon", desc := "(IJJ)J" } : Jvm.MethodName) prog_11_method_61_code (10 : Nat) (Option.some Jvm.ClassFile.FieldType.long)) ∈ lw_all := lw_g (lw_at lw_m5 166 rfl) rfl
theorem q1151 : (Jvm.Cond.methodLink "MixedLeavesModel" (233 : Nat) ({ cls := "MixedLeavesModel", name := "makesNone", desc := "(IDD)Z" } : Jvm.MethodName)) ∈ lw_all := lw_g (lw_at lw_m5 167 rfl) rfl
theorem q1152 : (Jvm.Cond.static ({ cls := "MixedLeavesModel", name := "makesNone", desc := "(IDD)Z" } : Jvm.MethodName)) ∈ lw_all := lw_g (lw_at lw_m5 168 rfl) rfl
theorem q1153 : (Jvm.Cond.code ({ cls := "MixedLeavesModel", name := "makesNone", desc := "(IDD)Z" } : Jvm.MethodName) prog_11_method_60_code (5 : Nat) (Option.some Jvm.ClassFile.FieldType.boolean)) ∈ lw_all := lw_g (lw_at lw_m5 169 rfl) rfl
theorem q1154 : (Jvm.Cond.methodLink "MixedLeavesModel" (230 : Nat) ({ cls := "MixedLeavesModel", name := "isEndless", desc := "(D)Z" } : Jvm.MethodName)) ∈ lw_all := lw_g (lw_at lw_m5 170 rfl) rfl
theorem q1155 : (Jvm.Cond.static ({ cls := "MixedLeavesModel", name := "isEndless", desc := "(D)Z" } : Jvm.MethodName)) ∈ lw_all := lw_g (lw_at lw_m5 171 rfl) rfl
theorem q1156 : (Jvm.Cond.code ({ cls := "MixedLeavesModel", name := "isEndless", desc := "(D)Z" } : Jvm.MethodName) prog_11_method_59_code (2 : Nat) (Option.some Jvm.ClassFile.FieldType.boolean)) ∈ lw_all := lw_g (lw_at lw_m5 172 rfl) rfl
theorem q1157 : (Jvm.Cond.methodLink "MixedLeavesModel" (237 : Nat) ({ cls := "MixedLeavesModel", name := "whole", desc := "(DI)D" } : Jvm.MethodName)) ∈ lw_all := lw_g (lw_at lw_m5 173 rfl) rfl
theorem q1158 : (Jvm.Cond.static ({ cls := "MixedLeavesModel", name := "whole", desc := "(DI)D" } : Jvm.MethodName)) ∈ lw_all := lw_g (lw_at lw_m5 174 rfl) rfl
theorem q1159 : (Jvm.Cond.code ({ cls := "MixedLeavesModel", name := "whole", desc := "(DI)D" } : Jvm.MethodName) prog_11_method_58_code (11 : Nat) (Option.some Jvm.ClassFile.FieldType.double)) ∈ lw_all := lw_g (lw_at lw_m5 175 rfl) rfl
theorem q1160 : (Jvm.Cond.constantDouble "MixedLeavesModel" (224 : Nat) (14064741636278059008 : UInt64)) ∈ lw_all := lw_g (lw_at lw_m5 176 rfl) rfl
theorem q1161 : (Jvm.Cond.constantLong "MixedLeavesModel" (226 : Nat) (2 : Int64)) ∈ lw_all := lw_g (lw_at lw_m5 177 rfl) rfl
theorem q1162 : (Jvm.Cond.constantDouble "MixedLeavesModel" (228 : Nat) (9223372036854775808 : UInt64)) ∈ lw_all := lw_g (lw_at lw_m5 178 rfl) rfl
theorem q1163 : (Jvm.Cond.constantDouble "MixedLeavesModel" (241 : Nat) (13830554455654793216 : UInt64)) ∈ lw_all := lw_g (lw_at lw_m5 179 rfl) rfl
theorem q1165 : (Jvm.Cond.instanceMethod ({ cls := "MixedLeavesModel", name := "reckonFloat", desc := "(III)I" } : Jvm.MethodName)) ∈ lw_all := lw_g (lw_at lw_m5 181 rfl) rfl
theorem q1166 : (Jvm.Cond.selects "MixedLeavesModel" ({ cls := "MixedLeavesModel", name := "reckonFloat", desc := "(III)I" } : Jvm.MethodName) ({ cls := "MixedLeavesModel", name := "reckonFloat", desc := "(III)I" } : Jvm.MethodName)) ∈ lw_all := lw_g (lw_at lw_m5 182 rfl) rfl
theorem q1167 : (Jvm.Cond.code ({ cls := "MixedLeavesModel", name := "reckonFloat", desc := "(III)I" } : Jvm.MethodName) prog_11_method_62_code (6 : Nat) (Option.some Jvm.ClassFile.FieldType.int)) ∈ lw_all := lw_g (lw_at lw_m5 183 rfl) rfl
theorem q1168 : (Jvm.Cond.constantFloat "MixedLeavesModel" (243 : Nat) (3212836864 : UInt32)) ∈ lw_all := lw_g (lw_at lw_m5 184 rfl) rfl
theorem q1170 : (Jvm.Cond.instanceMethod ({ cls := "MixedLeavesModel", name := "compare", desc := "(JJZ)I" } : Jvm.MethodName)) ∈ lw_all := lw_g (lw_at lw_m5 186 rfl) rfl
theorem q1171 : (Jvm.Cond.selects "MixedLeavesModel" ({ cls := "MixedLeavesModel", name := "compare", desc := "(JJZ)I" } : Jvm.MethodName) ({ cls := "MixedLeavesModel", name := "compare", desc := "(JJZ)I" } : Jvm.MethodName)) ∈ lw_all := lw_g (lw_at lw_m5 187 rfl) rfl
theorem q1172 : (Jvm.Cond.code ({ cls := "MixedLeavesModel", name := "compare", desc := "(JJZ)I" } : Jvm.MethodName) prog_11_method_64_code (10 : Nat) (Option.some Jvm.ClassFile.FieldType.int)) ∈ lw_all := lw_g (lw_at lw_m5 188 rfl) rfl
theorem q1173 : (Jvm.Cond.methodLink "MixedLeavesModel" (244 : Nat) ({ cls := "MixedLeavesModel", name := "wide", desc := "(I)D" } : Jvm.MethodName)) ∈ lw_all := lw_g (lw_at lw_m5 189 rfl) rfl
theorem q1174 : (Jvm.Cond.static ({ cls := "MixedLeavesModel", name := "wide", desc := "(I)D" } : Jvm.MethodName)) ∈ lw_all := lw_g (lw_at lw_m5 190 rfl) rfl
theorem q1175 : (Jvm.Cond.code ({ cls := "MixedLeavesModel", name := "wide", desc := "(I)D" } : Jvm.MethodName) prog_11_method_63_code (2 : Nat) (Option.some Jvm.ClassFile.FieldType.double)) ∈ lw_all := lw_g (lw_at lw_m5 191 rfl) rfl
theorem q1177 : (Jvm.Cond.instanceMethod ({ cls := "MixedLeavesModel", name := "turn", desc := "(IIJ)J" } : Jvm.MethodName)) ∈ lw_all := lw_g (lw_at lw_m5 193 rfl) rfl
theorem q1178 : (Jvm.Cond.selects "MixedLeavesModel" ({ cls := "MixedLeavesModel", name := "turn", desc := "(IIJ)J" } : Jvm.MethodName) ({ cls := "MixedLeavesModel", name := "turn", desc := "(IIJ)J" } : Jvm.MethodName)) ∈ lw_all := lw_g (lw_at lw_m5 194 rfl) rfl
theorem q1179 : (Jvm.Cond.code ({ cls := "MixedLeavesModel", name := "turn", desc := "(IIJ)J" } : Jvm.MethodName) prog_11_method_65_code (5 : Nat) (Option.some Jvm.ClassFile.FieldType.long)) ∈ lw_all := lw_g (lw_at lw_m5 195 rfl) rfl
theorem q1181 : (Jvm.Cond.instanceMethod ({ cls := "MixedLeavesModel", name := "keep", desc := "(I)I" } : Jvm.MethodName)) ∈ lw_all := lw_g (lw_at lw_m5 197 rfl) rfl
theorem q1182 : (Jvm.Cond.selects "MixedLeavesModel" ({ cls := "MixedLeavesModel", name := "keep", desc := "(I)I" } : Jvm.MethodName) ({ cls := "MixedLeavesModel", name := "keep", desc := "(I)I" } : Jvm.MethodName)) ∈ lw_all := lw_g (lw_at lw_m5 198 rfl) rfl
theorem q1183 : (Jvm.Cond.code ({ cls := "MixedLeavesModel", name := "keep", desc := "(I)I" } : Jvm.MethodName) prog_11_method_67_code (9 : Nat) (Option.some Jvm.ClassFile.FieldType.int)) ∈ lw_all := lw_g (lw_at lw_m5 199 rfl) rfl
theorem q1184 : (Jvm.Cond.methodLink "MixedLeavesModel" (247 : Nat) ({ cls := "MixedLeavesModel", name := "blocks", desc := "(I)I" } : Jvm.MethodName)) ∈ lw_all := lw_g (lw_at lw_m5 200 rfl) rfl
theorem q1185 : (Jvm.Cond.privateMethod ({ cls := "MixedLeavesModel", name := "blocks", desc := "(I)I" } : Jvm.MethodName)) ∈ lw_tbl := lw_at lw_m5 201 rfl
theorem q1186 : (Jvm.Cond.instanceMethod ({ cls := "MixedLeavesModel", name := "blocks", desc := "(I)I" } : Jvm.MethodName)) ∈ lw_all := lw_g (lw_at lw_m5 202 rfl) rfl
theorem q1187 : (Jvm.Cond.code ({ cls := "MixedLeavesModel", name := "blocks", desc := "(I)I" } : Jvm.MethodName) prog_11_method_66_code (2 : Nat) (Option.some Jvm.ClassFile.FieldType.int)) ∈ lw_all := lw_g (lw_at lw_m5 203 rfl) rfl
theorem q1189 : (Jvm.Cond.instanceMethod ({ cls := "MixedLeavesModel", name := "back", desc := "(II)I" } : Jvm.MethodName)) ∈ lw_all := lw_g (lw_at lw_m5 205 rfl) rfl
theorem q1190 : (Jvm.Cond.selects "MixedLeavesModel" ({ cls := "MixedLeavesModel", name := "back", desc := "(II)I" } : Jvm.MethodName) ({ cls := "MixedLeavesModel", name := "back", desc := "(II)I" } : Jvm.MethodName)) ∈ lw_all := lw_g (lw_at lw_m5 206 rfl) rfl
theorem q1191 : (Jvm.Cond.code ({ cls := "MixedLeavesModel", name := "back", desc := "(II)I" } : Jvm.MethodName) prog_11_method_68_code (6 : Nat) (Option.some Jvm.ClassFile.FieldType.int)) ∈ lw_all := lw_g (lw_at lw_m5 207 rfl) rfl
theorem q1193 : (Jvm.Cond.instanceMethod ({ cls := "MixedLeavesModel", name := "leaf", desc := "(II)I" } : Jvm.MethodName)) ∈ lw_all := lw_g (lw_at lw_m5 209 rfl) rfl
theorem q1194 : (Jvm.Cond.selects "MixedLeavesModel" ({ cls := "MixedLeavesModel", name := "leaf", desc := "(II)I" } : Jvm.MethodName) ({ cls := "MixedLeavesModel", name := "leaf", desc := "(II)I" } : Jvm.MethodName)) ∈ lw_all := lw_g (lw_at lw_m5 210 rfl) rfl
theorem q1195 : (Jvm.Cond.code ({ cls := "MixedLeavesModel", name := "leaf", desc := "(II)I" } : Jvm.MethodName) prog_11_method_69_code (4 : Nat) (Option.some Jvm.ClassFile.FieldType.int)) ∈ lw_all := lw_g (lw_at lw_m5 211 rfl) rfl
theorem q1197 : (Jvm.Cond.instanceMethod ({ cls := "MixedLeavesModel", name := "leafAt", desc := "(II)J" } : Jvm.MethodName)) ∈ lw_all := lw_g (lw_at lw_m5 213 rfl) rfl
theorem q1198 : (Jvm.Cond.selects "MixedLeavesModel" ({ cls := "MixedLeavesModel", name := "leafAt", desc := "(II)J" } : Jvm.MethodName) ({ cls := "MixedLeavesModel", name := "leafAt", desc := "(II)J" } : Jvm.MethodName)) ∈ lw_all := lw_g (lw_at lw_m5 214 rfl) rfl
theorem q1199 : (Jvm.Cond.code ({ cls := "MixedLeavesModel", name := "leafAt", desc := "(II)J" } : Jvm.MethodName) prog_11_method_70_code (4 : Nat) (Option.some Jvm.ClassFile.FieldType.long)) ∈ lw_all := lw_g (lw_at lw_m5 215 rfl) rfl
theorem in_X3 : ∀ w ∈ wsX30, w ∈ lw_all := lw_in wsX30 [876, 878, 880, 882, 884, 886, 888, 890, 892, 894, 896, 898, 900, 902, 904, 906, 908] (by decide +kernel) (by decide +kernel)
