/-! MixedLeaves -/
set_option maxRecDepth 100000
def RX1 : String := "MixedLeaves"
def TX1 : u_T := fun k => match k with
  | 0 => ("MixedLeaves", "block", "I", true)
  | 1 => ("MixedLeaves", "slot", "[LMixedLeaves$Slot;", true)
  | 2 => ("MixedLeaves", "fault", "I", false)
  | 3 => ("MixedLeaves", "counts", "[I", true)
  | 4 => ("MixedLeaves", "frames", "I", false)
  | _ => ("MixedLeaves", "trail", "I", false)
def tyX1 : Nat → FieldType := fun k => match k with
  | 0 => .int
  | 1 => .array (.object "MixedLeaves$Slot")
  | 2 => .int
  | 3 => .array .int
  | 4 => .int
  | _ => .int
abbrev wsX10 : List Cond := u_ws RX1 TX1 6
theorem nmX1 : ∀ a, a < 6 → ∀ b, b < 6 → a ≠ b → (TX1 a).2.1 ≠ (TX1 b).2.1 := by decide +kernel
theorem tyX1_ok : ∀ k, k < 6 → parseFieldDescriptor (TX1 k).2.2.1 = some (tyX1 k) := by decide +kernel
abbrev cX1_init : ByteArray := prog_1_method_1_code
def yX1_init : MethodName := ⟨RX1, "<init>", "(I)V"⟩
def dkwX1_init_2 : List UInt8 := [28, 187, 0, 9, 89, 183, 0, 32, 83, 132, 2, 1, 167, 255, 234, 177]
abbrev dktX1_init_2 : List UInt8 := dkwX1_init_2 ++ []
def dkwX1_init_1 : List UInt8 := [16, 16, 27, 184, 0, 19, 184, 0, 25, 181, 0, 28, 3, 61, 28, 16, 16, 162, 0, 22, 42, 180, 0, 11]
abbrev dktX1_init_1 : List UInt8 := dkwX1_init_1 ++ dktX1_init_2
def dkwX1_init_0 : List UInt8 := [42, 183, 0, 1, 42, 16, 16, 189, 0, 9, 181, 0, 11, 42, 16, 8, 188, 10, 181, 0, 15, 42, 4]
abbrev dktX1_init_0 : List UInt8 := dkwX1_init_0 ++ dktX1_init_1
theorem dksX1_init_0 : cX1_init.data.toList.drop 0 = dktX1_init_0 := by decide +kernel
theorem dksX1_init_1 : cX1_init.data.toList.drop 23 = dktX1_init_1 := dk_seg dksX1_init_0 23 rfl rfl
theorem dksX1_init_2 : cX1_init.data.toList.drop 47 = dktX1_init_2 := dk_seg dksX1_init_1 24 rfl rfl
theorem dX1_init_0 : decode cX1_init 0 = .ok (.aload_n 0, 1) := dk_42 (dk_at dksX1_init_0 0 rfl rfl)
theorem dX1_init_1 : decode cX1_init 1 = .ok (.invokespecial 1, 3) := dk_183 0 1 (dk_at dksX1_init_0 1 rfl rfl)
theorem dX1_init_4 : decode cX1_init 4 = .ok (.aload_n 0, 1) := dk_42 (dk_at dksX1_init_0 4 rfl rfl)
theorem dX1_init_5 : decode cX1_init 5 = .ok (.bipush 16, 2) := dk_16 16 (dk_at dksX1_init_0 5 rfl rfl)
theorem dX1_init_7 : decode cX1_init 7 = .ok (.anewarray 9, 3) := dk_189 0 9 (dk_at dksX1_init_0 7 rfl rfl)
theorem dX1_init_10 : decode cX1_init 10 = .ok (.putfield 11, 3) := dk_181 0 11 (dk_at dksX1_init_0 10 rfl rfl)
theorem dX1_init_13 : decode cX1_init 13 = .ok (.aload_n 0, 1) := dk_42 (dk_at dksX1_init_0 13 rfl rfl)
theorem dX1_init_14 : decode cX1_init 14 = .ok (.bipush 8, 2) := dk_16 8 (dk_at dksX1_init_0 14 rfl rfl)
theorem dX1_init_16 : decode cX1_init 16 = .ok (.newarray .int, 2) := dk_188_10 (dk_at dksX1_init_0 16 rfl rfl)
theorem dX1_init_18 : decode cX1_init 18 = .ok (.putfield 15, 3) := dk_181 0 15 (dk_at dksX1_init_0 18 rfl rfl)
theorem dX1_init_21 : decode cX1_init 21 = .ok (.aload_n 0, 1) := dk_42 (dk_at dksX1_init_0 21 rfl rfl)
theorem dX1_init_22 : decode cX1_init 22 = .ok (.iconst 1, 1) := dk_4 (dk_at dksX1_init_0 22 rfl rfl)
theorem dX1_init_23 : decode cX1_init 23 = .ok (.bipush 16, 2) := dk_16 16 (dk_at dksX1_init_1 0 rfl rfl)
theorem dX1_init_25 : decode cX1_init 25 = .ok (.iload_n 1, 1) := dk_27 (dk_at dksX1_init_1 2 rfl rfl)
theorem dX1_init_26 : decode cX1_init 26 = .ok (.invokestatic 19, 3) := dk_184 0 19 (dk_at dksX1_init_1 3 rfl rfl)
theorem dX1_init_29 : decode cX1_init 29 = .ok (.invokestatic 25, 3) := dk_184 0 25 (dk_at dksX1_init_1 6 rfl rfl)
theorem dX1_init_32 : decode cX1_init 32 = .ok (.putfield 28, 3) := dk_181 0 28 (dk_at dksX1_init_1 9 rfl rfl)
theorem dX1_init_35 : decode cX1_init 35 = .ok (.iconst 0, 1) := dk_3 (dk_at dksX1_init_1 12 rfl rfl)
theorem dX1_init_36 : decode cX1_init 36 = .ok (.istore_n 2, 1) := dk_61 (dk_at dksX1_init_1 13 rfl rfl)
theorem dX1_init_37 : decode cX1_init 37 = .ok (.iload_n 2, 1) := dk_28 (dk_at dksX1_init_1 14 rfl rfl)
theorem dX1_init_38 : decode cX1_init 38 = .ok (.bipush 16, 2) := dk_16 16 (dk_at dksX1_init_1 15 rfl rfl)
theorem dX1_init_40 : decode cX1_init 40 = .ok (.if_icmp .ge 22, 3) := dk_162 0 22 (dk_at dksX1_init_1 17 rfl rfl)
theorem dX1_init_43 : decode cX1_init 43 = .ok (.aload_n 0, 1) := dk_42 (dk_at dksX1_init_1 20 rfl rfl)
theorem dX1_init_44 : decode cX1_init 44 = .ok (.getfield 11, 3) := dk_180 0 11 (dk_at dksX1_init_1 21 rfl rfl)
theorem dX1_init_47 : decode cX1_init 47 = .ok (.iload_n 2, 1) := dk_28 (dk_at dksX1_init_2 0 rfl rfl)
theorem dX1_init_48 : decode cX1_init 48 = .ok (.new 9, 3) := dk_187 0 9 (dk_at dksX1_init_2 1 rfl rfl)
theorem dX1_init_51 : decode cX1_init 51 = .ok (.dup, 1) := dk_89 (dk_at dksX1_init_2 4 rfl rfl)
theorem dX1_init_52 : decode cX1_init 52 = .ok (.invokespecial 32, 3) := dk_183 0 32 (dk_at dksX1_init_2 5 rfl rfl)
theorem dX1_init_55 : decode cX1_init 55 = .ok (.aastore, 1) := dk_83 (dk_at dksX1_init_2 8 rfl rfl)
theorem dX1_init_56 : decode cX1_init 56 = .ok (.iinc 2 1, 3) := dk_132 2 1 (dk_at dksX1_init_2 9 rfl rfl)
theorem dX1_init_59 : decode cX1_init 59 = .ok (.goto (-22), 3) := dk_167 255 234 (dk_at dksX1_init_2 12 rfl rfl)
theorem dX1_init_62 : decode cX1_init 62 = .ok (.return_, 1) := dk_177 (dk_at dksX1_init_2 15 rfl rfl)
abbrev cX1_fault : ByteArray := prog_1_method_5_code
def yX1_fault : MethodName := ⟨RX1, "fault", "()I"⟩
theorem dX1_fault_0 : decode cX1_fault 0 = .ok (.aload_n 0, 1) := by decide +kernel
theorem dX1_fault_1 : decode cX1_fault 1 = .ok (.getfield 33, 3) := by decide +kernel
theorem dX1_fault_4 : decode cX1_fault 4 = .ok (.ireturn, 1) := by decide +kernel
abbrev cX1_faults : ByteArray := prog_1_method_6_code
def yX1_faults : MethodName := ⟨RX1, "faults", "(I)I"⟩
def dkwX1_faults_0 : List UInt8 := [27, 4, 161, 0, 18, 27, 16, 7, 163, 0, 12, 42, 180, 0, 15, 27, 46, 167, 0, 4, 3, 172]
abbrev dktX1_faults_0 : List UInt8 := dkwX1_faults_0 ++ []
theorem dksX1_faults_0 : cX1_faults.data.toList.drop 0 = dktX1_faults_0 := by decide +kernel
theorem dX1_faults_0 : decode cX1_faults 0 = .ok (.iload_n 1, 1) := dk_27 (dk_at dksX1_faults_0 0 rfl rfl)
theorem dX1_faults_1 : decode cX1_faults 1 = .ok (.iconst 1, 1) := dk_4 (dk_at dksX1_faults_0 1 rfl rfl)
theorem dX1_faults_2 : decode cX1_faults 2 = .ok (.if_icmp .lt 18, 3) := dk_161 0 18 (dk_at dksX1_faults_0 2 rfl rfl)
theorem dX1_faults_5 : decode cX1_faults 5 = .ok (.iload_n 1, 1) := dk_27 (dk_at dksX1_faults_0 5 rfl rfl)
theorem dX1_faults_6 : decode cX1_faults 6 = .ok (.bipush 7, 2) := dk_16 7 (dk_at dksX1_faults_0 6 rfl rfl)
theorem dX1_faults_8 : decode cX1_faults 8 = .ok (.if_icmp .gt 12, 3) := dk_163 0 12 (dk_at dksX1_faults_0 8 rfl rfl)
theorem dX1_faults_11 : decode cX1_faults 11 = .ok (.aload_n 0, 1) := dk_42 (dk_at dksX1_faults_0 11 rfl rfl)
theorem dX1_faults_12 : decode cX1_faults 12 = .ok (.getfield 15, 3) := dk_180 0 15 (dk_at dksX1_faults_0 12 rfl rfl)
theorem dX1_faults_15 : decode cX1_faults 15 = .ok (.iload_n 1, 1) := dk_27 (dk_at dksX1_faults_0 15 rfl rfl)
theorem dX1_faults_16 : decode cX1_faults 16 = .ok (.iaload, 1) := dk_46 (dk_at dksX1_faults_0 16 rfl rfl)
theorem dX1_faults_17 : decode cX1_faults 17 = .ok (.goto 4, 3) := dk_167 0 4 (dk_at dksX1_faults_0 17 rfl rfl)
theorem dX1_faults_20 : decode cX1_faults 20 = .ok (.iconst 0, 1) := dk_3 (dk_at dksX1_faults_0 20 rfl rfl)
theorem dX1_faults_21 : decode cX1_faults 21 = .ok (.ireturn, 1) := dk_172 (dk_at dksX1_faults_0 21 rfl rfl)
abbrev cX1_row : ByteArray := prog_1_method_8_code
def yX1_row : MethodName := ⟨RX1, "row", "(III)I"⟩
def dkwX1_row_1 : List UInt8 := [182, 0, 49, 172, 42, 27, 28, 29, 184, 0, 53, 182, 0, 57, 29, 172, 58, 4, 42, 7, 182, 0, 49, 172]
abbrev dktX1_row_1 : List UInt8 := dkwX1_row_1 ++ []
def dkwX1_row_0 : List UInt8 := [42, 27, 182, 0, 45, 87, 28, 155, 0, 15, 28, 16, 10, 163, 0, 9, 29, 16, 40, 164, 0, 9, 42, 4]
abbrev dktX1_row_0 : List UInt8 := dkwX1_row_0 ++ dktX1_row_1
theorem dksX1_row_0 : cX1_row.data.toList.drop 0 = dktX1_row_0 := by decide +kernel
theorem dksX1_row_1 : cX1_row.data.toList.drop 24 = dktX1_row_1 := dk_seg dksX1_row_0 24 rfl rfl
theorem dX1_row_0 : decode cX1_row 0 = .ok (.aload_n 0, 1) := dk_42 (dk_at dksX1_row_0 0 rfl rfl)
theorem dX1_row_1 : decode cX1_row 1 = .ok (.iload_n 1, 1) := dk_27 (dk_at dksX1_row_0 1 rfl rfl)
theorem dX1_row_2 : decode cX1_row 2 = .ok (.invokevirtual 45, 3) := dk_182 0 45 (dk_at dksX1_row_0 2 rfl rfl)
theorem dX1_row_5 : decode cX1_row 5 = .ok (.pop, 1) := dk_87 (dk_at dksX1_row_0 5 rfl rfl)
theorem dX1_row_6 : decode cX1_row 6 = .ok (.iload_n 2, 1) := dk_28 (dk_at dksX1_row_0 6 rfl rfl)
theorem dX1_row_7 : decode cX1_row 7 = .ok (.ifCond .lt 15, 3) := dk_155 0 15 (dk_at dksX1_row_0 7 rfl rfl)
theorem dX1_row_10 : decode cX1_row 10 = .ok (.iload_n 2, 1) := dk_28 (dk_at dksX1_row_0 10 rfl rfl)
theorem dX1_row_11 : decode cX1_row 11 = .ok (.bipush 10, 2) := dk_16 10 (dk_at dksX1_row_0 11 rfl rfl)
theorem dX1_row_13 : decode cX1_row 13 = .ok (.if_icmp .gt 9, 3) := dk_163 0 9 (dk_at dksX1_row_0 13 rfl rfl)
theorem dX1_row_16 : decode cX1_row 16 = .ok (.iload_n 3, 1) := dk_29 (dk_at dksX1_row_0 16 rfl rfl)
theorem dX1_row_17 : decode cX1_row 17 = .ok (.bipush 40, 2) := dk_16 40 (dk_at dksX1_row_0 17 rfl rfl)
theorem dX1_row_19 : decode cX1_row 19 = .ok (.if_icmp .le 9, 3) := dk_164 0 9 (dk_at dksX1_row_0 19 rfl rfl)
theorem dX1_row_22 : decode cX1_row 22 = .ok (.aload_n 0, 1) := dk_42 (dk_at dksX1_row_0 22 rfl rfl)
theorem dX1_row_23 : decode cX1_row 23 = .ok (.iconst 1, 1) := dk_4 (dk_at dksX1_row_0 23 rfl rfl)
theorem dX1_row_24 : decode cX1_row 24 = .ok (.invokevirtual 49, 3) := dk_182 0 49 (dk_at dksX1_row_1 0 rfl rfl)
theorem dX1_row_27 : decode cX1_row 27 = .ok (.ireturn, 1) := dk_172 (dk_at dksX1_row_1 3 rfl rfl)
theorem dX1_row_28 : decode cX1_row 28 = .ok (.aload_n 0, 1) := dk_42 (dk_at dksX1_row_1 4 rfl rfl)
theorem dX1_row_29 : decode cX1_row 29 = .ok (.iload_n 1, 1) := dk_27 (dk_at dksX1_row_1 5 rfl rfl)
theorem dX1_row_30 : decode cX1_row 30 = .ok (.iload_n 2, 1) := dk_28 (dk_at dksX1_row_1 6 rfl rfl)
theorem dX1_row_31 : decode cX1_row 31 = .ok (.iload_n 3, 1) := dk_29 (dk_at dksX1_row_1 7 rfl rfl)
theorem dX1_row_32 : decode cX1_row 32 = .ok (.invokestatic 53, 3) := dk_184 0 53 (dk_at dksX1_row_1 8 rfl rfl)
theorem dX1_row_35 : decode cX1_row 35 = .ok (.invokevirtual 57, 3) := dk_182 0 57 (dk_at dksX1_row_1 11 rfl rfl)
theorem dX1_row_38 : decode cX1_row 38 = .ok (.iload_n 3, 1) := dk_29 (dk_at dksX1_row_1 14 rfl rfl)
theorem dX1_row_39 : decode cX1_row 39 = .ok (.ireturn, 1) := dk_172 (dk_at dksX1_row_1 15 rfl rfl)
theorem dX1_row_40 : decode cX1_row 40 = .ok (.astore 4, 2) := dk_58 4 (dk_at dksX1_row_1 16 rfl rfl)
theorem dX1_row_42 : decode cX1_row 42 = .ok (.aload_n 0, 1) := dk_42 (dk_at dksX1_row_1 18 rfl rfl)
theorem dX1_row_43 : decode cX1_row 43 = .ok (.iconst 4, 1) := dk_7 (dk_at dksX1_row_1 19 rfl rfl)
theorem dX1_row_44 : decode cX1_row 44 = .ok (.invokevirtual 49, 3) := dk_182 0 49 (dk_at dksX1_row_1 20 rfl rfl)
theorem dX1_row_47 : decode cX1_row 47 = .ok (.ireturn, 1) := dk_172 (dk_at dksX1_row_1 23 rfl rfl)
abbrev cX1_begin : ByteArray := prog_1_method_2_code
def yX1_begin : MethodName := ⟨RX1, "begin", "(I)Ljava/lang/Object;"⟩
def dkwX1_begin_0 : List UInt8 := [42, 3, 181, 0, 33, 42, 180, 0, 11, 27, 16, 15, 126, 50, 180, 0, 36, 176]
abbrev dktX1_begin_0 : List UInt8 := dkwX1_begin_0 ++ []
theorem dksX1_begin_0 : cX1_begin.data.toList.drop 0 = dktX1_begin_0 := by decide +kernel
theorem dX1_begin_0 : decode cX1_begin 0 = .ok (.aload_n 0, 1) := dk_42 (dk_at dksX1_begin_0 0 rfl rfl)
theorem dX1_begin_1 : decode cX1_begin 1 = .ok (.iconst 0, 1) := dk_3 (dk_at dksX1_begin_0 1 rfl rfl)
theorem dX1_begin_2 : decode cX1_begin 2 = .ok (.putfield 33, 3) := dk_181 0 33 (dk_at dksX1_begin_0 2 rfl rfl)
theorem dX1_begin_5 : decode cX1_begin 5 = .ok (.aload_n 0, 1) := dk_42 (dk_at dksX1_begin_0 5 rfl rfl)
theorem dX1_begin_6 : decode cX1_begin 6 = .ok (.getfield 11, 3) := dk_180 0 11 (dk_at dksX1_begin_0 6 rfl rfl)
theorem dX1_begin_9 : decode cX1_begin 9 = .ok (.iload_n 1, 1) := dk_27 (dk_at dksX1_begin_0 9 rfl rfl)
theorem dX1_begin_10 : decode cX1_begin 10 = .ok (.bipush 15, 2) := dk_16 15 (dk_at dksX1_begin_0 10 rfl rfl)
theorem dX1_begin_12 : decode cX1_begin 12 = .ok (.iand, 1) := dk_126 (dk_at dksX1_begin_0 12 rfl rfl)
theorem dX1_begin_13 : decode cX1_begin 13 = .ok (.aaload, 1) := dk_50 (dk_at dksX1_begin_0 13 rfl rfl)
theorem dX1_begin_14 : decode cX1_begin 14 = .ok (.getfield 36, 3) := dk_180 0 36 (dk_at dksX1_begin_0 14 rfl rfl)
theorem dX1_begin_17 : decode cX1_begin 17 = .ok (.areturn, 1) := dk_176 (dk_at dksX1_begin_0 17 rfl rfl)
abbrev cX1_fail : ByteArray := prog_1_method_3_code
def yX1_fail : MethodName := ⟨RX1, "fail", "(I)I"⟩
def dkwX1_fail_0 : List UInt8 := [42, 27, 181, 0, 33, 42, 180, 0, 15, 27, 92, 46, 4, 96, 79, 3, 172]
abbrev dktX1_fail_0 : List UInt8 := dkwX1_fail_0 ++ []
theorem dksX1_fail_0 : cX1_fail.data.toList.drop 0 = dktX1_fail_0 := by decide +kernel
theorem dX1_fail_0 : decode cX1_fail 0 = .ok (.aload_n 0, 1) := dk_42 (dk_at dksX1_fail_0 0 rfl rfl)
theorem dX1_fail_1 : decode cX1_fail 1 = .ok (.iload_n 1, 1) := dk_27 (dk_at dksX1_fail_0 1 rfl rfl)
theorem dX1_fail_2 : decode cX1_fail 2 = .ok (.putfield 33, 3) := dk_181 0 33 (dk_at dksX1_fail_0 2 rfl rfl)
theorem dX1_fail_5 : decode cX1_fail 5 = .ok (.aload_n 0, 1) := dk_42 (dk_at dksX1_fail_0 5 rfl rfl)
theorem dX1_fail_6 : decode cX1_fail 6 = .ok (.getfield 15, 3) := dk_180 0 15 (dk_at dksX1_fail_0 6 rfl rfl)
theorem dX1_fail_9 : decode cX1_fail 9 = .ok (.iload_n 1, 1) := dk_27 (dk_at dksX1_fail_0 9 rfl rfl)
theorem dX1_fail_10 : decode cX1_fail 10 = .ok (.dup2, 1) := dk_92 (dk_at dksX1_fail_0 10 rfl rfl)
theorem dX1_fail_11 : decode cX1_fail 11 = .ok (.iaload, 1) := dk_46 (dk_at dksX1_fail_0 11 rfl rfl)
theorem dX1_fail_12 : decode cX1_fail 12 = .ok (.iconst 1, 1) := dk_4 (dk_at dksX1_fail_0 12 rfl rfl)
theorem dX1_fail_13 : decode cX1_fail 13 = .ok (.iadd, 1) := dk_96 (dk_at dksX1_fail_0 13 rfl rfl)
theorem dX1_fail_14 : decode cX1_fail 14 = .ok (.iastore, 1) := dk_79 (dk_at dksX1_fail_0 14 rfl rfl)
theorem dX1_fail_15 : decode cX1_fail 15 = .ok (.iconst 0, 1) := dk_3 (dk_at dksX1_fail_0 15 rfl rfl)
theorem dX1_fail_16 : decode cX1_fail 16 = .ok (.ireturn, 1) := dk_172 (dk_at dksX1_fail_0 16 rfl rfl)
abbrev cX1_made : ByteArray := prog_1_method_7_code
def yX1_made : MethodName := ⟨RX1, "made", "(II)Ljava/lang/Object;"⟩
def dkwX1_made_3 : List UInt8 := [27, 188, 6, 176, 27, 188, 7, 176, 27, 189, 0, 40, 176, 27, 189, 0, 41, 176, 27, 189, 0, 43, 176]
abbrev dktX1_made_3 : List UInt8 := dkwX1_made_3 ++ []
def dkwX1_made_2 : List UInt8 := [27, 188, 4, 176, 27, 188, 8, 176, 27, 188, 5, 176, 27, 188, 9, 176, 27, 188, 10, 176, 27, 188, 11, 176]
abbrev dktX1_made_2 : List UInt8 := dkwX1_made_2 ++ dktX1_made_3
def dkwX1_made_1 : List UInt8 := [170, 0, 0, 0, 0, 0, 97, 0, 0, 0, 0, 0, 0, 0, 9, 0, 0, 0, 55, 0, 0, 0, 59, 0, 0, 0, 63, 0, 0, 0, 67, 0, 0, 0, 71, 0, 0, 0, 75, 0, 0, 0, 79, 0, 0, 0, 83, 0, 0, 0, 87, 0, 0, 0, 92]
abbrev dktX1_made_1 : List UInt8 := dkwX1_made_1 ++ dktX1_made_2
def dkwX1_made_0 : List UInt8 := [26]
abbrev dktX1_made_0 : List UInt8 := dkwX1_made_0 ++ dktX1_made_1
theorem dksX1_made_0 : cX1_made.data.toList.drop 0 = dktX1_made_0 := by decide +kernel
theorem dksX1_made_1 : cX1_made.data.toList.drop 1 = dktX1_made_1 := dk_seg dksX1_made_0 1 rfl rfl
theorem dksX1_made_2 : cX1_made.data.toList.drop 56 = dktX1_made_2 := dk_seg dksX1_made_1 55 rfl rfl
theorem dksX1_made_3 : cX1_made.data.toList.drop 80 = dktX1_made_3 := dk_seg dksX1_made_2 24 rfl rfl
theorem dX1_made_0 : decode cX1_made 0 = .ok (.iload_n 0, 1) := dk_26 (dk_at dksX1_made_0 0 rfl rfl)
theorem dX1_made_1 : decode cX1_made 1 = .ok (.tableswitch 97 0 9 #[55, 59, 63, 67, 71, 75, 79, 83, 87, 92], 55) := by decide +kernel
theorem dX1_made_56 : decode cX1_made 56 = .ok (.iload_n 1, 1) := dk_27 (dk_at dksX1_made_2 0 rfl rfl)
theorem dX1_made_57 : decode cX1_made 57 = .ok (.newarray .boolean, 2) := dk_188_4 (dk_at dksX1_made_2 1 rfl rfl)
theorem dX1_made_59 : decode cX1_made 59 = .ok (.areturn, 1) := dk_176 (dk_at dksX1_made_2 3 rfl rfl)
theorem dX1_made_60 : decode cX1_made 60 = .ok (.iload_n 1, 1) := dk_27 (dk_at dksX1_made_2 4 rfl rfl)
theorem dX1_made_61 : decode cX1_made 61 = .ok (.newarray .byte, 2) := dk_188_8 (dk_at dksX1_made_2 5 rfl rfl)
theorem dX1_made_63 : decode cX1_made 63 = .ok (.areturn, 1) := dk_176 (dk_at dksX1_made_2 7 rfl rfl)
theorem dX1_made_64 : decode cX1_made 64 = .ok (.iload_n 1, 1) := dk_27 (dk_at dksX1_made_2 8 rfl rfl)
theorem dX1_made_65 : decode cX1_made 65 = .ok (.newarray .char, 2) := dk_188_5 (dk_at dksX1_made_2 9 rfl rfl)
theorem dX1_made_67 : decode cX1_made 67 = .ok (.areturn, 1) := dk_176 (dk_at dksX1_made_2 11 rfl rfl)
theorem dX1_made_68 : decode cX1_made 68 = .ok (.iload_n 1, 1) := dk_27 (dk_at dksX1_made_2 12 rfl rfl)
theorem dX1_made_69 : decode cX1_made 69 = .ok (.newarray .short, 2) := dk_188_9 (dk_at dksX1_made_2 13 rfl rfl)
theorem dX1_made_71 : decode cX1_made 71 = .ok (.areturn, 1) := dk_176 (dk_at dksX1_made_2 15 rfl rfl)
theorem dX1_made_72 : decode cX1_made 72 = .ok (.iload_n 1, 1) := dk_27 (dk_at dksX1_made_2 16 rfl rfl)
theorem dX1_made_73 : decode cX1_made 73 = .ok (.newarray .int, 2) := dk_188_10 (dk_at dksX1_made_2 17 rfl rfl)
theorem dX1_made_75 : decode cX1_made 75 = .ok (.areturn, 1) := dk_176 (dk_at dksX1_made_2 19 rfl rfl)
theorem dX1_made_76 : decode cX1_made 76 = .ok (.iload_n 1, 1) := dk_27 (dk_at dksX1_made_2 20 rfl rfl)
theorem dX1_made_77 : decode cX1_made 77 = .ok (.newarray .long, 2) := dk_188_11 (dk_at dksX1_made_2 21 rfl rfl)
theorem dX1_made_79 : decode cX1_made 79 = .ok (.areturn, 1) := dk_176 (dk_at dksX1_made_2 23 rfl rfl)
theorem dX1_made_80 : decode cX1_made 80 = .ok (.iload_n 1, 1) := dk_27 (dk_at dksX1_made_3 0 rfl rfl)
theorem dX1_made_81 : decode cX1_made 81 = .ok (.newarray .float, 2) := dk_188_6 (dk_at dksX1_made_3 1 rfl rfl)
theorem dX1_made_83 : decode cX1_made 83 = .ok (.areturn, 1) := dk_176 (dk_at dksX1_made_3 3 rfl rfl)
theorem dX1_made_84 : decode cX1_made 84 = .ok (.iload_n 1, 1) := dk_27 (dk_at dksX1_made_3 4 rfl rfl)
theorem dX1_made_85 : decode cX1_made 85 = .ok (.newarray .double, 2) := dk_188_7 (dk_at dksX1_made_3 5 rfl rfl)
theorem dX1_made_87 : decode cX1_made 87 = .ok (.areturn, 1) := dk_176 (dk_at dksX1_made_3 7 rfl rfl)
theorem dX1_made_88 : decode cX1_made 88 = .ok (.iload_n 1, 1) := dk_27 (dk_at dksX1_made_3 8 rfl rfl)
theorem dX1_made_89 : decode cX1_made 89 = .ok (.anewarray 40, 3) := dk_189 0 40 (dk_at dksX1_made_3 9 rfl rfl)
theorem dX1_made_92 : decode cX1_made 92 = .ok (.areturn, 1) := dk_176 (dk_at dksX1_made_3 12 rfl rfl)
theorem dX1_made_93 : decode cX1_made 93 = .ok (.iload_n 1, 1) := dk_27 (dk_at dksX1_made_3 13 rfl rfl)
theorem dX1_made_94 : decode cX1_made 94 = .ok (.anewarray 41, 3) := dk_189 0 41 (dk_at dksX1_made_3 14 rfl rfl)
theorem dX1_made_97 : decode cX1_made 97 = .ok (.areturn, 1) := dk_176 (dk_at dksX1_made_3 17 rfl rfl)
theorem dX1_made_98 : decode cX1_made 98 = .ok (.iload_n 1, 1) := dk_27 (dk_at dksX1_made_3 18 rfl rfl)
theorem dX1_made_99 : decode cX1_made 99 = .ok (.anewarray 43, 3) := dk_189 0 43 (dk_at dksX1_made_3 19 rfl rfl)
theorem dX1_made_102 : decode cX1_made 102 = .ok (.areturn, 1) := dk_176 (dk_at dksX1_made_3 22 rfl rfl)
abbrev cX1_keepAt : ByteArray := prog_1_method_4_code
def yX1_keepAt : MethodName := ⟨RX1, "keepAt", "(ILjava/lang/Object;)V"⟩
def dkwX1_keepAt_0 : List UInt8 := [42, 180, 0, 11, 27, 16, 15, 126, 50, 44, 181, 0, 36, 177]
abbrev dktX1_keepAt_0 : List UInt8 := dkwX1_keepAt_0 ++ []
theorem dksX1_keepAt_0 : cX1_keepAt.data.toList.drop 0 = dktX1_keepAt_0 := by decide +kernel
theorem dX1_keepAt_0 : decode cX1_keepAt 0 = .ok (.aload_n 0, 1) := dk_42 (dk_at dksX1_keepAt_0 0 rfl rfl)
theorem dX1_keepAt_1 : decode cX1_keepAt 1 = .ok (.getfield 11, 3) := dk_180 0 11 (dk_at dksX1_keepAt_0 1 rfl rfl)
theorem dX1_keepAt_4 : decode cX1_keepAt 4 = .ok (.iload_n 1, 1) := dk_27 (dk_at dksX1_keepAt_0 4 rfl rfl)
theorem dX1_keepAt_5 : decode cX1_keepAt 5 = .ok (.bipush 15, 2) := dk_16 15 (dk_at dksX1_keepAt_0 5 rfl rfl)
theorem dX1_keepAt_7 : decode cX1_keepAt 7 = .ok (.iand, 1) := dk_126 (dk_at dksX1_keepAt_0 7 rfl rfl)
theorem dX1_keepAt_8 : decode cX1_keepAt 8 = .ok (.aaload, 1) := dk_50 (dk_at dksX1_keepAt_0 8 rfl rfl)
theorem dX1_keepAt_9 : decode cX1_keepAt 9 = .ok (.aload_n 2, 1) := dk_44 (dk_at dksX1_keepAt_0 9 rfl rfl)
theorem dX1_keepAt_10 : decode cX1_keepAt 10 = .ok (.putfield 36, 3) := dk_181 0 36 (dk_at dksX1_keepAt_0 10 rfl rfl)
theorem dX1_keepAt_13 : decode cX1_keepAt 13 = .ok (.return_, 1) := dk_177 (dk_at dksX1_keepAt_0 13 rfl rfl)
abbrev cX1_rows : ByteArray := prog_1_method_9_code
def yX1_rows : MethodName := ⟨RX1, "rows", "(III)I"⟩
def dkwX1_rows_1 : List UInt8 := [42, 27, 28, 29, 197, 0, 63, 2, 182, 0, 57, 28, 29, 104, 172, 58, 4, 42, 7, 182, 0, 49, 172]
abbrev dktX1_rows_1 : List UInt8 := dkwX1_rows_1 ++ []
def dkwX1_rows_0 : List UInt8 := [42, 27, 182, 0, 45, 87, 28, 16, 8, 163, 0, 9, 29, 16, 8, 164, 0, 9, 42, 4, 182, 0, 49, 172]
abbrev dktX1_rows_0 : List UInt8 := dkwX1_rows_0 ++ dktX1_rows_1
theorem dksX1_rows_0 : cX1_rows.data.toList.drop 0 = dktX1_rows_0 := by decide +kernel
theorem dksX1_rows_1 : cX1_rows.data.toList.drop 24 = dktX1_rows_1 := dk_seg dksX1_rows_0 24 rfl rfl
theorem dX1_rows_0 : decode cX1_rows 0 = .ok (.aload_n 0, 1) := dk_42 (dk_at dksX1_rows_0 0 rfl rfl)
theorem dX1_rows_1 : decode cX1_rows 1 = .ok (.iload_n 1, 1) := dk_27 (dk_at dksX1_rows_0 1 rfl rfl)
theorem dX1_rows_2 : decode cX1_rows 2 = .ok (.invokevirtual 45, 3) := dk_182 0 45 (dk_at dksX1_rows_0 2 rfl rfl)
theorem dX1_rows_5 : decode cX1_rows 5 = .ok (.pop, 1) := dk_87 (dk_at dksX1_rows_0 5 rfl rfl)
theorem dX1_rows_6 : decode cX1_rows 6 = .ok (.iload_n 2, 1) := dk_28 (dk_at dksX1_rows_0 6 rfl rfl)
theorem dX1_rows_7 : decode cX1_rows 7 = .ok (.bipush 8, 2) := dk_16 8 (dk_at dksX1_rows_0 7 rfl rfl)
theorem dX1_rows_9 : decode cX1_rows 9 = .ok (.if_icmp .gt 9, 3) := dk_163 0 9 (dk_at dksX1_rows_0 9 rfl rfl)
theorem dX1_rows_12 : decode cX1_rows 12 = .ok (.iload_n 3, 1) := dk_29 (dk_at dksX1_rows_0 12 rfl rfl)
theorem dX1_rows_13 : decode cX1_rows 13 = .ok (.bipush 8, 2) := dk_16 8 (dk_at dksX1_rows_0 13 rfl rfl)
theorem dX1_rows_15 : decode cX1_rows 15 = .ok (.if_icmp .le 9, 3) := dk_164 0 9 (dk_at dksX1_rows_0 15 rfl rfl)
theorem dX1_rows_18 : decode cX1_rows 18 = .ok (.aload_n 0, 1) := dk_42 (dk_at dksX1_rows_0 18 rfl rfl)
theorem dX1_rows_19 : decode cX1_rows 19 = .ok (.iconst 1, 1) := dk_4 (dk_at dksX1_rows_0 19 rfl rfl)
theorem dX1_rows_20 : decode cX1_rows 20 = .ok (.invokevirtual 49, 3) := dk_182 0 49 (dk_at dksX1_rows_0 20 rfl rfl)
theorem dX1_rows_23 : decode cX1_rows 23 = .ok (.ireturn, 1) := dk_172 (dk_at dksX1_rows_0 23 rfl rfl)
theorem dX1_rows_24 : decode cX1_rows 24 = .ok (.aload_n 0, 1) := dk_42 (dk_at dksX1_rows_1 0 rfl rfl)
theorem dX1_rows_25 : decode cX1_rows 25 = .ok (.iload_n 1, 1) := dk_27 (dk_at dksX1_rows_1 1 rfl rfl)
theorem dX1_rows_26 : decode cX1_rows 26 = .ok (.iload_n 2, 1) := dk_28 (dk_at dksX1_rows_1 2 rfl rfl)
theorem dX1_rows_27 : decode cX1_rows 27 = .ok (.iload_n 3, 1) := dk_29 (dk_at dksX1_rows_1 3 rfl rfl)
theorem dX1_rows_28 : decode cX1_rows 28 = .ok (.multianewarray 63 2, 4) := by decide +kernel
theorem dX1_rows_32 : decode cX1_rows 32 = .ok (.invokevirtual 57, 3) := dk_182 0 57 (dk_at dksX1_rows_1 8 rfl rfl)
theorem dX1_rows_35 : decode cX1_rows 35 = .ok (.iload_n 2, 1) := dk_28 (dk_at dksX1_rows_1 11 rfl rfl)
theorem dX1_rows_36 : decode cX1_rows 36 = .ok (.iload_n 3, 1) := dk_29 (dk_at dksX1_rows_1 12 rfl rfl)
theorem dX1_rows_37 : decode cX1_rows 37 = .ok (.imul, 1) := dk_104 (dk_at dksX1_rows_1 13 rfl rfl)
theorem dX1_rows_38 : decode cX1_rows 38 = .ok (.ireturn, 1) := dk_172 (dk_at dksX1_rows_1 14 rfl rfl)
theorem dX1_rows_39 : decode cX1_rows 39 = .ok (.astore 4, 2) := dk_58 4 (dk_at dksX1_rows_1 15 rfl rfl)
theorem dX1_rows_41 : decode cX1_rows 41 = .ok (.aload_n 0, 1) := dk_42 (dk_at dksX1_rows_1 17 rfl rfl)
theorem dX1_rows_42 : decode cX1_rows 42 = .ok (.iconst 4, 1) := dk_7 (dk_at dksX1_rows_1 18 rfl rfl)
theorem dX1_rows_43 : decode cX1_rows 43 = .ok (.invokevirtual 49, 3) := dk_182 0 49 (dk_at dksX1_rows_1 19 rfl rfl)
theorem dX1_rows_46 : decode cX1_rows 46 = .ok (.ireturn, 1) := dk_172 (dk_at dksX1_rows_1 22 rfl rfl)
abbrev cX1_thing : ByteArray := prog_1_method_10_code
def yX1_thing : MethodName := ⟨RX1, "thing", "(III)I"⟩
def dkwX1_thing_5 : List UInt8 := [182, 0, 57, 29, 172, 42, 4, 182, 0, 49, 172]
abbrev dktX1_thing_5 : List UInt8 := dkwX1_thing_5 ++ []
def dkwX1_thing_4 : List UInt8 := [27, 187, 0, 72, 89, 29, 183, 0, 74, 182, 0, 57, 29, 172, 42, 27, 187, 0, 75, 89, 29, 183, 0, 77]
abbrev dktX1_thing_4 : List UInt8 := dkwX1_thing_4 ++ dktX1_thing_5
def dkwX1_thing_3 : List UInt8 := [183, 0, 68, 182, 0, 57, 29, 172, 42, 27, 187, 0, 69, 89, 29, 183, 0, 71, 182, 0, 57, 29, 172, 42]
abbrev dktX1_thing_3 : List UInt8 := dkwX1_thing_3 ++ dktX1_thing_4
def dkwX1_thing_2 : List UInt8 := [42, 27, 187, 0, 41, 89, 29, 183, 0, 65, 182, 0, 57, 29, 172, 42, 27, 187, 0, 43, 89, 29]
abbrev dktX1_thing_2 : List UInt8 := dkwX1_thing_2 ++ dktX1_thing_3
def dkwX1_thing_1 : List UInt8 := [170, 0, 0, 0, 108, 0, 0, 0, 11, 0, 0, 0, 15, 0, 0, 0, 33, 0, 0, 0, 48, 0, 0, 0, 63, 0, 0, 0, 78, 0, 0, 0, 93]
abbrev dktX1_thing_1 : List UInt8 := dkwX1_thing_1 ++ dktX1_thing_2
def dkwX1_thing_0 : List UInt8 := [42, 27, 182, 0, 45, 87, 28]
abbrev dktX1_thing_0 : List UInt8 := dkwX1_thing_0 ++ dktX1_thing_1
theorem dksX1_thing_0 : cX1_thing.data.toList.drop 0 = dktX1_thing_0 := by decide +kernel
theorem dksX1_thing_1 : cX1_thing.data.toList.drop 7 = dktX1_thing_1 := dk_seg dksX1_thing_0 7 rfl rfl
theorem dksX1_thing_2 : cX1_thing.data.toList.drop 40 = dktX1_thing_2 := dk_seg dksX1_thing_1 33 rfl rfl
theorem dksX1_thing_3 : cX1_thing.data.toList.drop 62 = dktX1_thing_3 := dk_seg dksX1_thing_2 22 rfl rfl
theorem dksX1_thing_4 : cX1_thing.data.toList.drop 86 = dktX1_thing_4 := dk_seg dksX1_thing_3 24 rfl rfl
theorem dksX1_thing_5 : cX1_thing.data.toList.drop 110 = dktX1_thing_5 := dk_seg dksX1_thing_4 24 rfl rfl
theorem dX1_thing_0 : decode cX1_thing 0 = .ok (.aload_n 0, 1) := dk_42 (dk_at dksX1_thing_0 0 rfl rfl)
theorem dX1_thing_1 : decode cX1_thing 1 = .ok (.iload_n 1, 1) := dk_27 (dk_at dksX1_thing_0 1 rfl rfl)
theorem dX1_thing_2 : decode cX1_thing 2 = .ok (.invokevirtual 45, 3) := dk_182 0 45 (dk_at dksX1_thing_0 2 rfl rfl)
theorem dX1_thing_5 : decode cX1_thing 5 = .ok (.pop, 1) := dk_87 (dk_at dksX1_thing_0 5 rfl rfl)
theorem dX1_thing_6 : decode cX1_thing 6 = .ok (.iload_n 2, 1) := dk_28 (dk_at dksX1_thing_0 6 rfl rfl)
theorem dX1_thing_7 : decode cX1_thing 7 = .ok (.tableswitch 108 11 15 #[33, 48, 63, 78, 93], 33) := by decide +kernel
theorem dX1_thing_40 : decode cX1_thing 40 = .ok (.aload_n 0, 1) := dk_42 (dk_at dksX1_thing_2 0 rfl rfl)
theorem dX1_thing_41 : decode cX1_thing 41 = .ok (.iload_n 1, 1) := dk_27 (dk_at dksX1_thing_2 1 rfl rfl)
theorem dX1_thing_42 : decode cX1_thing 42 = .ok (.new 41, 3) := dk_187 0 41 (dk_at dksX1_thing_2 2 rfl rfl)
theorem dX1_thing_45 : decode cX1_thing 45 = .ok (.dup, 1) := dk_89 (dk_at dksX1_thing_2 5 rfl rfl)
theorem dX1_thing_46 : decode cX1_thing 46 = .ok (.iload_n 3, 1) := dk_29 (dk_at dksX1_thing_2 6 rfl rfl)
theorem dX1_thing_47 : decode cX1_thing 47 = .ok (.invokespecial 65, 3) := dk_183 0 65 (dk_at dksX1_thing_2 7 rfl rfl)
theorem dX1_thing_50 : decode cX1_thing 50 = .ok (.invokevirtual 57, 3) := dk_182 0 57 (dk_at dksX1_thing_2 10 rfl rfl)
theorem dX1_thing_53 : decode cX1_thing 53 = .ok (.iload_n 3, 1) := dk_29 (dk_at dksX1_thing_2 13 rfl rfl)
theorem dX1_thing_54 : decode cX1_thing 54 = .ok (.ireturn, 1) := dk_172 (dk_at dksX1_thing_2 14 rfl rfl)
theorem dX1_thing_55 : decode cX1_thing 55 = .ok (.aload_n 0, 1) := dk_42 (dk_at dksX1_thing_2 15 rfl rfl)
theorem dX1_thing_56 : decode cX1_thing 56 = .ok (.iload_n 1, 1) := dk_27 (dk_at dksX1_thing_2 16 rfl rfl)
theorem dX1_thing_57 : decode cX1_thing 57 = .ok (.new 43, 3) := dk_187 0 43 (dk_at dksX1_thing_2 17 rfl rfl)
theorem dX1_thing_60 : decode cX1_thing 60 = .ok (.dup, 1) := dk_89 (dk_at dksX1_thing_2 20 rfl rfl)
theorem dX1_thing_61 : decode cX1_thing 61 = .ok (.iload_n 3, 1) := dk_29 (dk_at dksX1_thing_2 21 rfl rfl)
theorem dX1_thing_62 : decode cX1_thing 62 = .ok (.invokespecial 68, 3) := dk_183 0 68 (dk_at dksX1_thing_3 0 rfl rfl)
theorem dX1_thing_65 : decode cX1_thing 65 = .ok (.invokevirtual 57, 3) := dk_182 0 57 (dk_at dksX1_thing_3 3 rfl rfl)
theorem dX1_thing_68 : decode cX1_thing 68 = .ok (.iload_n 3, 1) := dk_29 (dk_at dksX1_thing_3 6 rfl rfl)
theorem dX1_thing_69 : decode cX1_thing 69 = .ok (.ireturn, 1) := dk_172 (dk_at dksX1_thing_3 7 rfl rfl)
theorem dX1_thing_70 : decode cX1_thing 70 = .ok (.aload_n 0, 1) := dk_42 (dk_at dksX1_thing_3 8 rfl rfl)
theorem dX1_thing_71 : decode cX1_thing 71 = .ok (.iload_n 1, 1) := dk_27 (dk_at dksX1_thing_3 9 rfl rfl)
theorem dX1_thing_72 : decode cX1_thing 72 = .ok (.new 69, 3) := dk_187 0 69 (dk_at dksX1_thing_3 10 rfl rfl)
theorem dX1_thing_75 : decode cX1_thing 75 = .ok (.dup, 1) := dk_89 (dk_at dksX1_thing_3 13 rfl rfl)
theorem dX1_thing_76 : decode cX1_thing 76 = .ok (.iload_n 3, 1) := dk_29 (dk_at dksX1_thing_3 14 rfl rfl)
theorem dX1_thing_77 : decode cX1_thing 77 = .ok (.invokespecial 71, 3) := dk_183 0 71 (dk_at dksX1_thing_3 15 rfl rfl)
theorem dX1_thing_80 : decode cX1_thing 80 = .ok (.invokevirtual 57, 3) := dk_182 0 57 (dk_at dksX1_thing_3 18 rfl rfl)
theorem dX1_thing_83 : decode cX1_thing 83 = .ok (.iload_n 3, 1) := dk_29 (dk_at dksX1_thing_3 21 rfl rfl)
theorem dX1_thing_84 : decode cX1_thing 84 = .ok (.ireturn, 1) := dk_172 (dk_at dksX1_thing_3 22 rfl rfl)
theorem dX1_thing_85 : decode cX1_thing 85 = .ok (.aload_n 0, 1) := dk_42 (dk_at dksX1_thing_3 23 rfl rfl)
theorem dX1_thing_86 : decode cX1_thing 86 = .ok (.iload_n 1, 1) := dk_27 (dk_at dksX1_thing_4 0 rfl rfl)
theorem dX1_thing_87 : decode cX1_thing 87 = .ok (.new 72, 3) := dk_187 0 72 (dk_at dksX1_thing_4 1 rfl rfl)
theorem dX1_thing_90 : decode cX1_thing 90 = .ok (.dup, 1) := dk_89 (dk_at dksX1_thing_4 4 rfl rfl)
theorem dX1_thing_91 : decode cX1_thing 91 = .ok (.iload_n 3, 1) := dk_29 (dk_at dksX1_thing_4 5 rfl rfl)
theorem dX1_thing_92 : decode cX1_thing 92 = .ok (.invokespecial 74, 3) := dk_183 0 74 (dk_at dksX1_thing_4 6 rfl rfl)
theorem dX1_thing_95 : decode cX1_thing 95 = .ok (.invokevirtual 57, 3) := dk_182 0 57 (dk_at dksX1_thing_4 9 rfl rfl)
theorem dX1_thing_98 : decode cX1_thing 98 = .ok (.iload_n 3, 1) := dk_29 (dk_at dksX1_thing_4 12 rfl rfl)
theorem dX1_thing_99 : decode cX1_thing 99 = .ok (.ireturn, 1) := dk_172 (dk_at dksX1_thing_4 13 rfl rfl)
theorem dX1_thing_100 : decode cX1_thing 100 = .ok (.aload_n 0, 1) := dk_42 (dk_at dksX1_thing_4 14 rfl rfl)
theorem dX1_thing_101 : decode cX1_thing 101 = .ok (.iload_n 1, 1) := dk_27 (dk_at dksX1_thing_4 15 rfl rfl)
theorem dX1_thing_102 : decode cX1_thing 102 = .ok (.new 75, 3) := dk_187 0 75 (dk_at dksX1_thing_4 16 rfl rfl)
theorem dX1_thing_105 : decode cX1_thing 105 = .ok (.dup, 1) := dk_89 (dk_at dksX1_thing_4 19 rfl rfl)
theorem dX1_thing_106 : decode cX1_thing 106 = .ok (.iload_n 3, 1) := dk_29 (dk_at dksX1_thing_4 20 rfl rfl)
theorem dX1_thing_107 : decode cX1_thing 107 = .ok (.invokespecial 77, 3) := dk_183 0 77 (dk_at dksX1_thing_4 21 rfl rfl)
theorem dX1_thing_110 : decode cX1_thing 110 = .ok (.invokevirtual 57, 3) := dk_182 0 57 (dk_at dksX1_thing_5 0 rfl rfl)
theorem dX1_thing_113 : decode cX1_thing 113 = .ok (.iload_n 3, 1) := dk_29 (dk_at dksX1_thing_5 3 rfl rfl)
theorem dX1_thing_114 : decode cX1_thing 114 = .ok (.ireturn, 1) := dk_172 (dk_at dksX1_thing_5 4 rfl rfl)
theorem dX1_thing_115 : decode cX1_thing 115 = .ok (.aload_n 0, 1) := dk_42 (dk_at dksX1_thing_5 5 rfl rfl)
theorem dX1_thing_116 : decode cX1_thing 116 = .ok (.iconst 1, 1) := dk_4 (dk_at dksX1_thing_5 6 rfl rfl)
theorem dX1_thing_117 : decode cX1_thing 117 = .ok (.invokevirtual 49, 3) := dk_182 0 49 (dk_at dksX1_thing_5 7 rfl rfl)
theorem dX1_thing_120 : decode cX1_thing 120 = .ok (.ireturn, 1) := dk_172 (dk_at dksX1_thing_5 10 rfl rfl)
abbrev cX1_hold : ByteArray := prog_1_method_12_code
def yX1_hold : MethodName := ⟨RX1, "hold", "(II)I"⟩
def dkwX1_hold_0 : List UInt8 := [42, 28, 182, 0, 45, 78, 42, 27, 45, 182, 0, 57, 45, 184, 0, 98, 172]
abbrev dktX1_hold_0 : List UInt8 := dkwX1_hold_0 ++ []
theorem dksX1_hold_0 : cX1_hold.data.toList.drop 0 = dktX1_hold_0 := by decide +kernel
theorem dX1_hold_0 : decode cX1_hold 0 = .ok (.aload_n 0, 1) := dk_42 (dk_at dksX1_hold_0 0 rfl rfl)
theorem dX1_hold_1 : decode cX1_hold 1 = .ok (.iload_n 2, 1) := dk_28 (dk_at dksX1_hold_0 1 rfl rfl)
theorem dX1_hold_2 : decode cX1_hold 2 = .ok (.invokevirtual 45, 3) := dk_182 0 45 (dk_at dksX1_hold_0 2 rfl rfl)
theorem dX1_hold_5 : decode cX1_hold 5 = .ok (.astore_n 3, 1) := dk_78 (dk_at dksX1_hold_0 5 rfl rfl)
theorem dX1_hold_6 : decode cX1_hold 6 = .ok (.aload_n 0, 1) := dk_42 (dk_at dksX1_hold_0 6 rfl rfl)
theorem dX1_hold_7 : decode cX1_hold 7 = .ok (.iload_n 1, 1) := dk_27 (dk_at dksX1_hold_0 7 rfl rfl)
theorem dX1_hold_8 : decode cX1_hold 8 = .ok (.aload_n 3, 1) := dk_45 (dk_at dksX1_hold_0 8 rfl rfl)
theorem dX1_hold_9 : decode cX1_hold 9 = .ok (.invokevirtual 57, 3) := dk_182 0 57 (dk_at dksX1_hold_0 9 rfl rfl)
theorem dX1_hold_12 : decode cX1_hold 12 = .ok (.aload_n 3, 1) := dk_45 (dk_at dksX1_hold_0 12 rfl rfl)
theorem dX1_hold_13 : decode cX1_hold 13 = .ok (.invokestatic 98, 3) := dk_184 0 98 (dk_at dksX1_hold_0 13 rfl rfl)
theorem dX1_hold_16 : decode cX1_hold 16 = .ok (.ireturn, 1) := dk_172 (dk_at dksX1_hold_0 16 rfl rfl)
abbrev cX1_sortOf : ByteArray := prog_1_method_11_code
def yX1_sortOf : MethodName := ⟨RX1, "sortOf", "(Ljava/lang/Object;)I"⟩
def dkwX1_sortOf_7 : List UInt8 := [193, 0, 96, 153, 0, 8, 16, 7, 167, 0, 4, 27, 172]
abbrev dktX1_sortOf_7 : List UInt8 := dkwX1_sortOf_7 ++ []
def dkwX1_sortOf_6 : List UInt8 := [193, 0, 92, 153, 0, 7, 8, 167, 0, 28, 42, 193, 0, 94, 153, 0, 8, 16, 6, 167, 0, 16, 42]
abbrev dktX1_sortOf_6 : List UInt8 := dkwX1_sortOf_6 ++ dktX1_sortOf_7
def dkwX1_sortOf_5 : List UInt8 := [193, 0, 88, 153, 0, 7, 5, 167, 0, 15, 42, 193, 0, 90, 153, 0, 7, 6, 167, 0, 4, 7, 60, 42]
abbrev dktX1_sortOf_5 : List UInt8 := dkwX1_sortOf_5 ++ dktX1_sortOf_6
def dkwX1_sortOf_4 : List UInt8 := [42, 193, 0, 84, 153, 0, 7, 3, 167, 0, 37, 42, 193, 0, 86, 153, 0, 7, 4, 167, 0, 26, 42]
abbrev dktX1_sortOf_4 : List UInt8 := dkwX1_sortOf_4 ++ dktX1_sortOf_5
def dkwX1_sortOf_3 : List UInt8 := [193, 0, 82, 153, 0, 8, 16, 10, 167, 0, 5, 16, 9, 172, 42, 193, 0, 63, 153, 0, 6, 16, 8, 172]
abbrev dktX1_sortOf_3 : List UInt8 := dkwX1_sortOf_3 ++ dktX1_sortOf_4
def dkwX1_sortOf_2 : List UInt8 := [167, 0, 5, 16, 14, 172, 42, 193, 0, 75, 153, 0, 6, 16, 15, 172, 42, 193, 0, 80, 153, 0, 18, 42]
abbrev dktX1_sortOf_2 : List UInt8 := dkwX1_sortOf_2 ++ dktX1_sortOf_3
def dkwX1_sortOf_1 : List UInt8 := [167, 0, 29, 42, 193, 0, 43, 153, 0, 8, 16, 12, 167, 0, 17, 42, 193, 0, 41, 153, 0, 8, 16, 11]
abbrev dktX1_sortOf_1 : List UInt8 := dkwX1_sortOf_1 ++ dktX1_sortOf_2
def dkwX1_sortOf_0 : List UInt8 := [42, 199, 0, 5, 2, 172, 42, 193, 0, 78, 153, 0, 42, 42, 193, 0, 69, 153, 0, 8, 16, 13]
abbrev dktX1_sortOf_0 : List UInt8 := dkwX1_sortOf_0 ++ dktX1_sortOf_1
theorem dksX1_sortOf_0 : cX1_sortOf.data.toList.drop 0 = dktX1_sortOf_0 := by decide +kernel
theorem dksX1_sortOf_1 : cX1_sortOf.data.toList.drop 22 = dktX1_sortOf_1 := dk_seg dksX1_sortOf_0 22 rfl rfl
theorem dksX1_sortOf_2 : cX1_sortOf.data.toList.drop 46 = dktX1_sortOf_2 := dk_seg dksX1_sortOf_1 24 rfl rfl
theorem dksX1_sortOf_3 : cX1_sortOf.data.toList.drop 70 = dktX1_sortOf_3 := dk_seg dksX1_sortOf_2 24 rfl rfl
theorem dksX1_sortOf_4 : cX1_sortOf.data.toList.drop 94 = dktX1_sortOf_4 := dk_seg dksX1_sortOf_3 24 rfl rfl
theorem dksX1_sortOf_5 : cX1_sortOf.data.toList.drop 117 = dktX1_sortOf_5 := dk_seg dksX1_sortOf_4 23 rfl rfl
theorem dksX1_sortOf_6 : cX1_sortOf.data.toList.drop 141 = dktX1_sortOf_6 := dk_seg dksX1_sortOf_5 24 rfl rfl
theorem dksX1_sortOf_7 : cX1_sortOf.data.toList.drop 164 = dktX1_sortOf_7 := dk_seg dksX1_sortOf_6 23 rfl rfl
theorem dX1_sortOf_0 : decode cX1_sortOf 0 = .ok (.aload_n 0, 1) := dk_42 (dk_at dksX1_sortOf_0 0 rfl rfl)
theorem dX1_sortOf_1 : decode cX1_sortOf 1 = .ok (.ifnonnull 5, 3) := dk_199 0 5 (dk_at dksX1_sortOf_0 1 rfl rfl)
theorem dX1_sortOf_4 : decode cX1_sortOf 4 = .ok (.iconst (-1), 1) := dk_2 (dk_at dksX1_sortOf_0 4 rfl rfl)
theorem dX1_sortOf_5 : decode cX1_sortOf 5 = .ok (.ireturn, 1) := dk_172 (dk_at dksX1_sortOf_0 5 rfl rfl)
theorem dX1_sortOf_6 : decode cX1_sortOf 6 = .ok (.aload_n 0, 1) := dk_42 (dk_at dksX1_sortOf_0 6 rfl rfl)
theorem dX1_sortOf_7 : decode cX1_sortOf 7 = .ok (.instanceof 78, 3) := dk_193 0 78 (dk_at dksX1_sortOf_0 7 rfl rfl)
theorem dX1_sortOf_10 : decode cX1_sortOf 10 = .ok (.ifCond .eq 42, 3) := dk_153 0 42 (dk_at dksX1_sortOf_0 10 rfl rfl)
theorem dX1_sortOf_13 : decode cX1_sortOf 13 = .ok (.aload_n 0, 1) := dk_42 (dk_at dksX1_sortOf_0 13 rfl rfl)
theorem dX1_sortOf_14 : decode cX1_sortOf 14 = .ok (.instanceof 69, 3) := dk_193 0 69 (dk_at dksX1_sortOf_0 14 rfl rfl)
theorem dX1_sortOf_17 : decode cX1_sortOf 17 = .ok (.ifCond .eq 8, 3) := dk_153 0 8 (dk_at dksX1_sortOf_0 17 rfl rfl)
theorem dX1_sortOf_20 : decode cX1_sortOf 20 = .ok (.bipush 13, 2) := dk_16 13 (dk_at dksX1_sortOf_0 20 rfl rfl)
theorem dX1_sortOf_22 : decode cX1_sortOf 22 = .ok (.goto 29, 3) := dk_167 0 29 (dk_at dksX1_sortOf_1 0 rfl rfl)
theorem dX1_sortOf_25 : decode cX1_sortOf 25 = .ok (.aload_n 0, 1) := dk_42 (dk_at dksX1_sortOf_1 3 rfl rfl)
theorem dX1_sortOf_26 : decode cX1_sortOf 26 = .ok (.instanceof 43, 3) := dk_193 0 43 (dk_at dksX1_sortOf_1 4 rfl rfl)
theorem dX1_sortOf_29 : decode cX1_sortOf 29 = .ok (.ifCond .eq 8, 3) := dk_153 0 8 (dk_at dksX1_sortOf_1 7 rfl rfl)
theorem dX1_sortOf_32 : decode cX1_sortOf 32 = .ok (.bipush 12, 2) := dk_16 12 (dk_at dksX1_sortOf_1 10 rfl rfl)
theorem dX1_sortOf_34 : decode cX1_sortOf 34 = .ok (.goto 17, 3) := dk_167 0 17 (dk_at dksX1_sortOf_1 12 rfl rfl)
theorem dX1_sortOf_37 : decode cX1_sortOf 37 = .ok (.aload_n 0, 1) := dk_42 (dk_at dksX1_sortOf_1 15 rfl rfl)
theorem dX1_sortOf_38 : decode cX1_sortOf 38 = .ok (.instanceof 41, 3) := dk_193 0 41 (dk_at dksX1_sortOf_1 16 rfl rfl)
theorem dX1_sortOf_41 : decode cX1_sortOf 41 = .ok (.ifCond .eq 8, 3) := dk_153 0 8 (dk_at dksX1_sortOf_1 19 rfl rfl)
theorem dX1_sortOf_44 : decode cX1_sortOf 44 = .ok (.bipush 11, 2) := dk_16 11 (dk_at dksX1_sortOf_1 22 rfl rfl)
theorem dX1_sortOf_46 : decode cX1_sortOf 46 = .ok (.goto 5, 3) := dk_167 0 5 (dk_at dksX1_sortOf_2 0 rfl rfl)
theorem dX1_sortOf_49 : decode cX1_sortOf 49 = .ok (.bipush 14, 2) := dk_16 14 (dk_at dksX1_sortOf_2 3 rfl rfl)
theorem dX1_sortOf_51 : decode cX1_sortOf 51 = .ok (.ireturn, 1) := dk_172 (dk_at dksX1_sortOf_2 5 rfl rfl)
theorem dX1_sortOf_52 : decode cX1_sortOf 52 = .ok (.aload_n 0, 1) := dk_42 (dk_at dksX1_sortOf_2 6 rfl rfl)
theorem dX1_sortOf_53 : decode cX1_sortOf 53 = .ok (.instanceof 75, 3) := dk_193 0 75 (dk_at dksX1_sortOf_2 7 rfl rfl)
theorem dX1_sortOf_56 : decode cX1_sortOf 56 = .ok (.ifCond .eq 6, 3) := dk_153 0 6 (dk_at dksX1_sortOf_2 10 rfl rfl)
theorem dX1_sortOf_59 : decode cX1_sortOf 59 = .ok (.bipush 15, 2) := dk_16 15 (dk_at dksX1_sortOf_2 13 rfl rfl)
theorem dX1_sortOf_61 : decode cX1_sortOf 61 = .ok (.ireturn, 1) := dk_172 (dk_at dksX1_sortOf_2 15 rfl rfl)
theorem dX1_sortOf_62 : decode cX1_sortOf 62 = .ok (.aload_n 0, 1) := dk_42 (dk_at dksX1_sortOf_2 16 rfl rfl)
theorem dX1_sortOf_63 : decode cX1_sortOf 63 = .ok (.instanceof 80, 3) := dk_193 0 80 (dk_at dksX1_sortOf_2 17 rfl rfl)
theorem dX1_sortOf_66 : decode cX1_sortOf 66 = .ok (.ifCond .eq 18, 3) := dk_153 0 18 (dk_at dksX1_sortOf_2 20 rfl rfl)
theorem dX1_sortOf_69 : decode cX1_sortOf 69 = .ok (.aload_n 0, 1) := dk_42 (dk_at dksX1_sortOf_2 23 rfl rfl)
theorem dX1_sortOf_70 : decode cX1_sortOf 70 = .ok (.instanceof 82, 3) := dk_193 0 82 (dk_at dksX1_sortOf_3 0 rfl rfl)
theorem dX1_sortOf_73 : decode cX1_sortOf 73 = .ok (.ifCond .eq 8, 3) := dk_153 0 8 (dk_at dksX1_sortOf_3 3 rfl rfl)
theorem dX1_sortOf_76 : decode cX1_sortOf 76 = .ok (.bipush 10, 2) := dk_16 10 (dk_at dksX1_sortOf_3 6 rfl rfl)
theorem dX1_sortOf_78 : decode cX1_sortOf 78 = .ok (.goto 5, 3) := dk_167 0 5 (dk_at dksX1_sortOf_3 8 rfl rfl)
theorem dX1_sortOf_81 : decode cX1_sortOf 81 = .ok (.bipush 9, 2) := dk_16 9 (dk_at dksX1_sortOf_3 11 rfl rfl)
theorem dX1_sortOf_83 : decode cX1_sortOf 83 = .ok (.ireturn, 1) := dk_172 (dk_at dksX1_sortOf_3 13 rfl rfl)
theorem dX1_sortOf_84 : decode cX1_sortOf 84 = .ok (.aload_n 0, 1) := dk_42 (dk_at dksX1_sortOf_3 14 rfl rfl)
theorem dX1_sortOf_85 : decode cX1_sortOf 85 = .ok (.instanceof 63, 3) := dk_193 0 63 (dk_at dksX1_sortOf_3 15 rfl rfl)
theorem dX1_sortOf_88 : decode cX1_sortOf 88 = .ok (.ifCond .eq 6, 3) := dk_153 0 6 (dk_at dksX1_sortOf_3 18 rfl rfl)
theorem dX1_sortOf_91 : decode cX1_sortOf 91 = .ok (.bipush 8, 2) := dk_16 8 (dk_at dksX1_sortOf_3 21 rfl rfl)
theorem dX1_sortOf_93 : decode cX1_sortOf 93 = .ok (.ireturn, 1) := dk_172 (dk_at dksX1_sortOf_3 23 rfl rfl)
theorem dX1_sortOf_94 : decode cX1_sortOf 94 = .ok (.aload_n 0, 1) := dk_42 (dk_at dksX1_sortOf_4 0 rfl rfl)
theorem dX1_sortOf_95 : decode cX1_sortOf 95 = .ok (.instanceof 84, 3) := dk_193 0 84 (dk_at dksX1_sortOf_4 1 rfl rfl)
theorem dX1_sortOf_98 : decode cX1_sortOf 98 = .ok (.ifCond .eq 7, 3) := dk_153 0 7 (dk_at dksX1_sortOf_4 4 rfl rfl)
theorem dX1_sortOf_101 : decode cX1_sortOf 101 = .ok (.iconst 0, 1) := dk_3 (dk_at dksX1_sortOf_4 7 rfl rfl)
theorem dX1_sortOf_102 : decode cX1_sortOf 102 = .ok (.goto 37, 3) := dk_167 0 37 (dk_at dksX1_sortOf_4 8 rfl rfl)
theorem dX1_sortOf_105 : decode cX1_sortOf 105 = .ok (.aload_n 0, 1) := dk_42 (dk_at dksX1_sortOf_4 11 rfl rfl)
theorem dX1_sortOf_106 : decode cX1_sortOf 106 = .ok (.instanceof 86, 3) := dk_193 0 86 (dk_at dksX1_sortOf_4 12 rfl rfl)
theorem dX1_sortOf_109 : decode cX1_sortOf 109 = .ok (.ifCond .eq 7, 3) := dk_153 0 7 (dk_at dksX1_sortOf_4 15 rfl rfl)
theorem dX1_sortOf_112 : decode cX1_sortOf 112 = .ok (.iconst 1, 1) := dk_4 (dk_at dksX1_sortOf_4 18 rfl rfl)
theorem dX1_sortOf_113 : decode cX1_sortOf 113 = .ok (.goto 26, 3) := dk_167 0 26 (dk_at dksX1_sortOf_4 19 rfl rfl)
theorem dX1_sortOf_116 : decode cX1_sortOf 116 = .ok (.aload_n 0, 1) := dk_42 (dk_at dksX1_sortOf_4 22 rfl rfl)
theorem dX1_sortOf_117 : decode cX1_sortOf 117 = .ok (.instanceof 88, 3) := dk_193 0 88 (dk_at dksX1_sortOf_5 0 rfl rfl)
theorem dX1_sortOf_120 : decode cX1_sortOf 120 = .ok (.ifCond .eq 7, 3) := dk_153 0 7 (dk_at dksX1_sortOf_5 3 rfl rfl)
theorem dX1_sortOf_123 : decode cX1_sortOf 123 = .ok (.iconst 2, 1) := dk_5 (dk_at dksX1_sortOf_5 6 rfl rfl)
theorem dX1_sortOf_124 : decode cX1_sortOf 124 = .ok (.goto 15, 3) := dk_167 0 15 (dk_at dksX1_sortOf_5 7 rfl rfl)
theorem dX1_sortOf_127 : decode cX1_sortOf 127 = .ok (.aload_n 0, 1) := dk_42 (dk_at dksX1_sortOf_5 10 rfl rfl)
theorem dX1_sortOf_128 : decode cX1_sortOf 128 = .ok (.instanceof 90, 3) := dk_193 0 90 (dk_at dksX1_sortOf_5 11 rfl rfl)
theorem dX1_sortOf_131 : decode cX1_sortOf 131 = .ok (.ifCond .eq 7, 3) := dk_153 0 7 (dk_at dksX1_sortOf_5 14 rfl rfl)
theorem dX1_sortOf_134 : decode cX1_sortOf 134 = .ok (.iconst 3, 1) := dk_6 (dk_at dksX1_sortOf_5 17 rfl rfl)
theorem dX1_sortOf_135 : decode cX1_sortOf 135 = .ok (.goto 4, 3) := dk_167 0 4 (dk_at dksX1_sortOf_5 18 rfl rfl)
theorem dX1_sortOf_138 : decode cX1_sortOf 138 = .ok (.iconst 4, 1) := dk_7 (dk_at dksX1_sortOf_5 21 rfl rfl)
theorem dX1_sortOf_139 : decode cX1_sortOf 139 = .ok (.istore_n 1, 1) := dk_60 (dk_at dksX1_sortOf_5 22 rfl rfl)
theorem dX1_sortOf_140 : decode cX1_sortOf 140 = .ok (.aload_n 0, 1) := dk_42 (dk_at dksX1_sortOf_5 23 rfl rfl)
theorem dX1_sortOf_141 : decode cX1_sortOf 141 = .ok (.instanceof 92, 3) := dk_193 0 92 (dk_at dksX1_sortOf_6 0 rfl rfl)
theorem dX1_sortOf_144 : decode cX1_sortOf 144 = .ok (.ifCond .eq 7, 3) := dk_153 0 7 (dk_at dksX1_sortOf_6 3 rfl rfl)
theorem dX1_sortOf_147 : decode cX1_sortOf 147 = .ok (.iconst 5, 1) := dk_8 (dk_at dksX1_sortOf_6 6 rfl rfl)
theorem dX1_sortOf_148 : decode cX1_sortOf 148 = .ok (.goto 28, 3) := dk_167 0 28 (dk_at dksX1_sortOf_6 7 rfl rfl)
theorem dX1_sortOf_151 : decode cX1_sortOf 151 = .ok (.aload_n 0, 1) := dk_42 (dk_at dksX1_sortOf_6 10 rfl rfl)
theorem dX1_sortOf_152 : decode cX1_sortOf 152 = .ok (.instanceof 94, 3) := dk_193 0 94 (dk_at dksX1_sortOf_6 11 rfl rfl)
theorem dX1_sortOf_155 : decode cX1_sortOf 155 = .ok (.ifCond .eq 8, 3) := dk_153 0 8 (dk_at dksX1_sortOf_6 14 rfl rfl)
theorem dX1_sortOf_158 : decode cX1_sortOf 158 = .ok (.bipush 6, 2) := dk_16 6 (dk_at dksX1_sortOf_6 17 rfl rfl)
theorem dX1_sortOf_160 : decode cX1_sortOf 160 = .ok (.goto 16, 3) := dk_167 0 16 (dk_at dksX1_sortOf_6 19 rfl rfl)
theorem dX1_sortOf_163 : decode cX1_sortOf 163 = .ok (.aload_n 0, 1) := dk_42 (dk_at dksX1_sortOf_6 22 rfl rfl)
theorem dX1_sortOf_164 : decode cX1_sortOf 164 = .ok (.instanceof 96, 3) := dk_193 0 96 (dk_at dksX1_sortOf_7 0 rfl rfl)
theorem dX1_sortOf_167 : decode cX1_sortOf 167 = .ok (.ifCond .eq 8, 3) := dk_153 0 8 (dk_at dksX1_sortOf_7 3 rfl rfl)
theorem dX1_sortOf_170 : decode cX1_sortOf 170 = .ok (.bipush 7, 2) := dk_16 7 (dk_at dksX1_sortOf_7 6 rfl rfl)
theorem dX1_sortOf_172 : decode cX1_sortOf 172 = .ok (.goto 4, 3) := dk_167 0 4 (dk_at dksX1_sortOf_7 8 rfl rfl)
theorem dX1_sortOf_175 : decode cX1_sortOf 175 = .ok (.iload_n 1, 1) := dk_27 (dk_at dksX1_sortOf_7 11 rfl rfl)
theorem dX1_sortOf_176 : decode cX1_sortOf 176 = .ok (.ireturn, 1) := dk_172 (dk_at dksX1_sortOf_7 12 rfl rfl)
abbrev cX1_clear : ByteArray := prog_1_method_13_code
def yX1_clear : MethodName := ⟨RX1, "clear", "(I)I"⟩
def dkwX1_clear_0 : List UInt8 := [42, 27, 182, 0, 45, 77, 42, 27, 1, 182, 0, 57, 44, 184, 0, 98, 172]
abbrev dktX1_clear_0 : List UInt8 := dkwX1_clear_0 ++ []
theorem dksX1_clear_0 : cX1_clear.data.toList.drop 0 = dktX1_clear_0 := by decide +kernel
theorem dX1_clear_0 : decode cX1_clear 0 = .ok (.aload_n 0, 1) := dk_42 (dk_at dksX1_clear_0 0 rfl rfl)
theorem dX1_clear_1 : decode cX1_clear 1 = .ok (.iload_n 1, 1) := dk_27 (dk_at dksX1_clear_0 1 rfl rfl)
theorem dX1_clear_2 : decode cX1_clear 2 = .ok (.invokevirtual 45, 3) := dk_182 0 45 (dk_at dksX1_clear_0 2 rfl rfl)
theorem dX1_clear_5 : decode cX1_clear 5 = .ok (.astore_n 2, 1) := dk_77 (dk_at dksX1_clear_0 5 rfl rfl)
theorem dX1_clear_6 : decode cX1_clear 6 = .ok (.aload_n 0, 1) := dk_42 (dk_at dksX1_clear_0 6 rfl rfl)
theorem dX1_clear_7 : decode cX1_clear 7 = .ok (.iload_n 1, 1) := dk_27 (dk_at dksX1_clear_0 7 rfl rfl)
theorem dX1_clear_8 : decode cX1_clear 8 = .ok (.aconst_null, 1) := dk_1 (dk_at dksX1_clear_0 8 rfl rfl)
theorem dX1_clear_9 : decode cX1_clear 9 = .ok (.invokevirtual 57, 3) := dk_182 0 57 (dk_at dksX1_clear_0 9 rfl rfl)
theorem dX1_clear_12 : decode cX1_clear 12 = .ok (.aload_n 2, 1) := dk_44 (dk_at dksX1_clear_0 12 rfl rfl)
theorem dX1_clear_13 : decode cX1_clear 13 = .ok (.invokestatic 98, 3) := dk_184 0 98 (dk_at dksX1_clear_0 13 rfl rfl)
theorem dX1_clear_16 : decode cX1_clear 16 = .ok (.ireturn, 1) := dk_172 (dk_at dksX1_clear_0 16 rfl rfl)
abbrev cX1_sort : ByteArray := prog_1_method_14_code
def yX1_sort : MethodName := ⟨RX1, "sort", "(I)I"⟩
def dkwX1_sort_0 : List UInt8 := [42, 27, 182, 0, 45, 184, 0, 98, 172]
abbrev dktX1_sort_0 : List UInt8 := dkwX1_sort_0 ++ []
theorem dksX1_sort_0 : cX1_sort.data.toList.drop 0 = dktX1_sort_0 := by decide +kernel
theorem dX1_sort_0 : decode cX1_sort 0 = .ok (.aload_n 0, 1) := dk_42 (dk_at dksX1_sort_0 0 rfl rfl)
theorem dX1_sort_1 : decode cX1_sort 1 = .ok (.iload_n 1, 1) := dk_27 (dk_at dksX1_sort_0 1 rfl rfl)
theorem dX1_sort_2 : decode cX1_sort 2 = .ok (.invokevirtual 45, 3) := dk_182 0 45 (dk_at dksX1_sort_0 2 rfl rfl)
theorem dX1_sort_5 : decode cX1_sort 5 = .ok (.invokestatic 98, 3) := dk_184 0 98 (dk_at dksX1_sort_0 5 rfl rfl)
theorem dX1_sort_8 : decode cX1_sort 8 = .ok (.ireturn, 1) := dk_172 (dk_at dksX1_sort_0 8 rfl rfl)
abbrev cX1_alike : ByteArray := prog_1_method_15_code
def yX1_alike : MethodName := ⟨RX1, "alike", "(II)I"⟩
def dkwX1_alike_0 : List UInt8 := [42, 27, 182, 0, 45, 42, 28, 182, 0, 45, 166, 0, 7, 4, 167, 0, 4, 3, 172]
abbrev dktX1_alike_0 : List UInt8 := dkwX1_alike_0 ++ []
theorem dksX1_alike_0 : cX1_alike.data.toList.drop 0 = dktX1_alike_0 := by decide +kernel
theorem dX1_alike_0 : decode cX1_alike 0 = .ok (.aload_n 0, 1) := dk_42 (dk_at dksX1_alike_0 0 rfl rfl)
theorem dX1_alike_1 : decode cX1_alike 1 = .ok (.iload_n 1, 1) := dk_27 (dk_at dksX1_alike_0 1 rfl rfl)
theorem dX1_alike_2 : decode cX1_alike 2 = .ok (.invokevirtual 45, 3) := dk_182 0 45 (dk_at dksX1_alike_0 2 rfl rfl)
theorem dX1_alike_5 : decode cX1_alike 5 = .ok (.aload_n 0, 1) := dk_42 (dk_at dksX1_alike_0 5 rfl rfl)
theorem dX1_alike_6 : decode cX1_alike 6 = .ok (.iload_n 2, 1) := dk_28 (dk_at dksX1_alike_0 6 rfl rfl)
theorem dX1_alike_7 : decode cX1_alike 7 = .ok (.invokevirtual 45, 3) := dk_182 0 45 (dk_at dksX1_alike_0 7 rfl rfl)
theorem dX1_alike_10 : decode cX1_alike 10 = .ok (.if_acmp .ne 7, 3) := dk_166 0 7 (dk_at dksX1_alike_0 10 rfl rfl)
theorem dX1_alike_13 : decode cX1_alike 13 = .ok (.iconst 1, 1) := dk_4 (dk_at dksX1_alike_0 13 rfl rfl)
theorem dX1_alike_14 : decode cX1_alike 14 = .ok (.goto 4, 3) := dk_167 0 4 (dk_at dksX1_alike_0 14 rfl rfl)
theorem dX1_alike_17 : decode cX1_alike 17 = .ok (.iconst 0, 1) := dk_3 (dk_at dksX1_alike_0 17 rfl rfl)
theorem dX1_alike_18 : decode cX1_alike 18 = .ok (.ireturn, 1) := dk_172 (dk_at dksX1_alike_0 18 rfl rfl)
abbrev cX1_is : ByteArray := prog_1_method_17_code
def yX1_is : MethodName := ⟨RX1, "is", "(II)I"⟩
def dkwX1_is_1 : List UInt8 := [184, 0, 104, 153, 0, 7, 4, 167, 0, 4, 3, 172]
abbrev dktX1_is_1 : List UInt8 := dkwX1_is_1 ++ []
def dkwX1_is_0 : List UInt8 := [42, 27, 182, 0, 45, 78, 28, 155, 0, 9, 28, 16, 17, 164, 0, 9, 42, 4, 182, 0, 49, 172, 45, 28]
abbrev dktX1_is_0 : List UInt8 := dkwX1_is_0 ++ dktX1_is_1
theorem dksX1_is_0 : cX1_is.data.toList.drop 0 = dktX1_is_0 := by decide +kernel
theorem dksX1_is_1 : cX1_is.data.toList.drop 24 = dktX1_is_1 := dk_seg dksX1_is_0 24 rfl rfl
theorem dX1_is_0 : decode cX1_is 0 = .ok (.aload_n 0, 1) := dk_42 (dk_at dksX1_is_0 0 rfl rfl)
theorem dX1_is_1 : decode cX1_is 1 = .ok (.iload_n 1, 1) := dk_27 (dk_at dksX1_is_0 1 rfl rfl)
theorem dX1_is_2 : decode cX1_is 2 = .ok (.invokevirtual 45, 3) := dk_182 0 45 (dk_at dksX1_is_0 2 rfl rfl)
theorem dX1_is_5 : decode cX1_is 5 = .ok (.astore_n 3, 1) := dk_78 (dk_at dksX1_is_0 5 rfl rfl)
theorem dX1_is_6 : decode cX1_is 6 = .ok (.iload_n 2, 1) := dk_28 (dk_at dksX1_is_0 6 rfl rfl)
theorem dX1_is_7 : decode cX1_is 7 = .ok (.ifCond .lt 9, 3) := dk_155 0 9 (dk_at dksX1_is_0 7 rfl rfl)
theorem dX1_is_10 : decode cX1_is 10 = .ok (.iload_n 2, 1) := dk_28 (dk_at dksX1_is_0 10 rfl rfl)
theorem dX1_is_11 : decode cX1_is 11 = .ok (.bipush 17, 2) := dk_16 17 (dk_at dksX1_is_0 11 rfl rfl)
theorem dX1_is_13 : decode cX1_is 13 = .ok (.if_icmp .le 9, 3) := dk_164 0 9 (dk_at dksX1_is_0 13 rfl rfl)
theorem dX1_is_16 : decode cX1_is 16 = .ok (.aload_n 0, 1) := dk_42 (dk_at dksX1_is_0 16 rfl rfl)
theorem dX1_is_17 : decode cX1_is 17 = .ok (.iconst 1, 1) := dk_4 (dk_at dksX1_is_0 17 rfl rfl)
theorem dX1_is_18 : decode cX1_is 18 = .ok (.invokevirtual 49, 3) := dk_182 0 49 (dk_at dksX1_is_0 18 rfl rfl)
theorem dX1_is_21 : decode cX1_is 21 = .ok (.ireturn, 1) := dk_172 (dk_at dksX1_is_0 21 rfl rfl)
theorem dX1_is_22 : decode cX1_is 22 = .ok (.aload_n 3, 1) := dk_45 (dk_at dksX1_is_0 22 rfl rfl)
theorem dX1_is_23 : decode cX1_is 23 = .ok (.iload_n 2, 1) := dk_28 (dk_at dksX1_is_0 23 rfl rfl)
theorem dX1_is_24 : decode cX1_is 24 = .ok (.invokestatic 104, 3) := dk_184 0 104 (dk_at dksX1_is_1 0 rfl rfl)
theorem dX1_is_27 : decode cX1_is 27 = .ok (.ifCond .eq 7, 3) := dk_153 0 7 (dk_at dksX1_is_1 3 rfl rfl)
theorem dX1_is_30 : decode cX1_is 30 = .ok (.iconst 1, 1) := dk_4 (dk_at dksX1_is_1 6 rfl rfl)
theorem dX1_is_31 : decode cX1_is 31 = .ok (.goto 4, 3) := dk_167 0 4 (dk_at dksX1_is_1 7 rfl rfl)
theorem dX1_is_34 : decode cX1_is 34 = .ok (.iconst 0, 1) := dk_3 (dk_at dksX1_is_1 10 rfl rfl)
theorem dX1_is_35 : decode cX1_is 35 = .ok (.ireturn, 1) := dk_172 (dk_at dksX1_is_1 11 rfl rfl)
abbrev cX1_isSo : ByteArray := prog_1_method_16_code
def yX1_isSo : MethodName := ⟨RX1, "isSo", "(Ljava/lang/Object;I)Z"⟩
def dkwX1_isSo_5 : List UInt8 := [42, 193, 0, 72, 172, 42, 193, 0, 75, 172, 42, 193, 0, 78, 172, 42, 193, 0, 102, 172]
abbrev dktX1_isSo_5 : List UInt8 := dkwX1_isSo_5 ++ []
def dkwX1_isSo_4 : List UInt8 := [193, 0, 80, 172, 42, 193, 0, 82, 172, 42, 193, 0, 41, 172, 42, 193, 0, 43, 172, 42, 193, 0, 69, 172]
abbrev dktX1_isSo_4 : List UInt8 := dkwX1_isSo_4 ++ dktX1_isSo_5
def dkwX1_isSo_3 : List UInt8 := [172, 42, 193, 0, 92, 172, 42, 193, 0, 94, 172, 42, 193, 0, 96, 172, 42, 193, 0, 63, 172, 42]
abbrev dktX1_isSo_3 : List UInt8 := dkwX1_isSo_3 ++ dktX1_isSo_4
def dkwX1_isSo_2 : List UInt8 := [42, 193, 0, 84, 172, 42, 193, 0, 86, 172, 42, 193, 0, 88, 172, 42, 193, 0, 90, 172, 42, 193, 0, 40]
abbrev dktX1_isSo_2 : List UInt8 := dkwX1_isSo_2 ++ dktX1_isSo_3
def dkwX1_isSo_1 : List UInt8 := [170, 0, 0, 0, 0, 0, 168, 0, 0, 0, 0, 0, 0, 0, 16, 0, 0, 0, 83, 0, 0, 0, 88, 0, 0, 0, 93, 0, 0, 0, 98, 0, 0, 0, 103, 0, 0, 0, 108, 0, 0, 0, 113, 0, 0, 0, 118, 0, 0, 0, 123, 0, 0, 0, 128, 0, 0, 0, 133, 0, 0, 0, 138, 0, 0, 0, 143, 0, 0, 0, 148, 0, 0, 0, 153, 0, 0, 0, 158, 0, 0, 0, 163]
abbrev dktX1_isSo_1 : List UInt8 := dkwX1_isSo_1 ++ dktX1_isSo_2
def dkwX1_isSo_0 : List UInt8 := [27]
abbrev dktX1_isSo_0 : List UInt8 := dkwX1_isSo_0 ++ dktX1_isSo_1
theorem dksX1_isSo_0 : cX1_isSo.data.toList.drop 0 = dktX1_isSo_0 := by decide +kernel
theorem dksX1_isSo_1 : cX1_isSo.data.toList.drop 1 = dktX1_isSo_1 := dk_seg dksX1_isSo_0 1 rfl rfl
theorem dksX1_isSo_2 : cX1_isSo.data.toList.drop 84 = dktX1_isSo_2 := dk_seg dksX1_isSo_1 83 rfl rfl
theorem dksX1_isSo_3 : cX1_isSo.data.toList.drop 108 = dktX1_isSo_3 := dk_seg dksX1_isSo_2 24 rfl rfl
theorem dksX1_isSo_4 : cX1_isSo.data.toList.drop 130 = dktX1_isSo_4 := dk_seg dksX1_isSo_3 22 rfl rfl
theorem dksX1_isSo_5 : cX1_isSo.data.toList.drop 154 = dktX1_isSo_5 := dk_seg dksX1_isSo_4 24 rfl rfl
theorem dX1_isSo_0 : decode cX1_isSo 0 = .ok (.iload_n 1, 1) := dk_27 (dk_at dksX1_isSo_0 0 rfl rfl)
theorem dX1_isSo_1 : decode cX1_isSo 1 = .ok (.tableswitch 168 0 16 #[83, 88, 93, 98, 103, 108, 113, 118, 123, 128, 133, 138, 143, 148, 153, 158, 163], 83) := by decide +kernel
theorem dX1_isSo_84 : decode cX1_isSo 84 = .ok (.aload_n 0, 1) := dk_42 (dk_at dksX1_isSo_2 0 rfl rfl)
theorem dX1_isSo_85 : decode cX1_isSo 85 = .ok (.instanceof 84, 3) := dk_193 0 84 (dk_at dksX1_isSo_2 1 rfl rfl)
theorem dX1_isSo_88 : decode cX1_isSo 88 = .ok (.ireturn, 1) := dk_172 (dk_at dksX1_isSo_2 4 rfl rfl)
theorem dX1_isSo_89 : decode cX1_isSo 89 = .ok (.aload_n 0, 1) := dk_42 (dk_at dksX1_isSo_2 5 rfl rfl)
theorem dX1_isSo_90 : decode cX1_isSo 90 = .ok (.instanceof 86, 3) := dk_193 0 86 (dk_at dksX1_isSo_2 6 rfl rfl)
theorem dX1_isSo_93 : decode cX1_isSo 93 = .ok (.ireturn, 1) := dk_172 (dk_at dksX1_isSo_2 9 rfl rfl)
theorem dX1_isSo_94 : decode cX1_isSo 94 = .ok (.aload_n 0, 1) := dk_42 (dk_at dksX1_isSo_2 10 rfl rfl)
theorem dX1_isSo_95 : decode cX1_isSo 95 = .ok (.instanceof 88, 3) := dk_193 0 88 (dk_at dksX1_isSo_2 11 rfl rfl)
theorem dX1_isSo_98 : decode cX1_isSo 98 = .ok (.ireturn, 1) := dk_172 (dk_at dksX1_isSo_2 14 rfl rfl)
theorem dX1_isSo_99 : decode cX1_isSo 99 = .ok (.aload_n 0, 1) := dk_42 (dk_at dksX1_isSo_2 15 rfl rfl)
theorem dX1_isSo_100 : decode cX1_isSo 100 = .ok (.instanceof 90, 3) := dk_193 0 90 (dk_at dksX1_isSo_2 16 rfl rfl)
theorem dX1_isSo_103 : decode cX1_isSo 103 = .ok (.ireturn, 1) := dk_172 (dk_at dksX1_isSo_2 19 rfl rfl)
theorem dX1_isSo_104 : decode cX1_isSo 104 = .ok (.aload_n 0, 1) := dk_42 (dk_at dksX1_isSo_2 20 rfl rfl)
theorem dX1_isSo_105 : decode cX1_isSo 105 = .ok (.instanceof 40, 3) := dk_193 0 40 (dk_at dksX1_isSo_2 21 rfl rfl)
theorem dX1_isSo_108 : decode cX1_isSo 108 = .ok (.ireturn, 1) := dk_172 (dk_at dksX1_isSo_3 0 rfl rfl)
theorem dX1_isSo_109 : decode cX1_isSo 109 = .ok (.aload_n 0, 1) := dk_42 (dk_at dksX1_isSo_3 1 rfl rfl)
theorem dX1_isSo_110 : decode cX1_isSo 110 = .ok (.instanceof 92, 3) := dk_193 0 92 (dk_at dksX1_isSo_3 2 rfl rfl)
theorem dX1_isSo_113 : decode cX1_isSo 113 = .ok (.ireturn, 1) := dk_172 (dk_at dksX1_isSo_3 5 rfl rfl)
theorem dX1_isSo_114 : decode cX1_isSo 114 = .ok (.aload_n 0, 1) := dk_42 (dk_at dksX1_isSo_3 6 rfl rfl)
theorem dX1_isSo_115 : decode cX1_isSo 115 = .ok (.instanceof 94, 3) := dk_193 0 94 (dk_at dksX1_isSo_3 7 rfl rfl)
theorem dX1_isSo_118 : decode cX1_isSo 118 = .ok (.ireturn, 1) := dk_172 (dk_at dksX1_isSo_3 10 rfl rfl)
theorem dX1_isSo_119 : decode cX1_isSo 119 = .ok (.aload_n 0, 1) := dk_42 (dk_at dksX1_isSo_3 11 rfl rfl)
theorem dX1_isSo_120 : decode cX1_isSo 120 = .ok (.instanceof 96, 3) := dk_193 0 96 (dk_at dksX1_isSo_3 12 rfl rfl)
theorem dX1_isSo_123 : decode cX1_isSo 123 = .ok (.ireturn, 1) := dk_172 (dk_at dksX1_isSo_3 15 rfl rfl)
theorem dX1_isSo_124 : decode cX1_isSo 124 = .ok (.aload_n 0, 1) := dk_42 (dk_at dksX1_isSo_3 16 rfl rfl)
theorem dX1_isSo_125 : decode cX1_isSo 125 = .ok (.instanceof 63, 3) := dk_193 0 63 (dk_at dksX1_isSo_3 17 rfl rfl)
theorem dX1_isSo_128 : decode cX1_isSo 128 = .ok (.ireturn, 1) := dk_172 (dk_at dksX1_isSo_3 20 rfl rfl)
theorem dX1_isSo_129 : decode cX1_isSo 129 = .ok (.aload_n 0, 1) := dk_42 (dk_at dksX1_isSo_3 21 rfl rfl)
theorem dX1_isSo_130 : decode cX1_isSo 130 = .ok (.instanceof 80, 3) := dk_193 0 80 (dk_at dksX1_isSo_4 0 rfl rfl)
theorem dX1_isSo_133 : decode cX1_isSo 133 = .ok (.ireturn, 1) := dk_172 (dk_at dksX1_isSo_4 3 rfl rfl)
theorem dX1_isSo_134 : decode cX1_isSo 134 = .ok (.aload_n 0, 1) := dk_42 (dk_at dksX1_isSo_4 4 rfl rfl)
theorem dX1_isSo_135 : decode cX1_isSo 135 = .ok (.instanceof 82, 3) := dk_193 0 82 (dk_at dksX1_isSo_4 5 rfl rfl)
theorem dX1_isSo_138 : decode cX1_isSo 138 = .ok (.ireturn, 1) := dk_172 (dk_at dksX1_isSo_4 8 rfl rfl)
theorem dX1_isSo_139 : decode cX1_isSo 139 = .ok (.aload_n 0, 1) := dk_42 (dk_at dksX1_isSo_4 9 rfl rfl)
theorem dX1_isSo_140 : decode cX1_isSo 140 = .ok (.instanceof 41, 3) := dk_193 0 41 (dk_at dksX1_isSo_4 10 rfl rfl)
theorem dX1_isSo_143 : decode cX1_isSo 143 = .ok (.ireturn, 1) := dk_172 (dk_at dksX1_isSo_4 13 rfl rfl)
theorem dX1_isSo_144 : decode cX1_isSo 144 = .ok (.aload_n 0, 1) := dk_42 (dk_at dksX1_isSo_4 14 rfl rfl)
theorem dX1_isSo_145 : decode cX1_isSo 145 = .ok (.instanceof 43, 3) := dk_193 0 43 (dk_at dksX1_isSo_4 15 rfl rfl)
theorem dX1_isSo_148 : decode cX1_isSo 148 = .ok (.ireturn, 1) := dk_172 (dk_at dksX1_isSo_4 18 rfl rfl)
theorem dX1_isSo_149 : decode cX1_isSo 149 = .ok (.aload_n 0, 1) := dk_42 (dk_at dksX1_isSo_4 19 rfl rfl)
theorem dX1_isSo_150 : decode cX1_isSo 150 = .ok (.instanceof 69, 3) := dk_193 0 69 (dk_at dksX1_isSo_4 20 rfl rfl)
theorem dX1_isSo_153 : decode cX1_isSo 153 = .ok (.ireturn, 1) := dk_172 (dk_at dksX1_isSo_4 23 rfl rfl)
theorem dX1_isSo_154 : decode cX1_isSo 154 = .ok (.aload_n 0, 1) := dk_42 (dk_at dksX1_isSo_5 0 rfl rfl)
theorem dX1_isSo_155 : decode cX1_isSo 155 = .ok (.instanceof 72, 3) := dk_193 0 72 (dk_at dksX1_isSo_5 1 rfl rfl)
theorem dX1_isSo_158 : decode cX1_isSo 158 = .ok (.ireturn, 1) := dk_172 (dk_at dksX1_isSo_5 4 rfl rfl)
theorem dX1_isSo_159 : decode cX1_isSo 159 = .ok (.aload_n 0, 1) := dk_42 (dk_at dksX1_isSo_5 5 rfl rfl)
theorem dX1_isSo_160 : decode cX1_isSo 160 = .ok (.instanceof 75, 3) := dk_193 0 75 (dk_at dksX1_isSo_5 6 rfl rfl)
theorem dX1_isSo_163 : decode cX1_isSo 163 = .ok (.ireturn, 1) := dk_172 (dk_at dksX1_isSo_5 9 rfl rfl)
theorem dX1_isSo_164 : decode cX1_isSo 164 = .ok (.aload_n 0, 1) := dk_42 (dk_at dksX1_isSo_5 10 rfl rfl)
theorem dX1_isSo_165 : decode cX1_isSo 165 = .ok (.instanceof 78, 3) := dk_193 0 78 (dk_at dksX1_isSo_5 11 rfl rfl)
theorem dX1_isSo_168 : decode cX1_isSo 168 = .ok (.ireturn, 1) := dk_172 (dk_at dksX1_isSo_5 14 rfl rfl)
theorem dX1_isSo_169 : decode cX1_isSo 169 = .ok (.aload_n 0, 1) := dk_42 (dk_at dksX1_isSo_5 15 rfl rfl)
theorem dX1_isSo_170 : decode cX1_isSo 170 = .ok (.instanceof 102, 3) := dk_193 0 102 (dk_at dksX1_isSo_5 16 rfl rfl)
theorem dX1_isSo_173 : decode cX1_isSo 173 = .ok (.ireturn, 1) := dk_172 (dk_at dksX1_isSo_5 19 rfl rfl)
abbrev cX1_as : ByteArray := prog_1_method_19_code
def yX1_as : MethodName := ⟨RX1, "as", "(II)I"⟩
def dkwX1_as_1 : List UInt8 := [184, 0, 108, 87, 4, 172, 58, 4, 42, 16, 6, 182, 0, 49, 172]
abbrev dktX1_as_1 : List UInt8 := dkwX1_as_1 ++ []
def dkwX1_as_0 : List UInt8 := [42, 27, 182, 0, 45, 78, 28, 155, 0, 9, 28, 16, 17, 164, 0, 9, 42, 4, 182, 0, 49, 172, 45, 28]
abbrev dktX1_as_0 : List UInt8 := dkwX1_as_0 ++ dktX1_as_1
theorem dksX1_as_0 : cX1_as.data.toList.drop 0 = dktX1_as_0 := by decide +kernel
theorem dksX1_as_1 : cX1_as.data.toList.drop 24 = dktX1_as_1 := dk_seg dksX1_as_0 24 rfl rfl
theorem dX1_as_0 : decode cX1_as 0 = .ok (.aload_n 0, 1) := dk_42 (dk_at dksX1_as_0 0 rfl rfl)
theorem dX1_as_1 : decode cX1_as 1 = .ok (.iload_n 1, 1) := dk_27 (dk_at dksX1_as_0 1 rfl rfl)
theorem dX1_as_2 : decode cX1_as 2 = .ok (.invokevirtual 45, 3) := dk_182 0 45 (dk_at dksX1_as_0 2 rfl rfl)
theorem dX1_as_5 : decode cX1_as 5 = .ok (.astore_n 3, 1) := dk_78 (dk_at dksX1_as_0 5 rfl rfl)
theorem dX1_as_6 : decode cX1_as 6 = .ok (.iload_n 2, 1) := dk_28 (dk_at dksX1_as_0 6 rfl rfl)
theorem dX1_as_7 : decode cX1_as 7 = .ok (.ifCond .lt 9, 3) := dk_155 0 9 (dk_at dksX1_as_0 7 rfl rfl)
theorem dX1_as_10 : decode cX1_as 10 = .ok (.iload_n 2, 1) := dk_28 (dk_at dksX1_as_0 10 rfl rfl)
theorem dX1_as_11 : decode cX1_as 11 = .ok (.bipush 17, 2) := dk_16 17 (dk_at dksX1_as_0 11 rfl rfl)
theorem dX1_as_13 : decode cX1_as 13 = .ok (.if_icmp .le 9, 3) := dk_164 0 9 (dk_at dksX1_as_0 13 rfl rfl)
theorem dX1_as_16 : decode cX1_as 16 = .ok (.aload_n 0, 1) := dk_42 (dk_at dksX1_as_0 16 rfl rfl)
theorem dX1_as_17 : decode cX1_as 17 = .ok (.iconst 1, 1) := dk_4 (dk_at dksX1_as_0 17 rfl rfl)
theorem dX1_as_18 : decode cX1_as 18 = .ok (.invokevirtual 49, 3) := dk_182 0 49 (dk_at dksX1_as_0 18 rfl rfl)
theorem dX1_as_21 : decode cX1_as 21 = .ok (.ireturn, 1) := dk_172 (dk_at dksX1_as_0 21 rfl rfl)
theorem dX1_as_22 : decode cX1_as 22 = .ok (.aload_n 3, 1) := dk_45 (dk_at dksX1_as_0 22 rfl rfl)
theorem dX1_as_23 : decode cX1_as 23 = .ok (.iload_n 2, 1) := dk_28 (dk_at dksX1_as_0 23 rfl rfl)
theorem dX1_as_24 : decode cX1_as 24 = .ok (.invokestatic 108, 3) := dk_184 0 108 (dk_at dksX1_as_1 0 rfl rfl)
theorem dX1_as_27 : decode cX1_as 27 = .ok (.pop, 1) := dk_87 (dk_at dksX1_as_1 3 rfl rfl)
theorem dX1_as_28 : decode cX1_as 28 = .ok (.iconst 1, 1) := dk_4 (dk_at dksX1_as_1 4 rfl rfl)
theorem dX1_as_29 : decode cX1_as 29 = .ok (.ireturn, 1) := dk_172 (dk_at dksX1_as_1 5 rfl rfl)
theorem dX1_as_30 : decode cX1_as 30 = .ok (.astore 4, 2) := dk_58 4 (dk_at dksX1_as_1 6 rfl rfl)
theorem dX1_as_32 : decode cX1_as 32 = .ok (.aload_n 0, 1) := dk_42 (dk_at dksX1_as_1 8 rfl rfl)
theorem dX1_as_33 : decode cX1_as 33 = .ok (.bipush 6, 2) := dk_16 6 (dk_at dksX1_as_1 9 rfl rfl)
theorem dX1_as_35 : decode cX1_as 35 = .ok (.invokevirtual 49, 3) := dk_182 0 49 (dk_at dksX1_as_1 11 rfl rfl)
theorem dX1_as_38 : decode cX1_as 38 = .ok (.ireturn, 1) := dk_172 (dk_at dksX1_as_1 14 rfl rfl)
abbrev cX1_cast : ByteArray := prog_1_method_18_code
def yX1_cast : MethodName := ⟨RX1, "cast", "(Ljava/lang/Object;I)Ljava/lang/Object;"⟩
def dkwX1_cast_5 : List UInt8 := [42, 192, 0, 72, 176, 42, 192, 0, 75, 176, 42, 192, 0, 78, 176, 42, 192, 0, 102, 176]
abbrev dktX1_cast_5 : List UInt8 := dkwX1_cast_5 ++ []
def dkwX1_cast_4 : List UInt8 := [192, 0, 80, 176, 42, 192, 0, 82, 176, 42, 192, 0, 41, 176, 42, 192, 0, 43, 176, 42, 192, 0, 69, 176]
abbrev dktX1_cast_4 : List UInt8 := dkwX1_cast_4 ++ dktX1_cast_5
def dkwX1_cast_3 : List UInt8 := [176, 42, 192, 0, 92, 176, 42, 192, 0, 94, 176, 42, 192, 0, 96, 176, 42, 192, 0, 63, 176, 42]
abbrev dktX1_cast_3 : List UInt8 := dkwX1_cast_3 ++ dktX1_cast_4
def dkwX1_cast_2 : List UInt8 := [42, 192, 0, 84, 176, 42, 192, 0, 86, 176, 42, 192, 0, 88, 176, 42, 192, 0, 90, 176, 42, 192, 0, 40]
abbrev dktX1_cast_2 : List UInt8 := dkwX1_cast_2 ++ dktX1_cast_3
def dkwX1_cast_1 : List UInt8 := [170, 0, 0, 0, 0, 0, 168, 0, 0, 0, 0, 0, 0, 0, 16, 0, 0, 0, 83, 0, 0, 0, 88, 0, 0, 0, 93, 0, 0, 0, 98, 0, 0, 0, 103, 0, 0, 0, 108, 0, 0, 0, 113, 0, 0, 0, 118, 0, 0, 0, 123, 0, 0, 0, 128, 0, 0, 0, 133, 0, 0, 0, 138, 0, 0, 0, 143, 0, 0, 0, 148, 0, 0, 0, 153, 0, 0, 0, 158, 0, 0, 0, 163]
abbrev dktX1_cast_1 : List UInt8 := dkwX1_cast_1 ++ dktX1_cast_2
def dkwX1_cast_0 : List UInt8 := [27]
abbrev dktX1_cast_0 : List UInt8 := dkwX1_cast_0 ++ dktX1_cast_1
theorem dksX1_cast_0 : cX1_cast.data.toList.drop 0 = dktX1_cast_0 := by decide +kernel
theorem dksX1_cast_1 : cX1_cast.data.toList.drop 1 = dktX1_cast_1 := dk_seg dksX1_cast_0 1 rfl rfl
theorem dksX1_cast_2 : cX1_cast.data.toList.drop 84 = dktX1_cast_2 := dk_seg dksX1_cast_1 83 rfl rfl
theorem dksX1_cast_3 : cX1_cast.data.toList.drop 108 = dktX1_cast_3 := dk_seg dksX1_cast_2 24 rfl rfl
theorem dksX1_cast_4 : cX1_cast.data.toList.drop 130 = dktX1_cast_4 := dk_seg dksX1_cast_3 22 rfl rfl
theorem dksX1_cast_5 : cX1_cast.data.toList.drop 154 = dktX1_cast_5 := dk_seg dksX1_cast_4 24 rfl rfl
theorem dX1_cast_0 : decode cX1_cast 0 = .ok (.iload_n 1, 1) := dk_27 (dk_at dksX1_cast_0 0 rfl rfl)
theorem dX1_cast_1 : decode cX1_cast 1 = .ok (.tableswitch 168 0 16 #[83, 88, 93, 98, 103, 108, 113, 118, 123, 128, 133, 138, 143, 148, 153, 158, 163], 83) := by decide +kernel
theorem dX1_cast_84 : decode cX1_cast 84 = .ok (.aload_n 0, 1) := dk_42 (dk_at dksX1_cast_2 0 rfl rfl)
theorem dX1_cast_85 : decode cX1_cast 85 = .ok (.checkcast 84, 3) := dk_192 0 84 (dk_at dksX1_cast_2 1 rfl rfl)
theorem dX1_cast_88 : decode cX1_cast 88 = .ok (.areturn, 1) := dk_176 (dk_at dksX1_cast_2 4 rfl rfl)
theorem dX1_cast_89 : decode cX1_cast 89 = .ok (.aload_n 0, 1) := dk_42 (dk_at dksX1_cast_2 5 rfl rfl)
theorem dX1_cast_90 : decode cX1_cast 90 = .ok (.checkcast 86, 3) := dk_192 0 86 (dk_at dksX1_cast_2 6 rfl rfl)
theorem dX1_cast_93 : decode cX1_cast 93 = .ok (.areturn, 1) := dk_176 (dk_at dksX1_cast_2 9 rfl rfl)
theorem dX1_cast_94 : decode cX1_cast 94 = .ok (.aload_n 0, 1) := dk_42 (dk_at dksX1_cast_2 10 rfl rfl)
theorem dX1_cast_95 : decode cX1_cast 95 = .ok (.checkcast 88, 3) := dk_192 0 88 (dk_at dksX1_cast_2 11 rfl rfl)
theorem dX1_cast_98 : decode cX1_cast 98 = .ok (.areturn, 1) := dk_176 (dk_at dksX1_cast_2 14 rfl rfl)
theorem dX1_cast_99 : decode cX1_cast 99 = .ok (.aload_n 0, 1) := dk_42 (dk_at dksX1_cast_2 15 rfl rfl)
theorem dX1_cast_100 : decode cX1_cast 100 = .ok (.checkcast 90, 3) := dk_192 0 90 (dk_at dksX1_cast_2 16 rfl rfl)
theorem dX1_cast_103 : decode cX1_cast 103 = .ok (.areturn, 1) := dk_176 (dk_at dksX1_cast_2 19 rfl rfl)
theorem dX1_cast_104 : decode cX1_cast 104 = .ok (.aload_n 0, 1) := dk_42 (dk_at dksX1_cast_2 20 rfl rfl)
theorem dX1_cast_105 : decode cX1_cast 105 = .ok (.checkcast 40, 3) := dk_192 0 40 (dk_at dksX1_cast_2 21 rfl rfl)
theorem dX1_cast_108 : decode cX1_cast 108 = .ok (.areturn, 1) := dk_176 (dk_at dksX1_cast_3 0 rfl rfl)
theorem dX1_cast_109 : decode cX1_cast 109 = .ok (.aload_n 0, 1) := dk_42 (dk_at dksX1_cast_3 1 rfl rfl)
theorem dX1_cast_110 : decode cX1_cast 110 = .ok (.checkcast 92, 3) := dk_192 0 92 (dk_at dksX1_cast_3 2 rfl rfl)
theorem dX1_cast_113 : decode cX1_cast 113 = .ok (.areturn, 1) := dk_176 (dk_at dksX1_cast_3 5 rfl rfl)
theorem dX1_cast_114 : decode cX1_cast 114 = .ok (.aload_n 0, 1) := dk_42 (dk_at dksX1_cast_3 6 rfl rfl)
theorem dX1_cast_115 : decode cX1_cast 115 = .ok (.checkcast 94, 3) := dk_192 0 94 (dk_at dksX1_cast_3 7 rfl rfl)
theorem dX1_cast_118 : decode cX1_cast 118 = .ok (.areturn, 1) := dk_176 (dk_at dksX1_cast_3 10 rfl rfl)
theorem dX1_cast_119 : decode cX1_cast 119 = .ok (.aload_n 0, 1) := dk_42 (dk_at dksX1_cast_3 11 rfl rfl)
theorem dX1_cast_120 : decode cX1_cast 120 = .ok (.checkcast 96, 3) := dk_192 0 96 (dk_at dksX1_cast_3 12 rfl rfl)
theorem dX1_cast_123 : decode cX1_cast 123 = .ok (.areturn, 1) := dk_176 (dk_at dksX1_cast_3 15 rfl rfl)
theorem dX1_cast_124 : decode cX1_cast 124 = .ok (.aload_n 0, 1) := dk_42 (dk_at dksX1_cast_3 16 rfl rfl)
theorem dX1_cast_125 : decode cX1_cast 125 = .ok (.checkcast 63, 3) := dk_192 0 63 (dk_at dksX1_cast_3 17 rfl rfl)
theorem dX1_cast_128 : decode cX1_cast 128 = .ok (.areturn, 1) := dk_176 (dk_at dksX1_cast_3 20 rfl rfl)
theorem dX1_cast_129 : decode cX1_cast 129 = .ok (.aload_n 0, 1) := dk_42 (dk_at dksX1_cast_3 21 rfl rfl)
theorem dX1_cast_130 : decode cX1_cast 130 = .ok (.checkcast 80, 3) := dk_192 0 80 (dk_at dksX1_cast_4 0 rfl rfl)
theorem dX1_cast_133 : decode cX1_cast 133 = .ok (.areturn, 1) := dk_176 (dk_at dksX1_cast_4 3 rfl rfl)
theorem dX1_cast_134 : decode cX1_cast 134 = .ok (.aload_n 0, 1) := dk_42 (dk_at dksX1_cast_4 4 rfl rfl)
theorem dX1_cast_135 : decode cX1_cast 135 = .ok (.checkcast 82, 3) := dk_192 0 82 (dk_at dksX1_cast_4 5 rfl rfl)
theorem dX1_cast_138 : decode cX1_cast 138 = .ok (.areturn, 1) := dk_176 (dk_at dksX1_cast_4 8 rfl rfl)
theorem dX1_cast_139 : decode cX1_cast 139 = .ok (.aload_n 0, 1) := dk_42 (dk_at dksX1_cast_4 9 rfl rfl)
theorem dX1_cast_140 : decode cX1_cast 140 = .ok (.checkcast 41, 3) := dk_192 0 41 (dk_at dksX1_cast_4 10 rfl rfl)
theorem dX1_cast_143 : decode cX1_cast 143 = .ok (.areturn, 1) := dk_176 (dk_at dksX1_cast_4 13 rfl rfl)
theorem dX1_cast_144 : decode cX1_cast 144 = .ok (.aload_n 0, 1) := dk_42 (dk_at dksX1_cast_4 14 rfl rfl)
theorem dX1_cast_145 : decode cX1_cast 145 = .ok (.checkcast 43, 3) := dk_192 0 43 (dk_at dksX1_cast_4 15 rfl rfl)
theorem dX1_cast_148 : decode cX1_cast 148 = .ok (.areturn, 1) := dk_176 (dk_at dksX1_cast_4 18 rfl rfl)
theorem dX1_cast_149 : decode cX1_cast 149 = .ok (.aload_n 0, 1) := dk_42 (dk_at dksX1_cast_4 19 rfl rfl)
theorem dX1_cast_150 : decode cX1_cast 150 = .ok (.checkcast 69, 3) := dk_192 0 69 (dk_at dksX1_cast_4 20 rfl rfl)
theorem dX1_cast_153 : decode cX1_cast 153 = .ok (.areturn, 1) := dk_176 (dk_at dksX1_cast_4 23 rfl rfl)
theorem dX1_cast_154 : decode cX1_cast 154 = .ok (.aload_n 0, 1) := dk_42 (dk_at dksX1_cast_5 0 rfl rfl)
theorem dX1_cast_155 : decode cX1_cast 155 = .ok (.checkcast 72, 3) := dk_192 0 72 (dk_at dksX1_cast_5 1 rfl rfl)
theorem dX1_cast_158 : decode cX1_cast 158 = .ok (.areturn, 1) := dk_176 (dk_at dksX1_cast_5 4 rfl rfl)
theorem dX1_cast_159 : decode cX1_cast 159 = .ok (.aload_n 0, 1) := dk_42 (dk_at dksX1_cast_5 5 rfl rfl)
theorem dX1_cast_160 : decode cX1_cast 160 = .ok (.checkcast 75, 3) := dk_192 0 75 (dk_at dksX1_cast_5 6 rfl rfl)
theorem dX1_cast_163 : decode cX1_cast 163 = .ok (.areturn, 1) := dk_176 (dk_at dksX1_cast_5 9 rfl rfl)
theorem dX1_cast_164 : decode cX1_cast 164 = .ok (.aload_n 0, 1) := dk_42 (dk_at dksX1_cast_5 10 rfl rfl)
theorem dX1_cast_165 : decode cX1_cast 165 = .ok (.checkcast 78, 3) := dk_192 0 78 (dk_at dksX1_cast_5 11 rfl rfl)
theorem dX1_cast_168 : decode cX1_cast 168 = .ok (.areturn, 1) := dk_176 (dk_at dksX1_cast_5 14 rfl rfl)
theorem dX1_cast_169 : decode cX1_cast 169 = .ok (.aload_n 0, 1) := dk_42 (dk_at dksX1_cast_5 15 rfl rfl)
theorem dX1_cast_170 : decode cX1_cast 170 = .ok (.checkcast 102, 3) := dk_192 0 102 (dk_at dksX1_cast_5 16 rfl rfl)
theorem dX1_cast_173 : decode cX1_cast 173 = .ok (.areturn, 1) := dk_176 (dk_at dksX1_cast_5 19 rfl rfl)
abbrev cX1_length : ByteArray := prog_1_method_22_code
def yX1_length : MethodName := ⟨RX1, "length", "(I)I"⟩
def dkwX1_length_1 : List UInt8 := [184, 0, 118, 172, 78, 42, 6, 182, 0, 49, 172]
abbrev dktX1_length_1 : List UInt8 := dkwX1_length_1 ++ []
def dkwX1_length_0 : List UInt8 := [42, 27, 182, 0, 45, 77, 44, 198, 0, 16, 44, 184, 0, 114, 154, 0, 9, 42, 4, 182, 0, 49, 172, 44]
abbrev dktX1_length_0 : List UInt8 := dkwX1_length_0 ++ dktX1_length_1
theorem dksX1_length_0 : cX1_length.data.toList.drop 0 = dktX1_length_0 := by decide +kernel
theorem dksX1_length_1 : cX1_length.data.toList.drop 24 = dktX1_length_1 := dk_seg dksX1_length_0 24 rfl rfl
theorem dX1_length_0 : decode cX1_length 0 = .ok (.aload_n 0, 1) := dk_42 (dk_at dksX1_length_0 0 rfl rfl)
theorem dX1_length_1 : decode cX1_length 1 = .ok (.iload_n 1, 1) := dk_27 (dk_at dksX1_length_0 1 rfl rfl)
theorem dX1_length_2 : decode cX1_length 2 = .ok (.invokevirtual 45, 3) := dk_182 0 45 (dk_at dksX1_length_0 2 rfl rfl)
theorem dX1_length_5 : decode cX1_length 5 = .ok (.astore_n 2, 1) := dk_77 (dk_at dksX1_length_0 5 rfl rfl)
theorem dX1_length_6 : decode cX1_length 6 = .ok (.aload_n 2, 1) := dk_44 (dk_at dksX1_length_0 6 rfl rfl)
theorem dX1_length_7 : decode cX1_length 7 = .ok (.ifnull 16, 3) := dk_198 0 16 (dk_at dksX1_length_0 7 rfl rfl)
theorem dX1_length_10 : decode cX1_length 10 = .ok (.aload_n 2, 1) := dk_44 (dk_at dksX1_length_0 10 rfl rfl)
theorem dX1_length_11 : decode cX1_length 11 = .ok (.invokestatic 114, 3) := dk_184 0 114 (dk_at dksX1_length_0 11 rfl rfl)
theorem dX1_length_14 : decode cX1_length 14 = .ok (.ifCond .ne 9, 3) := dk_154 0 9 (dk_at dksX1_length_0 14 rfl rfl)
theorem dX1_length_17 : decode cX1_length 17 = .ok (.aload_n 0, 1) := dk_42 (dk_at dksX1_length_0 17 rfl rfl)
theorem dX1_length_18 : decode cX1_length 18 = .ok (.iconst 1, 1) := dk_4 (dk_at dksX1_length_0 18 rfl rfl)
theorem dX1_length_19 : decode cX1_length 19 = .ok (.invokevirtual 49, 3) := dk_182 0 49 (dk_at dksX1_length_0 19 rfl rfl)
theorem dX1_length_22 : decode cX1_length 22 = .ok (.ireturn, 1) := dk_172 (dk_at dksX1_length_0 22 rfl rfl)
theorem dX1_length_23 : decode cX1_length 23 = .ok (.aload_n 2, 1) := dk_44 (dk_at dksX1_length_0 23 rfl rfl)
theorem dX1_length_24 : decode cX1_length 24 = .ok (.invokestatic 118, 3) := dk_184 0 118 (dk_at dksX1_length_1 0 rfl rfl)
theorem dX1_length_27 : decode cX1_length 27 = .ok (.ireturn, 1) := dk_172 (dk_at dksX1_length_1 3 rfl rfl)
theorem dX1_length_28 : decode cX1_length 28 = .ok (.astore_n 3, 1) := dk_78 (dk_at dksX1_length_1 4 rfl rfl)
theorem dX1_length_29 : decode cX1_length 29 = .ok (.aload_n 0, 1) := dk_42 (dk_at dksX1_length_1 5 rfl rfl)
theorem dX1_length_30 : decode cX1_length 30 = .ok (.iconst 3, 1) := dk_6 (dk_at dksX1_length_1 6 rfl rfl)
theorem dX1_length_31 : decode cX1_length 31 = .ok (.invokevirtual 49, 3) := dk_182 0 49 (dk_at dksX1_length_1 7 rfl rfl)
theorem dX1_length_34 : decode cX1_length 34 = .ok (.ireturn, 1) := dk_172 (dk_at dksX1_length_1 10 rfl rfl)
abbrev cX1_isRow : ByteArray := prog_1_method_20_code
def yX1_isRow : MethodName := ⟨RX1, "isRow", "(Ljava/lang/Object;)Z"⟩
def dkwX1_isRow_0 : List UInt8 := [42, 184, 0, 98, 60, 27, 155, 0, 13, 27, 16, 10, 163, 0, 7, 4, 167, 0, 4, 3, 172]
abbrev dktX1_isRow_0 : List UInt8 := dkwX1_isRow_0 ++ []
theorem dksX1_isRow_0 : cX1_isRow.data.toList.drop 0 = dktX1_isRow_0 := by decide +kernel
theorem dX1_isRow_0 : decode cX1_isRow 0 = .ok (.aload_n 0, 1) := dk_42 (dk_at dksX1_isRow_0 0 rfl rfl)
theorem dX1_isRow_1 : decode cX1_isRow 1 = .ok (.invokestatic 98, 3) := dk_184 0 98 (dk_at dksX1_isRow_0 1 rfl rfl)
theorem dX1_isRow_4 : decode cX1_isRow 4 = .ok (.istore_n 1, 1) := dk_60 (dk_at dksX1_isRow_0 4 rfl rfl)
theorem dX1_isRow_5 : decode cX1_isRow 5 = .ok (.iload_n 1, 1) := dk_27 (dk_at dksX1_isRow_0 5 rfl rfl)
theorem dX1_isRow_6 : decode cX1_isRow 6 = .ok (.ifCond .lt 13, 3) := dk_155 0 13 (dk_at dksX1_isRow_0 6 rfl rfl)
theorem dX1_isRow_9 : decode cX1_isRow 9 = .ok (.iload_n 1, 1) := dk_27 (dk_at dksX1_isRow_0 9 rfl rfl)
theorem dX1_isRow_10 : decode cX1_isRow 10 = .ok (.bipush 10, 2) := dk_16 10 (dk_at dksX1_isRow_0 10 rfl rfl)
theorem dX1_isRow_12 : decode cX1_isRow 12 = .ok (.if_icmp .gt 7, 3) := dk_163 0 7 (dk_at dksX1_isRow_0 12 rfl rfl)
theorem dX1_isRow_15 : decode cX1_isRow 15 = .ok (.iconst 1, 1) := dk_4 (dk_at dksX1_isRow_0 15 rfl rfl)
theorem dX1_isRow_16 : decode cX1_isRow 16 = .ok (.goto 4, 3) := dk_167 0 4 (dk_at dksX1_isRow_0 16 rfl rfl)
theorem dX1_isRow_19 : decode cX1_isRow 19 = .ok (.iconst 0, 1) := dk_3 (dk_at dksX1_isRow_0 19 rfl rfl)
theorem dX1_isRow_20 : decode cX1_isRow 20 = .ok (.ireturn, 1) := dk_172 (dk_at dksX1_isRow_0 20 rfl rfl)
abbrev cX1_lengthOf : ByteArray := prog_1_method_21_code
def yX1_lengthOf : MethodName := ⟨RX1, "lengthOf", "(Ljava/lang/Object;)I"⟩
def dkwX1_lengthOf_4 : List UInt8 := [42, 192, 0, 80, 190, 172, 42, 192, 0, 40, 190, 172]
abbrev dktX1_lengthOf_4 : List UInt8 := dkwX1_lengthOf_4 ++ []
def dkwX1_lengthOf_3 : List UInt8 := [42, 192, 0, 92, 190, 172, 42, 192, 0, 94, 190, 172, 42, 192, 0, 96, 190, 172, 42, 192, 0, 63, 190, 172]
abbrev dktX1_lengthOf_3 : List UInt8 := dkwX1_lengthOf_3 ++ dktX1_lengthOf_4
def dkwX1_lengthOf_2 : List UInt8 := [42, 192, 0, 84, 190, 172, 42, 192, 0, 86, 190, 172, 42, 192, 0, 88, 190, 172, 42, 192, 0, 90, 190, 172]
abbrev dktX1_lengthOf_2 : List UInt8 := dkwX1_lengthOf_2 ++ dktX1_lengthOf_3
def dkwX1_lengthOf_1 : List UInt8 := [170, 0, 0, 0, 0, 0, 0, 114, 0, 0, 0, 0, 0, 0, 0, 10, 0, 0, 0, 60, 0, 0, 0, 66, 0, 0, 0, 72, 0, 0, 0, 78, 0, 0, 0, 114, 0, 0, 0, 84, 0, 0, 0, 90, 0, 0, 0, 96, 0, 0, 0, 102, 0, 0, 0, 108, 0, 0, 0, 108]
abbrev dktX1_lengthOf_1 : List UInt8 := dkwX1_lengthOf_1 ++ dktX1_lengthOf_2
def dkwX1_lengthOf_0 : List UInt8 := [42, 184, 0, 98]
abbrev dktX1_lengthOf_0 : List UInt8 := dkwX1_lengthOf_0 ++ dktX1_lengthOf_1
theorem dksX1_lengthOf_0 : cX1_lengthOf.data.toList.drop 0 = dktX1_lengthOf_0 := by decide +kernel
theorem dksX1_lengthOf_1 : cX1_lengthOf.data.toList.drop 4 = dktX1_lengthOf_1 := dk_seg dksX1_lengthOf_0 4 rfl rfl
theorem dksX1_lengthOf_2 : cX1_lengthOf.data.toList.drop 64 = dktX1_lengthOf_2 := dk_seg dksX1_lengthOf_1 60 rfl rfl
theorem dksX1_lengthOf_3 : cX1_lengthOf.data.toList.drop 88 = dktX1_lengthOf_3 := dk_seg dksX1_lengthOf_2 24 rfl rfl
theorem dksX1_lengthOf_4 : cX1_lengthOf.data.toList.drop 112 = dktX1_lengthOf_4 := dk_seg dksX1_lengthOf_3 24 rfl rfl
theorem dX1_lengthOf_0 : decode cX1_lengthOf 0 = .ok (.aload_n 0, 1) := dk_42 (dk_at dksX1_lengthOf_0 0 rfl rfl)
theorem dX1_lengthOf_1 : decode cX1_lengthOf 1 = .ok (.invokestatic 98, 3) := dk_184 0 98 (dk_at dksX1_lengthOf_0 1 rfl rfl)
theorem dX1_lengthOf_4 : decode cX1_lengthOf 4 = .ok (.tableswitch 114 0 10 #[60, 66, 72, 78, 114, 84, 90, 96, 102, 108, 108], 60) := by decide +kernel
theorem dX1_lengthOf_64 : decode cX1_lengthOf 64 = .ok (.aload_n 0, 1) := dk_42 (dk_at dksX1_lengthOf_2 0 rfl rfl)
theorem dX1_lengthOf_65 : decode cX1_lengthOf 65 = .ok (.checkcast 84, 3) := dk_192 0 84 (dk_at dksX1_lengthOf_2 1 rfl rfl)
theorem dX1_lengthOf_68 : decode cX1_lengthOf 68 = .ok (.arraylength, 1) := dk_190 (dk_at dksX1_lengthOf_2 4 rfl rfl)
theorem dX1_lengthOf_69 : decode cX1_lengthOf 69 = .ok (.ireturn, 1) := dk_172 (dk_at dksX1_lengthOf_2 5 rfl rfl)
theorem dX1_lengthOf_70 : decode cX1_lengthOf 70 = .ok (.aload_n 0, 1) := dk_42 (dk_at dksX1_lengthOf_2 6 rfl rfl)
theorem dX1_lengthOf_71 : decode cX1_lengthOf 71 = .ok (.checkcast 86, 3) := dk_192 0 86 (dk_at dksX1_lengthOf_2 7 rfl rfl)
theorem dX1_lengthOf_74 : decode cX1_lengthOf 74 = .ok (.arraylength, 1) := dk_190 (dk_at dksX1_lengthOf_2 10 rfl rfl)
theorem dX1_lengthOf_75 : decode cX1_lengthOf 75 = .ok (.ireturn, 1) := dk_172 (dk_at dksX1_lengthOf_2 11 rfl rfl)
theorem dX1_lengthOf_76 : decode cX1_lengthOf 76 = .ok (.aload_n 0, 1) := dk_42 (dk_at dksX1_lengthOf_2 12 rfl rfl)
theorem dX1_lengthOf_77 : decode cX1_lengthOf 77 = .ok (.checkcast 88, 3) := dk_192 0 88 (dk_at dksX1_lengthOf_2 13 rfl rfl)
theorem dX1_lengthOf_80 : decode cX1_lengthOf 80 = .ok (.arraylength, 1) := dk_190 (dk_at dksX1_lengthOf_2 16 rfl rfl)
theorem dX1_lengthOf_81 : decode cX1_lengthOf 81 = .ok (.ireturn, 1) := dk_172 (dk_at dksX1_lengthOf_2 17 rfl rfl)
theorem dX1_lengthOf_82 : decode cX1_lengthOf 82 = .ok (.aload_n 0, 1) := dk_42 (dk_at dksX1_lengthOf_2 18 rfl rfl)
theorem dX1_lengthOf_83 : decode cX1_lengthOf 83 = .ok (.checkcast 90, 3) := dk_192 0 90 (dk_at dksX1_lengthOf_2 19 rfl rfl)
theorem dX1_lengthOf_86 : decode cX1_lengthOf 86 = .ok (.arraylength, 1) := dk_190 (dk_at dksX1_lengthOf_2 22 rfl rfl)
theorem dX1_lengthOf_87 : decode cX1_lengthOf 87 = .ok (.ireturn, 1) := dk_172 (dk_at dksX1_lengthOf_2 23 rfl rfl)
theorem dX1_lengthOf_88 : decode cX1_lengthOf 88 = .ok (.aload_n 0, 1) := dk_42 (dk_at dksX1_lengthOf_3 0 rfl rfl)
theorem dX1_lengthOf_89 : decode cX1_lengthOf 89 = .ok (.checkcast 92, 3) := dk_192 0 92 (dk_at dksX1_lengthOf_3 1 rfl rfl)
theorem dX1_lengthOf_92 : decode cX1_lengthOf 92 = .ok (.arraylength, 1) := dk_190 (dk_at dksX1_lengthOf_3 4 rfl rfl)
theorem dX1_lengthOf_93 : decode cX1_lengthOf 93 = .ok (.ireturn, 1) := dk_172 (dk_at dksX1_lengthOf_3 5 rfl rfl)
theorem dX1_lengthOf_94 : decode cX1_lengthOf 94 = .ok (.aload_n 0, 1) := dk_42 (dk_at dksX1_lengthOf_3 6 rfl rfl)
theorem dX1_lengthOf_95 : decode cX1_lengthOf 95 = .ok (.checkcast 94, 3) := dk_192 0 94 (dk_at dksX1_lengthOf_3 7 rfl rfl)
theorem dX1_lengthOf_98 : decode cX1_lengthOf 98 = .ok (.arraylength, 1) := dk_190 (dk_at dksX1_lengthOf_3 10 rfl rfl)
theorem dX1_lengthOf_99 : decode cX1_lengthOf 99 = .ok (.ireturn, 1) := dk_172 (dk_at dksX1_lengthOf_3 11 rfl rfl)
theorem dX1_lengthOf_100 : decode cX1_lengthOf 100 = .ok (.aload_n 0, 1) := dk_42 (dk_at dksX1_lengthOf_3 12 rfl rfl)
theorem dX1_lengthOf_101 : decode cX1_lengthOf 101 = .ok (.checkcast 96, 3) := dk_192 0 96 (dk_at dksX1_lengthOf_3 13 rfl rfl)
theorem dX1_lengthOf_104 : decode cX1_lengthOf 104 = .ok (.arraylength, 1) := dk_190 (dk_at dksX1_lengthOf_3 16 rfl rfl)
theorem dX1_lengthOf_105 : decode cX1_lengthOf 105 = .ok (.ireturn, 1) := dk_172 (dk_at dksX1_lengthOf_3 17 rfl rfl)
theorem dX1_lengthOf_106 : decode cX1_lengthOf 106 = .ok (.aload_n 0, 1) := dk_42 (dk_at dksX1_lengthOf_3 18 rfl rfl)
theorem dX1_lengthOf_107 : decode cX1_lengthOf 107 = .ok (.checkcast 63, 3) := dk_192 0 63 (dk_at dksX1_lengthOf_3 19 rfl rfl)
theorem dX1_lengthOf_110 : decode cX1_lengthOf 110 = .ok (.arraylength, 1) := dk_190 (dk_at dksX1_lengthOf_3 22 rfl rfl)
theorem dX1_lengthOf_111 : decode cX1_lengthOf 111 = .ok (.ireturn, 1) := dk_172 (dk_at dksX1_lengthOf_3 23 rfl rfl)
theorem dX1_lengthOf_112 : decode cX1_lengthOf 112 = .ok (.aload_n 0, 1) := dk_42 (dk_at dksX1_lengthOf_4 0 rfl rfl)
theorem dX1_lengthOf_113 : decode cX1_lengthOf 113 = .ok (.checkcast 80, 3) := dk_192 0 80 (dk_at dksX1_lengthOf_4 1 rfl rfl)
theorem dX1_lengthOf_116 : decode cX1_lengthOf 116 = .ok (.arraylength, 1) := dk_190 (dk_at dksX1_lengthOf_4 4 rfl rfl)
theorem dX1_lengthOf_117 : decode cX1_lengthOf 117 = .ok (.ireturn, 1) := dk_172 (dk_at dksX1_lengthOf_4 5 rfl rfl)
theorem dX1_lengthOf_118 : decode cX1_lengthOf 118 = .ok (.aload_n 0, 1) := dk_42 (dk_at dksX1_lengthOf_4 6 rfl rfl)
theorem dX1_lengthOf_119 : decode cX1_lengthOf 119 = .ok (.checkcast 40, 3) := dk_192 0 40 (dk_at dksX1_lengthOf_4 7 rfl rfl)
theorem dX1_lengthOf_122 : decode cX1_lengthOf 122 = .ok (.arraylength, 1) := dk_190 (dk_at dksX1_lengthOf_4 10 rfl rfl)
theorem dX1_lengthOf_123 : decode cX1_lengthOf 123 = .ok (.ireturn, 1) := dk_172 (dk_at dksX1_lengthOf_4 11 rfl rfl)
abbrev cX1_get : ByteArray := prog_1_method_29_code
def yX1_get : MethodName := ⟨RX1, "get", "(III)J"⟩
def dkwX1_get_3 : List UInt8 := [5, 182, 0, 49, 133, 173]
abbrev dktX1_get_3 : List UInt8 := dkwX1_get_3 ++ []
def dkwX1_get_2 : List UInt8 := [133, 173, 25, 4, 21, 5, 28, 29, 184, 0, 172, 173, 58, 6, 42, 6, 182, 0, 49, 133, 173, 58, 6, 42]
abbrev dktX1_get_2 : List UInt8 := dkwX1_get_2 ++ dktX1_get_3
def dkwX1_get_1 : List UInt8 := [153, 0, 19, 29, 184, 0, 164, 153, 0, 12, 21, 5, 29, 184, 0, 168, 154, 0, 10, 42, 4, 182, 0, 49]
abbrev dktX1_get_1 : List UInt8 := dkwX1_get_1 ++ dktX1_get_2
def dkwX1_get_0 : List UInt8 := [42, 27, 182, 0, 45, 58, 4, 25, 4, 184, 0, 98, 54, 5, 25, 4, 198, 0, 34, 21, 5, 184, 0, 164]
abbrev dktX1_get_0 : List UInt8 := dkwX1_get_0 ++ dktX1_get_1
theorem dksX1_get_0 : cX1_get.data.toList.drop 0 = dktX1_get_0 := by decide +kernel
theorem dksX1_get_1 : cX1_get.data.toList.drop 24 = dktX1_get_1 := dk_seg dksX1_get_0 24 rfl rfl
theorem dksX1_get_2 : cX1_get.data.toList.drop 48 = dktX1_get_2 := dk_seg dksX1_get_1 24 rfl rfl
theorem dksX1_get_3 : cX1_get.data.toList.drop 72 = dktX1_get_3 := dk_seg dksX1_get_2 24 rfl rfl
theorem dX1_get_0 : decode cX1_get 0 = .ok (.aload_n 0, 1) := dk_42 (dk_at dksX1_get_0 0 rfl rfl)
theorem dX1_get_1 : decode cX1_get 1 = .ok (.iload_n 1, 1) := dk_27 (dk_at dksX1_get_0 1 rfl rfl)
theorem dX1_get_2 : decode cX1_get 2 = .ok (.invokevirtual 45, 3) := dk_182 0 45 (dk_at dksX1_get_0 2 rfl rfl)
theorem dX1_get_5 : decode cX1_get 5 = .ok (.astore 4, 2) := dk_58 4 (dk_at dksX1_get_0 5 rfl rfl)
theorem dX1_get_7 : decode cX1_get 7 = .ok (.aload 4, 2) := dk_25 4 (dk_at dksX1_get_0 7 rfl rfl)
theorem dX1_get_9 : decode cX1_get 9 = .ok (.invokestatic 98, 3) := dk_184 0 98 (dk_at dksX1_get_0 9 rfl rfl)
theorem dX1_get_12 : decode cX1_get 12 = .ok (.istore 5, 2) := dk_54 5 (dk_at dksX1_get_0 12 rfl rfl)
theorem dX1_get_14 : decode cX1_get 14 = .ok (.aload 4, 2) := dk_25 4 (dk_at dksX1_get_0 14 rfl rfl)
theorem dX1_get_16 : decode cX1_get 16 = .ok (.ifnull 34, 3) := dk_198 0 34 (dk_at dksX1_get_0 16 rfl rfl)
theorem dX1_get_19 : decode cX1_get 19 = .ok (.iload 5, 2) := dk_21 5 (dk_at dksX1_get_0 19 rfl rfl)
theorem dX1_get_21 : decode cX1_get 21 = .ok (.invokestatic 164, 3) := dk_184 0 164 (dk_at dksX1_get_0 21 rfl rfl)
theorem dX1_get_24 : decode cX1_get 24 = .ok (.ifCond .eq 19, 3) := dk_153 0 19 (dk_at dksX1_get_1 0 rfl rfl)
theorem dX1_get_27 : decode cX1_get 27 = .ok (.iload_n 3, 1) := dk_29 (dk_at dksX1_get_1 3 rfl rfl)
theorem dX1_get_28 : decode cX1_get 28 = .ok (.invokestatic 164, 3) := dk_184 0 164 (dk_at dksX1_get_1 4 rfl rfl)
theorem dX1_get_31 : decode cX1_get 31 = .ok (.ifCond .eq 12, 3) := dk_153 0 12 (dk_at dksX1_get_1 7 rfl rfl)
theorem dX1_get_34 : decode cX1_get 34 = .ok (.iload 5, 2) := dk_21 5 (dk_at dksX1_get_1 10 rfl rfl)
theorem dX1_get_36 : decode cX1_get 36 = .ok (.iload_n 3, 1) := dk_29 (dk_at dksX1_get_1 12 rfl rfl)
theorem dX1_get_37 : decode cX1_get 37 = .ok (.invokestatic 168, 3) := dk_184 0 168 (dk_at dksX1_get_1 13 rfl rfl)
theorem dX1_get_40 : decode cX1_get 40 = .ok (.ifCond .ne 10, 3) := dk_154 0 10 (dk_at dksX1_get_1 16 rfl rfl)
theorem dX1_get_43 : decode cX1_get 43 = .ok (.aload_n 0, 1) := dk_42 (dk_at dksX1_get_1 19 rfl rfl)
theorem dX1_get_44 : decode cX1_get 44 = .ok (.iconst 1, 1) := dk_4 (dk_at dksX1_get_1 20 rfl rfl)
theorem dX1_get_45 : decode cX1_get 45 = .ok (.invokevirtual 49, 3) := dk_182 0 49 (dk_at dksX1_get_1 21 rfl rfl)
theorem dX1_get_48 : decode cX1_get 48 = .ok (.i2l, 1) := dk_133 (dk_at dksX1_get_2 0 rfl rfl)
theorem dX1_get_49 : decode cX1_get 49 = .ok (.lreturn, 1) := dk_173 (dk_at dksX1_get_2 1 rfl rfl)
theorem dX1_get_50 : decode cX1_get 50 = .ok (.aload 4, 2) := dk_25 4 (dk_at dksX1_get_2 2 rfl rfl)
theorem dX1_get_52 : decode cX1_get 52 = .ok (.iload 5, 2) := dk_21 5 (dk_at dksX1_get_2 4 rfl rfl)
theorem dX1_get_54 : decode cX1_get 54 = .ok (.iload_n 2, 1) := dk_28 (dk_at dksX1_get_2 6 rfl rfl)
theorem dX1_get_55 : decode cX1_get 55 = .ok (.iload_n 3, 1) := dk_29 (dk_at dksX1_get_2 7 rfl rfl)
theorem dX1_get_56 : decode cX1_get 56 = .ok (.invokestatic 172, 3) := dk_184 0 172 (dk_at dksX1_get_2 8 rfl rfl)
theorem dX1_get_59 : decode cX1_get 59 = .ok (.lreturn, 1) := dk_173 (dk_at dksX1_get_2 11 rfl rfl)
theorem dX1_get_60 : decode cX1_get 60 = .ok (.astore 6, 2) := dk_58 6 (dk_at dksX1_get_2 12 rfl rfl)
theorem dX1_get_62 : decode cX1_get 62 = .ok (.aload_n 0, 1) := dk_42 (dk_at dksX1_get_2 14 rfl rfl)
theorem dX1_get_63 : decode cX1_get 63 = .ok (.iconst 3, 1) := dk_6 (dk_at dksX1_get_2 15 rfl rfl)
theorem dX1_get_64 : decode cX1_get 64 = .ok (.invokevirtual 49, 3) := dk_182 0 49 (dk_at dksX1_get_2 16 rfl rfl)
theorem dX1_get_67 : decode cX1_get 67 = .ok (.i2l, 1) := dk_133 (dk_at dksX1_get_2 19 rfl rfl)
theorem dX1_get_68 : decode cX1_get 68 = .ok (.lreturn, 1) := dk_173 (dk_at dksX1_get_2 20 rfl rfl)
theorem dX1_get_69 : decode cX1_get 69 = .ok (.astore 6, 2) := dk_58 6 (dk_at dksX1_get_2 21 rfl rfl)
theorem dX1_get_71 : decode cX1_get 71 = .ok (.aload_n 0, 1) := dk_42 (dk_at dksX1_get_2 23 rfl rfl)
theorem dX1_get_72 : decode cX1_get 72 = .ok (.iconst 2, 1) := dk_5 (dk_at dksX1_get_3 0 rfl rfl)
theorem dX1_get_73 : decode cX1_get 73 = .ok (.invokevirtual 49, 3) := dk_182 0 49 (dk_at dksX1_get_3 1 rfl rfl)
theorem dX1_get_76 : decode cX1_get 76 = .ok (.i2l, 1) := dk_133 (dk_at dksX1_get_3 4 rfl rfl)
theorem dX1_get_77 : decode cX1_get 77 = .ok (.lreturn, 1) := dk_173 (dk_at dksX1_get_3 5 rfl rfl)
abbrev cX1_isKind : ByteArray := prog_1_method_23_code
def yX1_isKind : MethodName := ⟨RX1, "isKind", "(I)Z"⟩
def dkwX1_isKind_0 : List UInt8 := [26, 155, 0, 13, 26, 16, 7, 163, 0, 7, 4, 167, 0, 4, 3, 172]
abbrev dktX1_isKind_0 : List UInt8 := dkwX1_isKind_0 ++ []
theorem dksX1_isKind_0 : cX1_isKind.data.toList.drop 0 = dktX1_isKind_0 := by decide +kernel
theorem dX1_isKind_0 : decode cX1_isKind 0 = .ok (.iload_n 0, 1) := dk_26 (dk_at dksX1_isKind_0 0 rfl rfl)
theorem dX1_isKind_1 : decode cX1_isKind 1 = .ok (.ifCond .lt 13, 3) := dk_155 0 13 (dk_at dksX1_isKind_0 1 rfl rfl)
theorem dX1_isKind_4 : decode cX1_isKind 4 = .ok (.iload_n 0, 1) := dk_26 (dk_at dksX1_isKind_0 4 rfl rfl)
theorem dX1_isKind_5 : decode cX1_isKind 5 = .ok (.bipush 7, 2) := dk_16 7 (dk_at dksX1_isKind_0 5 rfl rfl)
theorem dX1_isKind_7 : decode cX1_isKind 7 = .ok (.if_icmp .gt 7, 3) := dk_163 0 7 (dk_at dksX1_isKind_0 7 rfl rfl)
theorem dX1_isKind_10 : decode cX1_isKind 10 = .ok (.iconst 1, 1) := dk_4 (dk_at dksX1_isKind_0 10 rfl rfl)
theorem dX1_isKind_11 : decode cX1_isKind 11 = .ok (.goto 4, 3) := dk_167 0 4 (dk_at dksX1_isKind_0 11 rfl rfl)
theorem dX1_isKind_14 : decode cX1_isKind 14 = .ok (.iconst 0, 1) := dk_3 (dk_at dksX1_isKind_0 14 rfl rfl)
theorem dX1_isKind_15 : decode cX1_isKind 15 = .ok (.ireturn, 1) := dk_172 (dk_at dksX1_isKind_0 15 rfl rfl)
abbrev cX1_isWider : ByteArray := prog_1_method_24_code
def yX1_isWider : MethodName := ⟨RX1, "isWider", "(II)Z"⟩
def dkwX1_isWider_3 : List UInt8 := [164, 0, 7, 4, 167, 0, 4, 3, 172, 3, 172]
abbrev dktX1_isWider_3 : List UInt8 := dkwX1_isWider_3 ++ []
def dkwX1_isWider_2 : List UInt8 := [27, 6, 161, 0, 7, 4, 167, 0, 4, 3, 172, 27, 7, 161, 0, 7, 4, 167, 0, 4, 3, 172, 27, 26]
abbrev dktX1_isWider_2 : List UInt8 := dkwX1_isWider_2 ++ dktX1_isWider_3
def dkwX1_isWider_1 : List UInt8 := [170, 0, 0, 0, 0, 0, 0, 73, 0, 0, 0, 1, 0, 0, 0, 6, 0, 0, 0, 40, 0, 0, 0, 51, 0, 0, 0, 51, 0, 0, 0, 62, 0, 0, 0, 62, 0, 0, 0, 62]
abbrev dktX1_isWider_1 : List UInt8 := dkwX1_isWider_1 ++ dktX1_isWider_2
def dkwX1_isWider_0 : List UInt8 := [26, 27, 160, 0, 5, 4, 172, 26]
abbrev dktX1_isWider_0 : List UInt8 := dkwX1_isWider_0 ++ dktX1_isWider_1
theorem dksX1_isWider_0 : cX1_isWider.data.toList.drop 0 = dktX1_isWider_0 := by decide +kernel
theorem dksX1_isWider_1 : cX1_isWider.data.toList.drop 8 = dktX1_isWider_1 := dk_seg dksX1_isWider_0 8 rfl rfl
theorem dksX1_isWider_2 : cX1_isWider.data.toList.drop 48 = dktX1_isWider_2 := dk_seg dksX1_isWider_1 40 rfl rfl
theorem dksX1_isWider_3 : cX1_isWider.data.toList.drop 72 = dktX1_isWider_3 := dk_seg dksX1_isWider_2 24 rfl rfl
theorem dX1_isWider_0 : decode cX1_isWider 0 = .ok (.iload_n 0, 1) := dk_26 (dk_at dksX1_isWider_0 0 rfl rfl)
theorem dX1_isWider_1 : decode cX1_isWider 1 = .ok (.iload_n 1, 1) := dk_27 (dk_at dksX1_isWider_0 1 rfl rfl)
theorem dX1_isWider_2 : decode cX1_isWider 2 = .ok (.if_icmp .ne 5, 3) := dk_160 0 5 (dk_at dksX1_isWider_0 2 rfl rfl)
theorem dX1_isWider_5 : decode cX1_isWider 5 = .ok (.iconst 1, 1) := dk_4 (dk_at dksX1_isWider_0 5 rfl rfl)
theorem dX1_isWider_6 : decode cX1_isWider 6 = .ok (.ireturn, 1) := dk_172 (dk_at dksX1_isWider_0 6 rfl rfl)
theorem dX1_isWider_7 : decode cX1_isWider 7 = .ok (.iload_n 0, 1) := dk_26 (dk_at dksX1_isWider_0 7 rfl rfl)
theorem dX1_isWider_8 : decode cX1_isWider 8 = .ok (.tableswitch 73 1 6 #[40, 51, 51, 62, 62, 62], 40) := by decide +kernel
theorem dX1_isWider_48 : decode cX1_isWider 48 = .ok (.iload_n 1, 1) := dk_27 (dk_at dksX1_isWider_2 0 rfl rfl)
theorem dX1_isWider_49 : decode cX1_isWider 49 = .ok (.iconst 3, 1) := dk_6 (dk_at dksX1_isWider_2 1 rfl rfl)
theorem dX1_isWider_50 : decode cX1_isWider 50 = .ok (.if_icmp .lt 7, 3) := dk_161 0 7 (dk_at dksX1_isWider_2 2 rfl rfl)
theorem dX1_isWider_53 : decode cX1_isWider 53 = .ok (.iconst 1, 1) := dk_4 (dk_at dksX1_isWider_2 5 rfl rfl)
theorem dX1_isWider_54 : decode cX1_isWider 54 = .ok (.goto 4, 3) := dk_167 0 4 (dk_at dksX1_isWider_2 6 rfl rfl)
theorem dX1_isWider_57 : decode cX1_isWider 57 = .ok (.iconst 0, 1) := dk_3 (dk_at dksX1_isWider_2 9 rfl rfl)
theorem dX1_isWider_58 : decode cX1_isWider 58 = .ok (.ireturn, 1) := dk_172 (dk_at dksX1_isWider_2 10 rfl rfl)
theorem dX1_isWider_59 : decode cX1_isWider 59 = .ok (.iload_n 1, 1) := dk_27 (dk_at dksX1_isWider_2 11 rfl rfl)
theorem dX1_isWider_60 : decode cX1_isWider 60 = .ok (.iconst 4, 1) := dk_7 (dk_at dksX1_isWider_2 12 rfl rfl)
theorem dX1_isWider_61 : decode cX1_isWider 61 = .ok (.if_icmp .lt 7, 3) := dk_161 0 7 (dk_at dksX1_isWider_2 13 rfl rfl)
theorem dX1_isWider_64 : decode cX1_isWider 64 = .ok (.iconst 1, 1) := dk_4 (dk_at dksX1_isWider_2 16 rfl rfl)
theorem dX1_isWider_65 : decode cX1_isWider 65 = .ok (.goto 4, 3) := dk_167 0 4 (dk_at dksX1_isWider_2 17 rfl rfl)
theorem dX1_isWider_68 : decode cX1_isWider 68 = .ok (.iconst 0, 1) := dk_3 (dk_at dksX1_isWider_2 20 rfl rfl)
theorem dX1_isWider_69 : decode cX1_isWider 69 = .ok (.ireturn, 1) := dk_172 (dk_at dksX1_isWider_2 21 rfl rfl)
theorem dX1_isWider_70 : decode cX1_isWider 70 = .ok (.iload_n 1, 1) := dk_27 (dk_at dksX1_isWider_2 22 rfl rfl)
theorem dX1_isWider_71 : decode cX1_isWider 71 = .ok (.iload_n 0, 1) := dk_26 (dk_at dksX1_isWider_2 23 rfl rfl)
theorem dX1_isWider_72 : decode cX1_isWider 72 = .ok (.if_icmp .le 7, 3) := dk_164 0 7 (dk_at dksX1_isWider_3 0 rfl rfl)
theorem dX1_isWider_75 : decode cX1_isWider 75 = .ok (.iconst 1, 1) := dk_4 (dk_at dksX1_isWider_3 3 rfl rfl)
theorem dX1_isWider_76 : decode cX1_isWider 76 = .ok (.goto 4, 3) := dk_167 0 4 (dk_at dksX1_isWider_3 4 rfl rfl)
theorem dX1_isWider_79 : decode cX1_isWider 79 = .ok (.iconst 0, 1) := dk_3 (dk_at dksX1_isWider_3 7 rfl rfl)
theorem dX1_isWider_80 : decode cX1_isWider 80 = .ok (.ireturn, 1) := dk_172 (dk_at dksX1_isWider_3 8 rfl rfl)
theorem dX1_isWider_81 : decode cX1_isWider 81 = .ok (.iconst 0, 1) := dk_3 (dk_at dksX1_isWider_3 9 rfl rfl)
theorem dX1_isWider_82 : decode cX1_isWider 82 = .ok (.ireturn, 1) := dk_172 (dk_at dksX1_isWider_3 10 rfl rfl)
abbrev cX1_load : ByteArray := prog_1_method_28_code
def yX1_load : MethodName := ⟨RX1, "load", "(Ljava/lang/Object;III)J"⟩
def dkwX1_load_6 : List UInt8 := [192, 0, 96, 28, 49, 184, 0, 152, 173, 42, 192, 0, 40, 28, 46, 133, 29, 184, 0, 156, 173]
abbrev dktX1_load_6 : List UInt8 := dkwX1_load_6 ++ []
def dkwX1_load_5 : List UInt8 := [16, 6, 160, 0, 12, 23, 4, 184, 0, 148, 133, 167, 0, 11, 23, 4, 184, 0, 160, 184, 0, 152, 173, 42]
abbrev dktX1_load_5 : List UInt8 := dkwX1_load_5 ++ dktX1_load_6
def dkwX1_load_4 : List UInt8 := [184, 0, 156, 173, 42, 192, 0, 92, 28, 47, 29, 184, 0, 156, 173, 42, 192, 0, 94, 28, 48, 56, 4, 29]
abbrev dktX1_load_4 : List UInt8 := dkwX1_load_4 ++ dktX1_load_5
def dkwX1_load_3 : List UInt8 := [184, 0, 156, 173, 42, 192, 0, 88, 28, 52, 133, 29, 184, 0, 156, 173, 42, 192, 0, 90, 28, 53, 133, 29]
abbrev dktX1_load_3 : List UInt8 := dkwX1_load_3 ++ dktX1_load_4
def dkwX1_load_2 : List UInt8 := [42, 192, 0, 84, 28, 51, 153, 0, 7, 10, 167, 0, 4, 9, 173, 42, 192, 0, 86, 28, 51, 133, 29]
abbrev dktX1_load_2 : List UInt8 := dkwX1_load_2 ++ dktX1_load_3
def dkwX1_load_1 : List UInt8 := [170, 0, 0, 0, 0, 0, 151, 0, 0, 0, 0, 0, 0, 0, 7, 0, 0, 0, 47, 0, 0, 0, 62, 0, 0, 0, 74, 0, 0, 0, 86, 0, 0, 0, 151, 0, 0, 0, 98, 0, 0, 0, 109, 0, 0, 0, 141]
abbrev dktX1_load_1 : List UInt8 := dkwX1_load_1 ++ dktX1_load_2
def dkwX1_load_0 : List UInt8 := [27]
abbrev dktX1_load_0 : List UInt8 := dkwX1_load_0 ++ dktX1_load_1
theorem dksX1_load_0 : cX1_load.data.toList.drop 0 = dktX1_load_0 := by decide +kernel
theorem dksX1_load_1 : cX1_load.data.toList.drop 1 = dktX1_load_1 := dk_seg dksX1_load_0 1 rfl rfl
theorem dksX1_load_2 : cX1_load.data.toList.drop 48 = dktX1_load_2 := dk_seg dksX1_load_1 47 rfl rfl
theorem dksX1_load_3 : cX1_load.data.toList.drop 71 = dktX1_load_3 := dk_seg dksX1_load_2 23 rfl rfl
theorem dksX1_load_4 : cX1_load.data.toList.drop 95 = dktX1_load_4 := dk_seg dksX1_load_3 24 rfl rfl
theorem dksX1_load_5 : cX1_load.data.toList.drop 119 = dktX1_load_5 := dk_seg dksX1_load_4 24 rfl rfl
theorem dksX1_load_6 : cX1_load.data.toList.drop 143 = dktX1_load_6 := dk_seg dksX1_load_5 24 rfl rfl
theorem dX1_load_0 : decode cX1_load 0 = .ok (.iload_n 1, 1) := dk_27 (dk_at dksX1_load_0 0 rfl rfl)
theorem dX1_load_1 : decode cX1_load 1 = .ok (.tableswitch 151 0 7 #[47, 62, 74, 86, 151, 98, 109, 141], 47) := by decide +kernel
theorem dX1_load_48 : decode cX1_load 48 = .ok (.aload_n 0, 1) := dk_42 (dk_at dksX1_load_2 0 rfl rfl)
theorem dX1_load_49 : decode cX1_load 49 = .ok (.checkcast 84, 3) := dk_192 0 84 (dk_at dksX1_load_2 1 rfl rfl)
theorem dX1_load_52 : decode cX1_load 52 = .ok (.iload_n 2, 1) := dk_28 (dk_at dksX1_load_2 4 rfl rfl)
theorem dX1_load_53 : decode cX1_load 53 = .ok (.baload, 1) := dk_51 (dk_at dksX1_load_2 5 rfl rfl)
theorem dX1_load_54 : decode cX1_load 54 = .ok (.ifCond .eq 7, 3) := dk_153 0 7 (dk_at dksX1_load_2 6 rfl rfl)
theorem dX1_load_57 : decode cX1_load 57 = .ok (.lconst 1, 1) := dk_10 (dk_at dksX1_load_2 9 rfl rfl)
theorem dX1_load_58 : decode cX1_load 58 = .ok (.goto 4, 3) := dk_167 0 4 (dk_at dksX1_load_2 10 rfl rfl)
theorem dX1_load_61 : decode cX1_load 61 = .ok (.lconst 0, 1) := dk_9 (dk_at dksX1_load_2 13 rfl rfl)
theorem dX1_load_62 : decode cX1_load 62 = .ok (.lreturn, 1) := dk_173 (dk_at dksX1_load_2 14 rfl rfl)
theorem dX1_load_63 : decode cX1_load 63 = .ok (.aload_n 0, 1) := dk_42 (dk_at dksX1_load_2 15 rfl rfl)
theorem dX1_load_64 : decode cX1_load 64 = .ok (.checkcast 86, 3) := dk_192 0 86 (dk_at dksX1_load_2 16 rfl rfl)
theorem dX1_load_67 : decode cX1_load 67 = .ok (.iload_n 2, 1) := dk_28 (dk_at dksX1_load_2 19 rfl rfl)
theorem dX1_load_68 : decode cX1_load 68 = .ok (.baload, 1) := dk_51 (dk_at dksX1_load_2 20 rfl rfl)
theorem dX1_load_69 : decode cX1_load 69 = .ok (.i2l, 1) := dk_133 (dk_at dksX1_load_2 21 rfl rfl)
theorem dX1_load_70 : decode cX1_load 70 = .ok (.iload_n 3, 1) := dk_29 (dk_at dksX1_load_2 22 rfl rfl)
theorem dX1_load_71 : decode cX1_load 71 = .ok (.invokestatic 156, 3) := dk_184 0 156 (dk_at dksX1_load_3 0 rfl rfl)
theorem dX1_load_74 : decode cX1_load 74 = .ok (.lreturn, 1) := dk_173 (dk_at dksX1_load_3 3 rfl rfl)
theorem dX1_load_75 : decode cX1_load 75 = .ok (.aload_n 0, 1) := dk_42 (dk_at dksX1_load_3 4 rfl rfl)
theorem dX1_load_76 : decode cX1_load 76 = .ok (.checkcast 88, 3) := dk_192 0 88 (dk_at dksX1_load_3 5 rfl rfl)
theorem dX1_load_79 : decode cX1_load 79 = .ok (.iload_n 2, 1) := dk_28 (dk_at dksX1_load_3 8 rfl rfl)
theorem dX1_load_80 : decode cX1_load 80 = .ok (.caload, 1) := dk_52 (dk_at dksX1_load_3 9 rfl rfl)
theorem dX1_load_81 : decode cX1_load 81 = .ok (.i2l, 1) := dk_133 (dk_at dksX1_load_3 10 rfl rfl)
theorem dX1_load_82 : decode cX1_load 82 = .ok (.iload_n 3, 1) := dk_29 (dk_at dksX1_load_3 11 rfl rfl)
theorem dX1_load_83 : decode cX1_load 83 = .ok (.invokestatic 156, 3) := dk_184 0 156 (dk_at dksX1_load_3 12 rfl rfl)
theorem dX1_load_86 : decode cX1_load 86 = .ok (.lreturn, 1) := dk_173 (dk_at dksX1_load_3 15 rfl rfl)
theorem dX1_load_87 : decode cX1_load 87 = .ok (.aload_n 0, 1) := dk_42 (dk_at dksX1_load_3 16 rfl rfl)
theorem dX1_load_88 : decode cX1_load 88 = .ok (.checkcast 90, 3) := dk_192 0 90 (dk_at dksX1_load_3 17 rfl rfl)
theorem dX1_load_91 : decode cX1_load 91 = .ok (.iload_n 2, 1) := dk_28 (dk_at dksX1_load_3 20 rfl rfl)
theorem dX1_load_92 : decode cX1_load 92 = .ok (.saload, 1) := dk_53 (dk_at dksX1_load_3 21 rfl rfl)
theorem dX1_load_93 : decode cX1_load 93 = .ok (.i2l, 1) := dk_133 (dk_at dksX1_load_3 22 rfl rfl)
theorem dX1_load_94 : decode cX1_load 94 = .ok (.iload_n 3, 1) := dk_29 (dk_at dksX1_load_3 23 rfl rfl)
theorem dX1_load_95 : decode cX1_load 95 = .ok (.invokestatic 156, 3) := dk_184 0 156 (dk_at dksX1_load_4 0 rfl rfl)
theorem dX1_load_98 : decode cX1_load 98 = .ok (.lreturn, 1) := dk_173 (dk_at dksX1_load_4 3 rfl rfl)
theorem dX1_load_99 : decode cX1_load 99 = .ok (.aload_n 0, 1) := dk_42 (dk_at dksX1_load_4 4 rfl rfl)
theorem dX1_load_100 : decode cX1_load 100 = .ok (.checkcast 92, 3) := dk_192 0 92 (dk_at dksX1_load_4 5 rfl rfl)
theorem dX1_load_103 : decode cX1_load 103 = .ok (.iload_n 2, 1) := dk_28 (dk_at dksX1_load_4 8 rfl rfl)
theorem dX1_load_104 : decode cX1_load 104 = .ok (.laload, 1) := dk_47 (dk_at dksX1_load_4 9 rfl rfl)
theorem dX1_load_105 : decode cX1_load 105 = .ok (.iload_n 3, 1) := dk_29 (dk_at dksX1_load_4 10 rfl rfl)
theorem dX1_load_106 : decode cX1_load 106 = .ok (.invokestatic 156, 3) := dk_184 0 156 (dk_at dksX1_load_4 11 rfl rfl)
theorem dX1_load_109 : decode cX1_load 109 = .ok (.lreturn, 1) := dk_173 (dk_at dksX1_load_4 14 rfl rfl)
theorem dX1_load_110 : decode cX1_load 110 = .ok (.aload_n 0, 1) := dk_42 (dk_at dksX1_load_4 15 rfl rfl)
theorem dX1_load_111 : decode cX1_load 111 = .ok (.checkcast 94, 3) := dk_192 0 94 (dk_at dksX1_load_4 16 rfl rfl)
theorem dX1_load_114 : decode cX1_load 114 = .ok (.iload_n 2, 1) := dk_28 (dk_at dksX1_load_4 19 rfl rfl)
theorem dX1_load_115 : decode cX1_load 115 = .ok (.faload, 1) := dk_48 (dk_at dksX1_load_4 20 rfl rfl)
theorem dX1_load_116 : decode cX1_load 116 = .ok (.fstore 4, 2) := dk_56 4 (dk_at dksX1_load_4 21 rfl rfl)
theorem dX1_load_118 : decode cX1_load 118 = .ok (.iload_n 3, 1) := dk_29 (dk_at dksX1_load_4 23 rfl rfl)
theorem dX1_load_119 : decode cX1_load 119 = .ok (.bipush 6, 2) := dk_16 6 (dk_at dksX1_load_5 0 rfl rfl)
theorem dX1_load_121 : decode cX1_load 121 = .ok (.if_icmp .ne 12, 3) := dk_160 0 12 (dk_at dksX1_load_5 2 rfl rfl)
theorem dX1_load_124 : decode cX1_load 124 = .ok (.fload 4, 2) := dk_23 4 (dk_at dksX1_load_5 5 rfl rfl)
theorem dX1_load_126 : decode cX1_load 126 = .ok (.invokestatic 148, 3) := dk_184 0 148 (dk_at dksX1_load_5 7 rfl rfl)
theorem dX1_load_129 : decode cX1_load 129 = .ok (.i2l, 1) := dk_133 (dk_at dksX1_load_5 10 rfl rfl)
theorem dX1_load_130 : decode cX1_load 130 = .ok (.goto 11, 3) := dk_167 0 11 (dk_at dksX1_load_5 11 rfl rfl)
theorem dX1_load_133 : decode cX1_load 133 = .ok (.fload 4, 2) := dk_23 4 (dk_at dksX1_load_5 14 rfl rfl)
theorem dX1_load_135 : decode cX1_load 135 = .ok (.invokestatic 160, 3) := dk_184 0 160 (dk_at dksX1_load_5 16 rfl rfl)
theorem dX1_load_138 : decode cX1_load 138 = .ok (.invokestatic 152, 3) := dk_184 0 152 (dk_at dksX1_load_5 19 rfl rfl)
theorem dX1_load_141 : decode cX1_load 141 = .ok (.lreturn, 1) := dk_173 (dk_at dksX1_load_5 22 rfl rfl)
theorem dX1_load_142 : decode cX1_load 142 = .ok (.aload_n 0, 1) := dk_42 (dk_at dksX1_load_5 23 rfl rfl)
theorem dX1_load_143 : decode cX1_load 143 = .ok (.checkcast 96, 3) := dk_192 0 96 (dk_at dksX1_load_6 0 rfl rfl)
theorem dX1_load_146 : decode cX1_load 146 = .ok (.iload_n 2, 1) := dk_28 (dk_at dksX1_load_6 3 rfl rfl)
theorem dX1_load_147 : decode cX1_load 147 = .ok (.daload, 1) := dk_49 (dk_at dksX1_load_6 4 rfl rfl)
theorem dX1_load_148 : decode cX1_load 148 = .ok (.invokestatic 152, 3) := dk_184 0 152 (dk_at dksX1_load_6 5 rfl rfl)
theorem dX1_load_151 : decode cX1_load 151 = .ok (.lreturn, 1) := dk_173 (dk_at dksX1_load_6 8 rfl rfl)
theorem dX1_load_152 : decode cX1_load 152 = .ok (.aload_n 0, 1) := dk_42 (dk_at dksX1_load_6 9 rfl rfl)
theorem dX1_load_153 : decode cX1_load 153 = .ok (.checkcast 40, 3) := dk_192 0 40 (dk_at dksX1_load_6 10 rfl rfl)
theorem dX1_load_156 : decode cX1_load 156 = .ok (.iload_n 2, 1) := dk_28 (dk_at dksX1_load_6 13 rfl rfl)
theorem dX1_load_157 : decode cX1_load 157 = .ok (.iaload, 1) := dk_46 (dk_at dksX1_load_6 14 rfl rfl)
theorem dX1_load_158 : decode cX1_load 158 = .ok (.i2l, 1) := dk_133 (dk_at dksX1_load_6 15 rfl rfl)
theorem dX1_load_159 : decode cX1_load 159 = .ok (.iload_n 3, 1) := dk_29 (dk_at dksX1_load_6 16 rfl rfl)
theorem dX1_load_160 : decode cX1_load 160 = .ok (.invokestatic 156, 3) := dk_184 0 156 (dk_at dksX1_load_6 17 rfl rfl)
theorem dX1_load_163 : decode cX1_load 163 = .ok (.lreturn, 1) := dk_173 (dk_at dksX1_load_6 20 rfl rfl)
abbrev cX1_bitsOf : ByteArray := prog_1_method_27_code
def yX1_bitsOf : MethodName := ⟨RX1, "bitsOf", "(JI)J"⟩
def dkwX1_bitsOf_1 : List UInt8 := [184, 0, 152, 167, 0, 4, 30, 173]
abbrev dktX1_bitsOf_1 : List UInt8 := dkwX1_bitsOf_1 ++ []
def dkwX1_bitsOf_0 : List UInt8 := [28, 16, 6, 160, 0, 12, 30, 137, 184, 0, 148, 133, 167, 0, 18, 28, 16, 7, 160, 0, 11, 30, 138]
abbrev dktX1_bitsOf_0 : List UInt8 := dkwX1_bitsOf_0 ++ dktX1_bitsOf_1
theorem dksX1_bitsOf_0 : cX1_bitsOf.data.toList.drop 0 = dktX1_bitsOf_0 := by decide +kernel
theorem dksX1_bitsOf_1 : cX1_bitsOf.data.toList.drop 23 = dktX1_bitsOf_1 := dk_seg dksX1_bitsOf_0 23 rfl rfl
theorem dX1_bitsOf_0 : decode cX1_bitsOf 0 = .ok (.iload_n 2, 1) := dk_28 (dk_at dksX1_bitsOf_0 0 rfl rfl)
theorem dX1_bitsOf_1 : decode cX1_bitsOf 1 = .ok (.bipush 6, 2) := dk_16 6 (dk_at dksX1_bitsOf_0 1 rfl rfl)
theorem dX1_bitsOf_3 : decode cX1_bitsOf 3 = .ok (.if_icmp .ne 12, 3) := dk_160 0 12 (dk_at dksX1_bitsOf_0 3 rfl rfl)
theorem dX1_bitsOf_6 : decode cX1_bitsOf 6 = .ok (.lload_n 0, 1) := dk_30 (dk_at dksX1_bitsOf_0 6 rfl rfl)
theorem dX1_bitsOf_7 : decode cX1_bitsOf 7 = .ok (.l2f, 1) := dk_137 (dk_at dksX1_bitsOf_0 7 rfl rfl)
theorem dX1_bitsOf_8 : decode cX1_bitsOf 8 = .ok (.invokestatic 148, 3) := dk_184 0 148 (dk_at dksX1_bitsOf_0 8 rfl rfl)
theorem dX1_bitsOf_11 : decode cX1_bitsOf 11 = .ok (.i2l, 1) := dk_133 (dk_at dksX1_bitsOf_0 11 rfl rfl)
theorem dX1_bitsOf_12 : decode cX1_bitsOf 12 = .ok (.goto 18, 3) := dk_167 0 18 (dk_at dksX1_bitsOf_0 12 rfl rfl)
theorem dX1_bitsOf_15 : decode cX1_bitsOf 15 = .ok (.iload_n 2, 1) := dk_28 (dk_at dksX1_bitsOf_0 15 rfl rfl)
theorem dX1_bitsOf_16 : decode cX1_bitsOf 16 = .ok (.bipush 7, 2) := dk_16 7 (dk_at dksX1_bitsOf_0 16 rfl rfl)
theorem dX1_bitsOf_18 : decode cX1_bitsOf 18 = .ok (.if_icmp .ne 11, 3) := dk_160 0 11 (dk_at dksX1_bitsOf_0 18 rfl rfl)
theorem dX1_bitsOf_21 : decode cX1_bitsOf 21 = .ok (.lload_n 0, 1) := dk_30 (dk_at dksX1_bitsOf_0 21 rfl rfl)
theorem dX1_bitsOf_22 : decode cX1_bitsOf 22 = .ok (.l2d, 1) := dk_138 (dk_at dksX1_bitsOf_0 22 rfl rfl)
theorem dX1_bitsOf_23 : decode cX1_bitsOf 23 = .ok (.invokestatic 152, 3) := dk_184 0 152 (dk_at dksX1_bitsOf_1 0 rfl rfl)
theorem dX1_bitsOf_26 : decode cX1_bitsOf 26 = .ok (.goto 4, 3) := dk_167 0 4 (dk_at dksX1_bitsOf_1 3 rfl rfl)
theorem dX1_bitsOf_29 : decode cX1_bitsOf 29 = .ok (.lload_n 0, 1) := dk_30 (dk_at dksX1_bitsOf_1 6 rfl rfl)
theorem dX1_bitsOf_30 : decode cX1_bitsOf 30 = .ok (.lreturn, 1) := dk_173 (dk_at dksX1_bitsOf_1 7 rfl rfl)
abbrev cX1_wide : ByteArray := prog_1_method_31_code
def yX1_wide : MethodName := ⟨RX1, "wide", "(F)D"⟩
def dkwX1_wide_0 : List UInt8 := [34, 34, 149, 153, 0, 9, 20, 0, 131, 167, 0, 5, 34, 141, 175]
abbrev dktX1_wide_0 : List UInt8 := dkwX1_wide_0 ++ []
theorem dksX1_wide_0 : cX1_wide.data.toList.drop 0 = dktX1_wide_0 := by decide +kernel
theorem dX1_wide_0 : decode cX1_wide 0 = .ok (.fload_n 0, 1) := dk_34 (dk_at dksX1_wide_0 0 rfl rfl)
theorem dX1_wide_1 : decode cX1_wide 1 = .ok (.fload_n 0, 1) := dk_34 (dk_at dksX1_wide_0 1 rfl rfl)
theorem dX1_wide_2 : decode cX1_wide 2 = .ok (.fcmp .l, 1) := dk_149 (dk_at dksX1_wide_0 2 rfl rfl)
theorem dX1_wide_3 : decode cX1_wide 3 = .ok (.ifCond .eq 9, 3) := dk_153 0 9 (dk_at dksX1_wide_0 3 rfl rfl)
theorem dX1_wide_6 : decode cX1_wide 6 = .ok (.ldc2_w 131, 3) := dk_20 0 131 (dk_at dksX1_wide_0 6 rfl rfl)
theorem dX1_wide_9 : decode cX1_wide 9 = .ok (.goto 5, 3) := dk_167 0 5 (dk_at dksX1_wide_0 9 rfl rfl)
theorem dX1_wide_12 : decode cX1_wide 12 = .ok (.fload_n 0, 1) := dk_34 (dk_at dksX1_wide_0 12 rfl rfl)
theorem dX1_wide_13 : decode cX1_wide 13 = .ok (.f2d, 1) := dk_141 (dk_at dksX1_wide_0 13 rfl rfl)
theorem dX1_wide_14 : decode cX1_wide 14 = .ok (.dreturn, 1) := dk_175 (dk_at dksX1_wide_0 14 rfl rfl)
abbrev cX1_put : ByteArray := prog_1_method_35_code
def yX1_put : MethodName := ⟨RX1, "put", "(IIIJ)I"⟩
def dkwX1_put_3 : List UInt8 := [42, 5, 182, 0, 49, 172]
abbrev dktX1_put_3 : List UInt8 := dkwX1_put_3 ++ []
def dkwX1_put_2 : List UInt8 := [172, 25, 6, 21, 7, 28, 29, 22, 4, 184, 0, 196, 4, 172, 58, 8, 42, 6, 182, 0, 49, 172, 58, 8]
abbrev dktX1_put_2 : List UInt8 := dkwX1_put_2 ++ dktX1_put_3
def dkwX1_put_1 : List UInt8 := [153, 0, 19, 29, 184, 0, 164, 153, 0, 12, 29, 21, 7, 184, 0, 168, 154, 0, 9, 42, 4, 182, 0, 49]
abbrev dktX1_put_1 : List UInt8 := dkwX1_put_1 ++ dktX1_put_2
def dkwX1_put_0 : List UInt8 := [42, 27, 182, 0, 45, 58, 6, 25, 6, 184, 0, 98, 54, 7, 25, 6, 198, 0, 33, 21, 7, 184, 0, 164]
abbrev dktX1_put_0 : List UInt8 := dkwX1_put_0 ++ dktX1_put_1
theorem dksX1_put_0 : cX1_put.data.toList.drop 0 = dktX1_put_0 := by decide +kernel
theorem dksX1_put_1 : cX1_put.data.toList.drop 24 = dktX1_put_1 := dk_seg dksX1_put_0 24 rfl rfl
theorem dksX1_put_2 : cX1_put.data.toList.drop 48 = dktX1_put_2 := dk_seg dksX1_put_1 24 rfl rfl
theorem dksX1_put_3 : cX1_put.data.toList.drop 72 = dktX1_put_3 := dk_seg dksX1_put_2 24 rfl rfl
theorem dX1_put_0 : decode cX1_put 0 = .ok (.aload_n 0, 1) := dk_42 (dk_at dksX1_put_0 0 rfl rfl)
theorem dX1_put_1 : decode cX1_put 1 = .ok (.iload_n 1, 1) := dk_27 (dk_at dksX1_put_0 1 rfl rfl)
theorem dX1_put_2 : decode cX1_put 2 = .ok (.invokevirtual 45, 3) := dk_182 0 45 (dk_at dksX1_put_0 2 rfl rfl)
theorem dX1_put_5 : decode cX1_put 5 = .ok (.astore 6, 2) := dk_58 6 (dk_at dksX1_put_0 5 rfl rfl)
theorem dX1_put_7 : decode cX1_put 7 = .ok (.aload 6, 2) := dk_25 6 (dk_at dksX1_put_0 7 rfl rfl)
theorem dX1_put_9 : decode cX1_put 9 = .ok (.invokestatic 98, 3) := dk_184 0 98 (dk_at dksX1_put_0 9 rfl rfl)
theorem dX1_put_12 : decode cX1_put 12 = .ok (.istore 7, 2) := dk_54 7 (dk_at dksX1_put_0 12 rfl rfl)
theorem dX1_put_14 : decode cX1_put 14 = .ok (.aload 6, 2) := dk_25 6 (dk_at dksX1_put_0 14 rfl rfl)
theorem dX1_put_16 : decode cX1_put 16 = .ok (.ifnull 33, 3) := dk_198 0 33 (dk_at dksX1_put_0 16 rfl rfl)
theorem dX1_put_19 : decode cX1_put 19 = .ok (.iload 7, 2) := dk_21 7 (dk_at dksX1_put_0 19 rfl rfl)
theorem dX1_put_21 : decode cX1_put 21 = .ok (.invokestatic 164, 3) := dk_184 0 164 (dk_at dksX1_put_0 21 rfl rfl)
theorem dX1_put_24 : decode cX1_put 24 = .ok (.ifCond .eq 19, 3) := dk_153 0 19 (dk_at dksX1_put_1 0 rfl rfl)
theorem dX1_put_27 : decode cX1_put 27 = .ok (.iload_n 3, 1) := dk_29 (dk_at dksX1_put_1 3 rfl rfl)
theorem dX1_put_28 : decode cX1_put 28 = .ok (.invokestatic 164, 3) := dk_184 0 164 (dk_at dksX1_put_1 4 rfl rfl)
theorem dX1_put_31 : decode cX1_put 31 = .ok (.ifCond .eq 12, 3) := dk_153 0 12 (dk_at dksX1_put_1 7 rfl rfl)
theorem dX1_put_34 : decode cX1_put 34 = .ok (.iload_n 3, 1) := dk_29 (dk_at dksX1_put_1 10 rfl rfl)
theorem dX1_put_35 : decode cX1_put 35 = .ok (.iload 7, 2) := dk_21 7 (dk_at dksX1_put_1 11 rfl rfl)
theorem dX1_put_37 : decode cX1_put 37 = .ok (.invokestatic 168, 3) := dk_184 0 168 (dk_at dksX1_put_1 13 rfl rfl)
theorem dX1_put_40 : decode cX1_put 40 = .ok (.ifCond .ne 9, 3) := dk_154 0 9 (dk_at dksX1_put_1 16 rfl rfl)
theorem dX1_put_43 : decode cX1_put 43 = .ok (.aload_n 0, 1) := dk_42 (dk_at dksX1_put_1 19 rfl rfl)
theorem dX1_put_44 : decode cX1_put 44 = .ok (.iconst 1, 1) := dk_4 (dk_at dksX1_put_1 20 rfl rfl)
theorem dX1_put_45 : decode cX1_put 45 = .ok (.invokevirtual 49, 3) := dk_182 0 49 (dk_at dksX1_put_1 21 rfl rfl)
theorem dX1_put_48 : decode cX1_put 48 = .ok (.ireturn, 1) := dk_172 (dk_at dksX1_put_2 0 rfl rfl)
theorem dX1_put_49 : decode cX1_put 49 = .ok (.aload 6, 2) := dk_25 6 (dk_at dksX1_put_2 1 rfl rfl)
theorem dX1_put_51 : decode cX1_put 51 = .ok (.iload 7, 2) := dk_21 7 (dk_at dksX1_put_2 3 rfl rfl)
theorem dX1_put_53 : decode cX1_put 53 = .ok (.iload_n 2, 1) := dk_28 (dk_at dksX1_put_2 5 rfl rfl)
theorem dX1_put_54 : decode cX1_put 54 = .ok (.iload_n 3, 1) := dk_29 (dk_at dksX1_put_2 6 rfl rfl)
theorem dX1_put_55 : decode cX1_put 55 = .ok (.lload 4, 2) := dk_22 4 (dk_at dksX1_put_2 7 rfl rfl)
theorem dX1_put_57 : decode cX1_put 57 = .ok (.invokestatic 196, 3) := dk_184 0 196 (dk_at dksX1_put_2 9 rfl rfl)
theorem dX1_put_60 : decode cX1_put 60 = .ok (.iconst 1, 1) := dk_4 (dk_at dksX1_put_2 12 rfl rfl)
theorem dX1_put_61 : decode cX1_put 61 = .ok (.ireturn, 1) := dk_172 (dk_at dksX1_put_2 13 rfl rfl)
theorem dX1_put_62 : decode cX1_put 62 = .ok (.astore 8, 2) := dk_58 8 (dk_at dksX1_put_2 14 rfl rfl)
theorem dX1_put_64 : decode cX1_put 64 = .ok (.aload_n 0, 1) := dk_42 (dk_at dksX1_put_2 16 rfl rfl)
theorem dX1_put_65 : decode cX1_put 65 = .ok (.iconst 3, 1) := dk_6 (dk_at dksX1_put_2 17 rfl rfl)
theorem dX1_put_66 : decode cX1_put 66 = .ok (.invokevirtual 49, 3) := dk_182 0 49 (dk_at dksX1_put_2 18 rfl rfl)
theorem dX1_put_69 : decode cX1_put 69 = .ok (.ireturn, 1) := dk_172 (dk_at dksX1_put_2 21 rfl rfl)
theorem dX1_put_70 : decode cX1_put 70 = .ok (.astore 8, 2) := dk_58 8 (dk_at dksX1_put_2 22 rfl rfl)
theorem dX1_put_72 : decode cX1_put 72 = .ok (.aload_n 0, 1) := dk_42 (dk_at dksX1_put_3 0 rfl rfl)
theorem dX1_put_73 : decode cX1_put 73 = .ok (.iconst 2, 1) := dk_5 (dk_at dksX1_put_3 1 rfl rfl)
theorem dX1_put_74 : decode cX1_put 74 = .ok (.invokevirtual 49, 3) := dk_182 0 49 (dk_at dksX1_put_3 2 rfl rfl)
theorem dX1_put_77 : decode cX1_put 77 = .ok (.ireturn, 1) := dk_172 (dk_at dksX1_put_3 5 rfl rfl)
abbrev cX1_lay : ByteArray := prog_1_method_34_code
def yX1_lay : MethodName := ⟨RX1, "lay", "(Ljava/lang/Object;IIIJ)V"⟩
def dkwX1_lay_7 : List UInt8 := [42, 192, 0, 40, 28, 29, 22, 4, 184, 0, 184, 136, 79, 177]
abbrev dktX1_lay_7 : List UInt8 := dkwX1_lay_7 ++ []
def dkwX1_lay_6 : List UInt8 := [22, 4, 184, 0, 188, 81, 167, 0, 31, 42, 192, 0, 96, 28, 29, 22, 4, 184, 0, 192, 82, 167, 0, 16]
abbrev dktX1_lay_6 : List UInt8 := dkwX1_lay_6 ++ dktX1_lay_7
def dkwX1_lay_5 : List UInt8 := [167, 0, 61, 42, 192, 0, 92, 28, 29, 22, 4, 184, 0, 184, 80, 167, 0, 46, 42, 192, 0, 94, 28, 29]
abbrev dktX1_lay_5 : List UInt8 := dkwX1_lay_5 ++ dktX1_lay_6
def dkwX1_lay_4 : List UInt8 := [184, 0, 184, 136, 146, 85, 167, 0, 78, 42, 192, 0, 90, 28, 29, 22, 4, 184, 0, 184, 136, 147, 86]
abbrev dktX1_lay_4 : List UInt8 := dkwX1_lay_4 ++ dktX1_lay_5
def dkwX1_lay_3 : List UInt8 := [192, 0, 86, 28, 29, 22, 4, 184, 0, 184, 136, 145, 84, 167, 0, 95, 42, 192, 0, 88, 28, 29, 22, 4]
abbrev dktX1_lay_3 : List UInt8 := dkwX1_lay_3 ++ dktX1_lay_4
def dkwX1_lay_2 : List UInt8 := [42, 192, 0, 84, 28, 22, 4, 10, 127, 10, 148, 154, 0, 7, 4, 167, 0, 4, 3, 84, 167, 0, 112, 42]
abbrev dktX1_lay_2 : List UInt8 := dkwX1_lay_2 ++ dktX1_lay_3
def dkwX1_lay_1 : List UInt8 := [170, 0, 0, 0, 0, 0, 166, 0, 0, 0, 0, 0, 0, 0, 7, 0, 0, 0, 47, 0, 0, 0, 70, 0, 0, 0, 87, 0, 0, 0, 104, 0, 0, 0, 166, 0, 0, 0, 121, 0, 0, 0, 136, 0, 0, 0, 151]
abbrev dktX1_lay_1 : List UInt8 := dkwX1_lay_1 ++ dktX1_lay_2
def dkwX1_lay_0 : List UInt8 := [27]
abbrev dktX1_lay_0 : List UInt8 := dkwX1_lay_0 ++ dktX1_lay_1
theorem dksX1_lay_0 : cX1_lay.data.toList.drop 0 = dktX1_lay_0 := by decide +kernel
theorem dksX1_lay_1 : cX1_lay.data.toList.drop 1 = dktX1_lay_1 := dk_seg dksX1_lay_0 1 rfl rfl
theorem dksX1_lay_2 : cX1_lay.data.toList.drop 48 = dktX1_lay_2 := dk_seg dksX1_lay_1 47 rfl rfl
theorem dksX1_lay_3 : cX1_lay.data.toList.drop 72 = dktX1_lay_3 := dk_seg dksX1_lay_2 24 rfl rfl
theorem dksX1_lay_4 : cX1_lay.data.toList.drop 96 = dktX1_lay_4 := dk_seg dksX1_lay_3 24 rfl rfl
theorem dksX1_lay_5 : cX1_lay.data.toList.drop 119 = dktX1_lay_5 := dk_seg dksX1_lay_4 23 rfl rfl
theorem dksX1_lay_6 : cX1_lay.data.toList.drop 143 = dktX1_lay_6 := dk_seg dksX1_lay_5 24 rfl rfl
theorem dksX1_lay_7 : cX1_lay.data.toList.drop 167 = dktX1_lay_7 := dk_seg dksX1_lay_6 24 rfl rfl
theorem dX1_lay_0 : decode cX1_lay 0 = .ok (.iload_n 1, 1) := dk_27 (dk_at dksX1_lay_0 0 rfl rfl)
theorem dX1_lay_1 : decode cX1_lay 1 = .ok (.tableswitch 166 0 7 #[47, 70, 87, 104, 166, 121, 136, 151], 47) := by decide +kernel
theorem dX1_lay_48 : decode cX1_lay 48 = .ok (.aload_n 0, 1) := dk_42 (dk_at dksX1_lay_2 0 rfl rfl)
theorem dX1_lay_49 : decode cX1_lay 49 = .ok (.checkcast 84, 3) := dk_192 0 84 (dk_at dksX1_lay_2 1 rfl rfl)
theorem dX1_lay_52 : decode cX1_lay 52 = .ok (.iload_n 2, 1) := dk_28 (dk_at dksX1_lay_2 4 rfl rfl)
theorem dX1_lay_53 : decode cX1_lay 53 = .ok (.lload 4, 2) := dk_22 4 (dk_at dksX1_lay_2 5 rfl rfl)
theorem dX1_lay_55 : decode cX1_lay 55 = .ok (.lconst 1, 1) := dk_10 (dk_at dksX1_lay_2 7 rfl rfl)
theorem dX1_lay_56 : decode cX1_lay 56 = .ok (.land, 1) := dk_127 (dk_at dksX1_lay_2 8 rfl rfl)
theorem dX1_lay_57 : decode cX1_lay 57 = .ok (.lconst 1, 1) := dk_10 (dk_at dksX1_lay_2 9 rfl rfl)
theorem dX1_lay_58 : decode cX1_lay 58 = .ok (.lcmp, 1) := dk_148 (dk_at dksX1_lay_2 10 rfl rfl)
theorem dX1_lay_59 : decode cX1_lay 59 = .ok (.ifCond .ne 7, 3) := dk_154 0 7 (dk_at dksX1_lay_2 11 rfl rfl)
theorem dX1_lay_62 : decode cX1_lay 62 = .ok (.iconst 1, 1) := dk_4 (dk_at dksX1_lay_2 14 rfl rfl)
theorem dX1_lay_63 : decode cX1_lay 63 = .ok (.goto 4, 3) := dk_167 0 4 (dk_at dksX1_lay_2 15 rfl rfl)
theorem dX1_lay_66 : decode cX1_lay 66 = .ok (.iconst 0, 1) := dk_3 (dk_at dksX1_lay_2 18 rfl rfl)
theorem dX1_lay_67 : decode cX1_lay 67 = .ok (.bastore, 1) := dk_84 (dk_at dksX1_lay_2 19 rfl rfl)
theorem dX1_lay_68 : decode cX1_lay 68 = .ok (.goto 112, 3) := dk_167 0 112 (dk_at dksX1_lay_2 20 rfl rfl)
theorem dX1_lay_71 : decode cX1_lay 71 = .ok (.aload_n 0, 1) := dk_42 (dk_at dksX1_lay_2 23 rfl rfl)
theorem dX1_lay_72 : decode cX1_lay 72 = .ok (.checkcast 86, 3) := dk_192 0 86 (dk_at dksX1_lay_3 0 rfl rfl)
theorem dX1_lay_75 : decode cX1_lay 75 = .ok (.iload_n 2, 1) := dk_28 (dk_at dksX1_lay_3 3 rfl rfl)
theorem dX1_lay_76 : decode cX1_lay 76 = .ok (.iload_n 3, 1) := dk_29 (dk_at dksX1_lay_3 4 rfl rfl)
theorem dX1_lay_77 : decode cX1_lay 77 = .ok (.lload 4, 2) := dk_22 4 (dk_at dksX1_lay_3 5 rfl rfl)
theorem dX1_lay_79 : decode cX1_lay 79 = .ok (.invokestatic 184, 3) := dk_184 0 184 (dk_at dksX1_lay_3 7 rfl rfl)
theorem dX1_lay_82 : decode cX1_lay 82 = .ok (.l2i, 1) := dk_136 (dk_at dksX1_lay_3 10 rfl rfl)
theorem dX1_lay_83 : decode cX1_lay 83 = .ok (.i2b, 1) := dk_145 (dk_at dksX1_lay_3 11 rfl rfl)
theorem dX1_lay_84 : decode cX1_lay 84 = .ok (.bastore, 1) := dk_84 (dk_at dksX1_lay_3 12 rfl rfl)
theorem dX1_lay_85 : decode cX1_lay 85 = .ok (.goto 95, 3) := dk_167 0 95 (dk_at dksX1_lay_3 13 rfl rfl)
theorem dX1_lay_88 : decode cX1_lay 88 = .ok (.aload_n 0, 1) := dk_42 (dk_at dksX1_lay_3 16 rfl rfl)
theorem dX1_lay_89 : decode cX1_lay 89 = .ok (.checkcast 88, 3) := dk_192 0 88 (dk_at dksX1_lay_3 17 rfl rfl)
theorem dX1_lay_92 : decode cX1_lay 92 = .ok (.iload_n 2, 1) := dk_28 (dk_at dksX1_lay_3 20 rfl rfl)
theorem dX1_lay_93 : decode cX1_lay 93 = .ok (.iload_n 3, 1) := dk_29 (dk_at dksX1_lay_3 21 rfl rfl)
theorem dX1_lay_94 : decode cX1_lay 94 = .ok (.lload 4, 2) := dk_22 4 (dk_at dksX1_lay_3 22 rfl rfl)
theorem dX1_lay_96 : decode cX1_lay 96 = .ok (.invokestatic 184, 3) := dk_184 0 184 (dk_at dksX1_lay_4 0 rfl rfl)
theorem dX1_lay_99 : decode cX1_lay 99 = .ok (.l2i, 1) := dk_136 (dk_at dksX1_lay_4 3 rfl rfl)
theorem dX1_lay_100 : decode cX1_lay 100 = .ok (.i2c, 1) := dk_146 (dk_at dksX1_lay_4 4 rfl rfl)
theorem dX1_lay_101 : decode cX1_lay 101 = .ok (.castore, 1) := dk_85 (dk_at dksX1_lay_4 5 rfl rfl)
theorem dX1_lay_102 : decode cX1_lay 102 = .ok (.goto 78, 3) := dk_167 0 78 (dk_at dksX1_lay_4 6 rfl rfl)
theorem dX1_lay_105 : decode cX1_lay 105 = .ok (.aload_n 0, 1) := dk_42 (dk_at dksX1_lay_4 9 rfl rfl)
theorem dX1_lay_106 : decode cX1_lay 106 = .ok (.checkcast 90, 3) := dk_192 0 90 (dk_at dksX1_lay_4 10 rfl rfl)
theorem dX1_lay_109 : decode cX1_lay 109 = .ok (.iload_n 2, 1) := dk_28 (dk_at dksX1_lay_4 13 rfl rfl)
theorem dX1_lay_110 : decode cX1_lay 110 = .ok (.iload_n 3, 1) := dk_29 (dk_at dksX1_lay_4 14 rfl rfl)
theorem dX1_lay_111 : decode cX1_lay 111 = .ok (.lload 4, 2) := dk_22 4 (dk_at dksX1_lay_4 15 rfl rfl)
theorem dX1_lay_113 : decode cX1_lay 113 = .ok (.invokestatic 184, 3) := dk_184 0 184 (dk_at dksX1_lay_4 17 rfl rfl)
theorem dX1_lay_116 : decode cX1_lay 116 = .ok (.l2i, 1) := dk_136 (dk_at dksX1_lay_4 20 rfl rfl)
theorem dX1_lay_117 : decode cX1_lay 117 = .ok (.i2s, 1) := dk_147 (dk_at dksX1_lay_4 21 rfl rfl)
theorem dX1_lay_118 : decode cX1_lay 118 = .ok (.sastore, 1) := dk_86 (dk_at dksX1_lay_4 22 rfl rfl)
theorem dX1_lay_119 : decode cX1_lay 119 = .ok (.goto 61, 3) := dk_167 0 61 (dk_at dksX1_lay_5 0 rfl rfl)
theorem dX1_lay_122 : decode cX1_lay 122 = .ok (.aload_n 0, 1) := dk_42 (dk_at dksX1_lay_5 3 rfl rfl)
theorem dX1_lay_123 : decode cX1_lay 123 = .ok (.checkcast 92, 3) := dk_192 0 92 (dk_at dksX1_lay_5 4 rfl rfl)
theorem dX1_lay_126 : decode cX1_lay 126 = .ok (.iload_n 2, 1) := dk_28 (dk_at dksX1_lay_5 7 rfl rfl)
theorem dX1_lay_127 : decode cX1_lay 127 = .ok (.iload_n 3, 1) := dk_29 (dk_at dksX1_lay_5 8 rfl rfl)
theorem dX1_lay_128 : decode cX1_lay 128 = .ok (.lload 4, 2) := dk_22 4 (dk_at dksX1_lay_5 9 rfl rfl)
theorem dX1_lay_130 : decode cX1_lay 130 = .ok (.invokestatic 184, 3) := dk_184 0 184 (dk_at dksX1_lay_5 11 rfl rfl)
theorem dX1_lay_133 : decode cX1_lay 133 = .ok (.lastore, 1) := dk_80 (dk_at dksX1_lay_5 14 rfl rfl)
theorem dX1_lay_134 : decode cX1_lay 134 = .ok (.goto 46, 3) := dk_167 0 46 (dk_at dksX1_lay_5 15 rfl rfl)
theorem dX1_lay_137 : decode cX1_lay 137 = .ok (.aload_n 0, 1) := dk_42 (dk_at dksX1_lay_5 18 rfl rfl)
theorem dX1_lay_138 : decode cX1_lay 138 = .ok (.checkcast 94, 3) := dk_192 0 94 (dk_at dksX1_lay_5 19 rfl rfl)
theorem dX1_lay_141 : decode cX1_lay 141 = .ok (.iload_n 2, 1) := dk_28 (dk_at dksX1_lay_5 22 rfl rfl)
theorem dX1_lay_142 : decode cX1_lay 142 = .ok (.iload_n 3, 1) := dk_29 (dk_at dksX1_lay_5 23 rfl rfl)
theorem dX1_lay_143 : decode cX1_lay 143 = .ok (.lload 4, 2) := dk_22 4 (dk_at dksX1_lay_6 0 rfl rfl)
theorem dX1_lay_145 : decode cX1_lay 145 = .ok (.invokestatic 188, 3) := dk_184 0 188 (dk_at dksX1_lay_6 2 rfl rfl)
theorem dX1_lay_148 : decode cX1_lay 148 = .ok (.fastore, 1) := dk_81 (dk_at dksX1_lay_6 5 rfl rfl)
theorem dX1_lay_149 : decode cX1_lay 149 = .ok (.goto 31, 3) := dk_167 0 31 (dk_at dksX1_lay_6 6 rfl rfl)
theorem dX1_lay_152 : decode cX1_lay 152 = .ok (.aload_n 0, 1) := dk_42 (dk_at dksX1_lay_6 9 rfl rfl)
theorem dX1_lay_153 : decode cX1_lay 153 = .ok (.checkcast 96, 3) := dk_192 0 96 (dk_at dksX1_lay_6 10 rfl rfl)
theorem dX1_lay_156 : decode cX1_lay 156 = .ok (.iload_n 2, 1) := dk_28 (dk_at dksX1_lay_6 13 rfl rfl)
theorem dX1_lay_157 : decode cX1_lay 157 = .ok (.iload_n 3, 1) := dk_29 (dk_at dksX1_lay_6 14 rfl rfl)
theorem dX1_lay_158 : decode cX1_lay 158 = .ok (.lload 4, 2) := dk_22 4 (dk_at dksX1_lay_6 15 rfl rfl)
theorem dX1_lay_160 : decode cX1_lay 160 = .ok (.invokestatic 192, 3) := dk_184 0 192 (dk_at dksX1_lay_6 17 rfl rfl)
theorem dX1_lay_163 : decode cX1_lay 163 = .ok (.dastore, 1) := dk_82 (dk_at dksX1_lay_6 20 rfl rfl)
theorem dX1_lay_164 : decode cX1_lay 164 = .ok (.goto 16, 3) := dk_167 0 16 (dk_at dksX1_lay_6 21 rfl rfl)
theorem dX1_lay_167 : decode cX1_lay 167 = .ok (.aload_n 0, 1) := dk_42 (dk_at dksX1_lay_7 0 rfl rfl)
theorem dX1_lay_168 : decode cX1_lay 168 = .ok (.checkcast 40, 3) := dk_192 0 40 (dk_at dksX1_lay_7 1 rfl rfl)
theorem dX1_lay_171 : decode cX1_lay 171 = .ok (.iload_n 2, 1) := dk_28 (dk_at dksX1_lay_7 4 rfl rfl)
theorem dX1_lay_172 : decode cX1_lay 172 = .ok (.iload_n 3, 1) := dk_29 (dk_at dksX1_lay_7 5 rfl rfl)
theorem dX1_lay_173 : decode cX1_lay 173 = .ok (.lload 4, 2) := dk_22 4 (dk_at dksX1_lay_7 6 rfl rfl)
theorem dX1_lay_175 : decode cX1_lay 175 = .ok (.invokestatic 184, 3) := dk_184 0 184 (dk_at dksX1_lay_7 8 rfl rfl)
theorem dX1_lay_178 : decode cX1_lay 178 = .ok (.l2i, 1) := dk_136 (dk_at dksX1_lay_7 11 rfl rfl)
theorem dX1_lay_179 : decode cX1_lay 179 = .ok (.iastore, 1) := dk_79 (dk_at dksX1_lay_7 12 rfl rfl)
theorem dX1_lay_180 : decode cX1_lay 180 = .ok (.return_, 1) := dk_177 (dk_at dksX1_lay_7 13 rfl rfl)
abbrev cX1_wholeOf : ByteArray := prog_1_method_30_code
def yX1_wholeOf : MethodName := ⟨RX1, "wholeOf", "(IJ)J"⟩
def dkwX1_wholeOf_3 : List UInt8 := [173]
abbrev dktX1_wholeOf_3 : List UInt8 := dkwX1_wholeOf_3 ++ []
def dkwX1_wholeOf_2 : List UInt8 := [31, 10, 127, 173, 31, 136, 145, 133, 173, 31, 136, 146, 133, 173, 31, 136, 147, 133, 173, 31, 136, 133, 173, 31]
abbrev dktX1_wholeOf_2 : List UInt8 := dkwX1_wholeOf_2 ++ dktX1_wholeOf_3
def dkwX1_wholeOf_1 : List UInt8 := [170, 0, 0, 0, 0, 0, 58, 0, 0, 0, 0, 0, 0, 0, 4, 0, 0, 0, 35, 0, 0, 0, 39, 0, 0, 0, 44, 0, 0, 0, 49, 0, 0, 0, 54]
abbrev dktX1_wholeOf_1 : List UInt8 := dkwX1_wholeOf_1 ++ dktX1_wholeOf_2
def dkwX1_wholeOf_0 : List UInt8 := [26]
abbrev dktX1_wholeOf_0 : List UInt8 := dkwX1_wholeOf_0 ++ dktX1_wholeOf_1
theorem dksX1_wholeOf_0 : cX1_wholeOf.data.toList.drop 0 = dktX1_wholeOf_0 := by decide +kernel
theorem dksX1_wholeOf_1 : cX1_wholeOf.data.toList.drop 1 = dktX1_wholeOf_1 := dk_seg dksX1_wholeOf_0 1 rfl rfl
theorem dksX1_wholeOf_2 : cX1_wholeOf.data.toList.drop 36 = dktX1_wholeOf_2 := dk_seg dksX1_wholeOf_1 35 rfl rfl
theorem dksX1_wholeOf_3 : cX1_wholeOf.data.toList.drop 60 = dktX1_wholeOf_3 := dk_seg dksX1_wholeOf_2 24 rfl rfl
theorem dX1_wholeOf_0 : decode cX1_wholeOf 0 = .ok (.iload_n 0, 1) := dk_26 (dk_at dksX1_wholeOf_0 0 rfl rfl)
theorem dX1_wholeOf_1 : decode cX1_wholeOf 1 = .ok (.tableswitch 58 0 4 #[35, 39, 44, 49, 54], 35) := by decide +kernel
theorem dX1_wholeOf_36 : decode cX1_wholeOf 36 = .ok (.lload_n 1, 1) := dk_31 (dk_at dksX1_wholeOf_2 0 rfl rfl)
theorem dX1_wholeOf_37 : decode cX1_wholeOf 37 = .ok (.lconst 1, 1) := dk_10 (dk_at dksX1_wholeOf_2 1 rfl rfl)
theorem dX1_wholeOf_38 : decode cX1_wholeOf 38 = .ok (.land, 1) := dk_127 (dk_at dksX1_wholeOf_2 2 rfl rfl)
theorem dX1_wholeOf_39 : decode cX1_wholeOf 39 = .ok (.lreturn, 1) := dk_173 (dk_at dksX1_wholeOf_2 3 rfl rfl)
theorem dX1_wholeOf_40 : decode cX1_wholeOf 40 = .ok (.lload_n 1, 1) := dk_31 (dk_at dksX1_wholeOf_2 4 rfl rfl)
theorem dX1_wholeOf_41 : decode cX1_wholeOf 41 = .ok (.l2i, 1) := dk_136 (dk_at dksX1_wholeOf_2 5 rfl rfl)
theorem dX1_wholeOf_42 : decode cX1_wholeOf 42 = .ok (.i2b, 1) := dk_145 (dk_at dksX1_wholeOf_2 6 rfl rfl)
theorem dX1_wholeOf_43 : decode cX1_wholeOf 43 = .ok (.i2l, 1) := dk_133 (dk_at dksX1_wholeOf_2 7 rfl rfl)
theorem dX1_wholeOf_44 : decode cX1_wholeOf 44 = .ok (.lreturn, 1) := dk_173 (dk_at dksX1_wholeOf_2 8 rfl rfl)
theorem dX1_wholeOf_45 : decode cX1_wholeOf 45 = .ok (.lload_n 1, 1) := dk_31 (dk_at dksX1_wholeOf_2 9 rfl rfl)
theorem dX1_wholeOf_46 : decode cX1_wholeOf 46 = .ok (.l2i, 1) := dk_136 (dk_at dksX1_wholeOf_2 10 rfl rfl)
theorem dX1_wholeOf_47 : decode cX1_wholeOf 47 = .ok (.i2c, 1) := dk_146 (dk_at dksX1_wholeOf_2 11 rfl rfl)
theorem dX1_wholeOf_48 : decode cX1_wholeOf 48 = .ok (.i2l, 1) := dk_133 (dk_at dksX1_wholeOf_2 12 rfl rfl)
theorem dX1_wholeOf_49 : decode cX1_wholeOf 49 = .ok (.lreturn, 1) := dk_173 (dk_at dksX1_wholeOf_2 13 rfl rfl)
theorem dX1_wholeOf_50 : decode cX1_wholeOf 50 = .ok (.lload_n 1, 1) := dk_31 (dk_at dksX1_wholeOf_2 14 rfl rfl)
theorem dX1_wholeOf_51 : decode cX1_wholeOf 51 = .ok (.l2i, 1) := dk_136 (dk_at dksX1_wholeOf_2 15 rfl rfl)
theorem dX1_wholeOf_52 : decode cX1_wholeOf 52 = .ok (.i2s, 1) := dk_147 (dk_at dksX1_wholeOf_2 16 rfl rfl)
theorem dX1_wholeOf_53 : decode cX1_wholeOf 53 = .ok (.i2l, 1) := dk_133 (dk_at dksX1_wholeOf_2 17 rfl rfl)
theorem dX1_wholeOf_54 : decode cX1_wholeOf 54 = .ok (.lreturn, 1) := dk_173 (dk_at dksX1_wholeOf_2 18 rfl rfl)
theorem dX1_wholeOf_55 : decode cX1_wholeOf 55 = .ok (.lload_n 1, 1) := dk_31 (dk_at dksX1_wholeOf_2 19 rfl rfl)
theorem dX1_wholeOf_56 : decode cX1_wholeOf 56 = .ok (.l2i, 1) := dk_136 (dk_at dksX1_wholeOf_2 20 rfl rfl)
theorem dX1_wholeOf_57 : decode cX1_wholeOf 57 = .ok (.i2l, 1) := dk_133 (dk_at dksX1_wholeOf_2 21 rfl rfl)
theorem dX1_wholeOf_58 : decode cX1_wholeOf 58 = .ok (.lreturn, 1) := dk_173 (dk_at dksX1_wholeOf_2 22 rfl rfl)
theorem dX1_wholeOf_59 : decode cX1_wholeOf 59 = .ok (.lload_n 1, 1) := dk_31 (dk_at dksX1_wholeOf_2 23 rfl rfl)
theorem dX1_wholeOf_60 : decode cX1_wholeOf 60 = .ok (.lreturn, 1) := dk_173 (dk_at dksX1_wholeOf_3 0 rfl rfl)
abbrev cX1_floatOf : ByteArray := prog_1_method_33_code
def yX1_floatOf : MethodName := ⟨RX1, "floatOf", "(IJ)F"⟩
def dkwX1_floatOf_0 : List UInt8 := [26, 16, 6, 160, 0, 11, 31, 136, 184, 0, 181, 167, 0, 9, 26, 31, 184, 0, 184, 137, 174]
abbrev dktX1_floatOf_0 : List UInt8 := dkwX1_floatOf_0 ++ []
theorem dksX1_floatOf_0 : cX1_floatOf.data.toList.drop 0 = dktX1_floatOf_0 := by decide +kernel
theorem dX1_floatOf_0 : decode cX1_floatOf 0 = .ok (.iload_n 0, 1) := dk_26 (dk_at dksX1_floatOf_0 0 rfl rfl)
theorem dX1_floatOf_1 : decode cX1_floatOf 1 = .ok (.bipush 6, 2) := dk_16 6 (dk_at dksX1_floatOf_0 1 rfl rfl)
theorem dX1_floatOf_3 : decode cX1_floatOf 3 = .ok (.if_icmp .ne 11, 3) := dk_160 0 11 (dk_at dksX1_floatOf_0 3 rfl rfl)
theorem dX1_floatOf_6 : decode cX1_floatOf 6 = .ok (.lload_n 1, 1) := dk_31 (dk_at dksX1_floatOf_0 6 rfl rfl)
theorem dX1_floatOf_7 : decode cX1_floatOf 7 = .ok (.l2i, 1) := dk_136 (dk_at dksX1_floatOf_0 7 rfl rfl)
theorem dX1_floatOf_8 : decode cX1_floatOf 8 = .ok (.invokestatic 181, 3) := dk_184 0 181 (dk_at dksX1_floatOf_0 8 rfl rfl)
theorem dX1_floatOf_11 : decode cX1_floatOf 11 = .ok (.goto 9, 3) := dk_167 0 9 (dk_at dksX1_floatOf_0 11 rfl rfl)
theorem dX1_floatOf_14 : decode cX1_floatOf 14 = .ok (.iload_n 0, 1) := dk_26 (dk_at dksX1_floatOf_0 14 rfl rfl)
theorem dX1_floatOf_15 : decode cX1_floatOf 15 = .ok (.lload_n 1, 1) := dk_31 (dk_at dksX1_floatOf_0 15 rfl rfl)
theorem dX1_floatOf_16 : decode cX1_floatOf 16 = .ok (.invokestatic 184, 3) := dk_184 0 184 (dk_at dksX1_floatOf_0 16 rfl rfl)
theorem dX1_floatOf_19 : decode cX1_floatOf 19 = .ok (.l2f, 1) := dk_137 (dk_at dksX1_floatOf_0 19 rfl rfl)
theorem dX1_floatOf_20 : decode cX1_floatOf 20 = .ok (.freturn, 1) := dk_174 (dk_at dksX1_floatOf_0 20 rfl rfl)
abbrev cX1_floatBy : ByteArray := prog_1_method_26_code
def yX1_floatBy : MethodName := ⟨RX1, "floatBy", "(I)F"⟩
def dkwX1_floatBy_0 : List UInt8 := [26, 18, 139, 126, 18, 140, 164, 0, 8, 18, 143, 167, 0, 7, 26, 184, 0, 144, 174]
abbrev dktX1_floatBy_0 : List UInt8 := dkwX1_floatBy_0 ++ []
theorem dksX1_floatBy_0 : cX1_floatBy.data.toList.drop 0 = dktX1_floatBy_0 := by decide +kernel
theorem dX1_floatBy_0 : decode cX1_floatBy 0 = .ok (.iload_n 0, 1) := dk_26 (dk_at dksX1_floatBy_0 0 rfl rfl)
theorem dX1_floatBy_1 : decode cX1_floatBy 1 = .ok (.ldc 139, 2) := dk_18 139 (dk_at dksX1_floatBy_0 1 rfl rfl)
theorem dX1_floatBy_3 : decode cX1_floatBy 3 = .ok (.iand, 1) := dk_126 (dk_at dksX1_floatBy_0 3 rfl rfl)
theorem dX1_floatBy_4 : decode cX1_floatBy 4 = .ok (.ldc 140, 2) := dk_18 140 (dk_at dksX1_floatBy_0 4 rfl rfl)
theorem dX1_floatBy_6 : decode cX1_floatBy 6 = .ok (.if_icmp .le 8, 3) := dk_164 0 8 (dk_at dksX1_floatBy_0 6 rfl rfl)
theorem dX1_floatBy_9 : decode cX1_floatBy 9 = .ok (.ldc 143, 2) := dk_18 143 (dk_at dksX1_floatBy_0 9 rfl rfl)
theorem dX1_floatBy_11 : decode cX1_floatBy 11 = .ok (.goto 7, 3) := dk_167 0 7 (dk_at dksX1_floatBy_0 11 rfl rfl)
theorem dX1_floatBy_14 : decode cX1_floatBy 14 = .ok (.iload_n 0, 1) := dk_26 (dk_at dksX1_floatBy_0 14 rfl rfl)
theorem dX1_floatBy_15 : decode cX1_floatBy 15 = .ok (.invokestatic 144, 3) := dk_184 0 144 (dk_at dksX1_floatBy_0 15 rfl rfl)
theorem dX1_floatBy_18 : decode cX1_floatBy 18 = .ok (.freturn, 1) := dk_174 (dk_at dksX1_floatBy_0 18 rfl rfl)
abbrev cX1_doubleOf : ByteArray := prog_1_method_32_code
def yX1_doubleOf : MethodName := ⟨RX1, "doubleOf", "(IJ)D"⟩
def dkwX1_doubleOf_1 : List UInt8 := [184, 0, 160, 167, 0, 9, 26, 31, 184, 0, 184, 138, 175]
abbrev dktX1_doubleOf_1 : List UInt8 := dkwX1_doubleOf_1 ++ []
def dkwX1_doubleOf_0 : List UInt8 := [26, 16, 7, 160, 0, 10, 31, 184, 0, 178, 167, 0, 26, 26, 16, 6, 160, 0, 14, 31, 136, 184, 0, 181]
abbrev dktX1_doubleOf_0 : List UInt8 := dkwX1_doubleOf_0 ++ dktX1_doubleOf_1
theorem dksX1_doubleOf_0 : cX1_doubleOf.data.toList.drop 0 = dktX1_doubleOf_0 := by decide +kernel
theorem dksX1_doubleOf_1 : cX1_doubleOf.data.toList.drop 24 = dktX1_doubleOf_1 := dk_seg dksX1_doubleOf_0 24 rfl rfl
theorem dX1_doubleOf_0 : decode cX1_doubleOf 0 = .ok (.iload_n 0, 1) := dk_26 (dk_at dksX1_doubleOf_0 0 rfl rfl)
theorem dX1_doubleOf_1 : decode cX1_doubleOf 1 = .ok (.bipush 7, 2) := dk_16 7 (dk_at dksX1_doubleOf_0 1 rfl rfl)
theorem dX1_doubleOf_3 : decode cX1_doubleOf 3 = .ok (.if_icmp .ne 10, 3) := dk_160 0 10 (dk_at dksX1_doubleOf_0 3 rfl rfl)
theorem dX1_doubleOf_6 : decode cX1_doubleOf 6 = .ok (.lload_n 1, 1) := dk_31 (dk_at dksX1_doubleOf_0 6 rfl rfl)
theorem dX1_doubleOf_7 : decode cX1_doubleOf 7 = .ok (.invokestatic 178, 3) := dk_184 0 178 (dk_at dksX1_doubleOf_0 7 rfl rfl)
theorem dX1_doubleOf_10 : decode cX1_doubleOf 10 = .ok (.goto 26, 3) := dk_167 0 26 (dk_at dksX1_doubleOf_0 10 rfl rfl)
theorem dX1_doubleOf_13 : decode cX1_doubleOf 13 = .ok (.iload_n 0, 1) := dk_26 (dk_at dksX1_doubleOf_0 13 rfl rfl)
theorem dX1_doubleOf_14 : decode cX1_doubleOf 14 = .ok (.bipush 6, 2) := dk_16 6 (dk_at dksX1_doubleOf_0 14 rfl rfl)
theorem dX1_doubleOf_16 : decode cX1_doubleOf 16 = .ok (.if_icmp .ne 14, 3) := dk_160 0 14 (dk_at dksX1_doubleOf_0 16 rfl rfl)
theorem dX1_doubleOf_19 : decode cX1_doubleOf 19 = .ok (.lload_n 1, 1) := dk_31 (dk_at dksX1_doubleOf_0 19 rfl rfl)
theorem dX1_doubleOf_20 : decode cX1_doubleOf 20 = .ok (.l2i, 1) := dk_136 (dk_at dksX1_doubleOf_0 20 rfl rfl)
theorem dX1_doubleOf_21 : decode cX1_doubleOf 21 = .ok (.invokestatic 181, 3) := dk_184 0 181 (dk_at dksX1_doubleOf_0 21 rfl rfl)
theorem dX1_doubleOf_24 : decode cX1_doubleOf 24 = .ok (.invokestatic 160, 3) := dk_184 0 160 (dk_at dksX1_doubleOf_1 0 rfl rfl)
theorem dX1_doubleOf_27 : decode cX1_doubleOf 27 = .ok (.goto 9, 3) := dk_167 0 9 (dk_at dksX1_doubleOf_1 3 rfl rfl)
theorem dX1_doubleOf_30 : decode cX1_doubleOf 30 = .ok (.iload_n 0, 1) := dk_26 (dk_at dksX1_doubleOf_1 6 rfl rfl)
theorem dX1_doubleOf_31 : decode cX1_doubleOf 31 = .ok (.lload_n 1, 1) := dk_31 (dk_at dksX1_doubleOf_1 7 rfl rfl)
theorem dX1_doubleOf_32 : decode cX1_doubleOf 32 = .ok (.invokestatic 184, 3) := dk_184 0 184 (dk_at dksX1_doubleOf_1 8 rfl rfl)
theorem dX1_doubleOf_35 : decode cX1_doubleOf 35 = .ok (.l2d, 1) := dk_138 (dk_at dksX1_doubleOf_1 11 rfl rfl)
theorem dX1_doubleOf_36 : decode cX1_doubleOf 36 = .ok (.dreturn, 1) := dk_175 (dk_at dksX1_doubleOf_1 12 rfl rfl)
abbrev cX1_doubleBy : ByteArray := prog_1_method_25_code
def yX1_doubleBy : MethodName := ⟨RX1, "doubleBy", "(J)D"⟩
def dkwX1_doubleBy_0 : List UInt8 := [30, 20, 0, 125, 127, 20, 0, 127, 148, 158, 0, 9, 20, 0, 131, 167, 0, 7, 30, 184, 0, 133, 175]
abbrev dktX1_doubleBy_0 : List UInt8 := dkwX1_doubleBy_0 ++ []
theorem dksX1_doubleBy_0 : cX1_doubleBy.data.toList.drop 0 = dktX1_doubleBy_0 := by decide +kernel
theorem dX1_doubleBy_0 : decode cX1_doubleBy 0 = .ok (.lload_n 0, 1) := dk_30 (dk_at dksX1_doubleBy_0 0 rfl rfl)
theorem dX1_doubleBy_1 : decode cX1_doubleBy 1 = .ok (.ldc2_w 125, 3) := dk_20 0 125 (dk_at dksX1_doubleBy_0 1 rfl rfl)
theorem dX1_doubleBy_4 : decode cX1_doubleBy 4 = .ok (.land, 1) := dk_127 (dk_at dksX1_doubleBy_0 4 rfl rfl)
theorem dX1_doubleBy_5 : decode cX1_doubleBy 5 = .ok (.ldc2_w 127, 3) := dk_20 0 127 (dk_at dksX1_doubleBy_0 5 rfl rfl)
theorem dX1_doubleBy_8 : decode cX1_doubleBy 8 = .ok (.lcmp, 1) := dk_148 (dk_at dksX1_doubleBy_0 8 rfl rfl)
theorem dX1_doubleBy_9 : decode cX1_doubleBy 9 = .ok (.ifCond .le 9, 3) := dk_158 0 9 (dk_at dksX1_doubleBy_0 9 rfl rfl)
theorem dX1_doubleBy_12 : decode cX1_doubleBy 12 = .ok (.ldc2_w 131, 3) := dk_20 0 131 (dk_at dksX1_doubleBy_0 12 rfl rfl)
theorem dX1_doubleBy_15 : decode cX1_doubleBy 15 = .ok (.goto 7, 3) := dk_167 0 7 (dk_at dksX1_doubleBy_0 15 rfl rfl)
theorem dX1_doubleBy_18 : decode cX1_doubleBy 18 = .ok (.lload_n 0, 1) := dk_30 (dk_at dksX1_doubleBy_0 18 rfl rfl)
theorem dX1_doubleBy_19 : decode cX1_doubleBy 19 = .ok (.invokestatic 133, 3) := dk_184 0 133 (dk_at dksX1_doubleBy_0 19 rfl rfl)
theorem dX1_doubleBy_22 : decode cX1_doubleBy 22 = .ok (.dreturn, 1) := dk_175 (dk_at dksX1_doubleBy_0 22 rfl rfl)
abbrev cX1_take : ByteArray := prog_1_method_36_code
def yX1_take : MethodName := ⟨RX1, "take", "(III)I"⟩
def dkwX1_take_4 : List UInt8 := [172]
abbrev dktX1_take_4 : List UInt8 := dkwX1_take_4 ++ []
def dkwX1_take_3 : List UInt8 := [182, 0, 57, 25, 6, 184, 0, 98, 172, 58, 6, 42, 6, 182, 0, 49, 172, 58, 6, 42, 5, 182, 0, 49]
abbrev dktX1_take_3 : List UInt8 := dkwX1_take_3 ++ dktX1_take_4
def dkwX1_take_2 : List UInt8 := [25, 4, 192, 0, 63, 28, 50, 167, 0, 10, 25, 4, 192, 0, 80, 28, 50, 58, 6, 42, 29, 25, 6]
abbrev dktX1_take_2 : List UInt8 := dkwX1_take_2 ++ dktX1_take_3
def dkwX1_take_1 : List UInt8 := [161, 0, 10, 21, 5, 16, 10, 164, 0, 9, 42, 4, 182, 0, 49, 172, 25, 4, 193, 0, 63, 153, 0, 13]
abbrev dktX1_take_1 : List UInt8 := dkwX1_take_1 ++ dktX1_take_2
def dkwX1_take_0 : List UInt8 := [42, 27, 182, 0, 45, 58, 4, 25, 4, 184, 0, 98, 54, 5, 25, 4, 198, 0, 23, 21, 5, 16, 8]
abbrev dktX1_take_0 : List UInt8 := dkwX1_take_0 ++ dktX1_take_1
theorem dksX1_take_0 : cX1_take.data.toList.drop 0 = dktX1_take_0 := by decide +kernel
theorem dksX1_take_1 : cX1_take.data.toList.drop 23 = dktX1_take_1 := dk_seg dksX1_take_0 23 rfl rfl
theorem dksX1_take_2 : cX1_take.data.toList.drop 47 = dktX1_take_2 := dk_seg dksX1_take_1 24 rfl rfl
theorem dksX1_take_3 : cX1_take.data.toList.drop 70 = dktX1_take_3 := dk_seg dksX1_take_2 23 rfl rfl
theorem dksX1_take_4 : cX1_take.data.toList.drop 94 = dktX1_take_4 := dk_seg dksX1_take_3 24 rfl rfl
theorem dX1_take_0 : decode cX1_take 0 = .ok (.aload_n 0, 1) := dk_42 (dk_at dksX1_take_0 0 rfl rfl)
theorem dX1_take_1 : decode cX1_take 1 = .ok (.iload_n 1, 1) := dk_27 (dk_at dksX1_take_0 1 rfl rfl)
theorem dX1_take_2 : decode cX1_take 2 = .ok (.invokevirtual 45, 3) := dk_182 0 45 (dk_at dksX1_take_0 2 rfl rfl)
theorem dX1_take_5 : decode cX1_take 5 = .ok (.astore 4, 2) := dk_58 4 (dk_at dksX1_take_0 5 rfl rfl)
theorem dX1_take_7 : decode cX1_take 7 = .ok (.aload 4, 2) := dk_25 4 (dk_at dksX1_take_0 7 rfl rfl)
theorem dX1_take_9 : decode cX1_take 9 = .ok (.invokestatic 98, 3) := dk_184 0 98 (dk_at dksX1_take_0 9 rfl rfl)
theorem dX1_take_12 : decode cX1_take 12 = .ok (.istore 5, 2) := dk_54 5 (dk_at dksX1_take_0 12 rfl rfl)
theorem dX1_take_14 : decode cX1_take 14 = .ok (.aload 4, 2) := dk_25 4 (dk_at dksX1_take_0 14 rfl rfl)
theorem dX1_take_16 : decode cX1_take 16 = .ok (.ifnull 23, 3) := dk_198 0 23 (dk_at dksX1_take_0 16 rfl rfl)
theorem dX1_take_19 : decode cX1_take 19 = .ok (.iload 5, 2) := dk_21 5 (dk_at dksX1_take_0 19 rfl rfl)
theorem dX1_take_21 : decode cX1_take 21 = .ok (.bipush 8, 2) := dk_16 8 (dk_at dksX1_take_0 21 rfl rfl)
theorem dX1_take_23 : decode cX1_take 23 = .ok (.if_icmp .lt 10, 3) := dk_161 0 10 (dk_at dksX1_take_1 0 rfl rfl)
theorem dX1_take_26 : decode cX1_take 26 = .ok (.iload 5, 2) := dk_21 5 (dk_at dksX1_take_1 3 rfl rfl)
theorem dX1_take_28 : decode cX1_take 28 = .ok (.bipush 10, 2) := dk_16 10 (dk_at dksX1_take_1 5 rfl rfl)
theorem dX1_take_30 : decode cX1_take 30 = .ok (.if_icmp .le 9, 3) := dk_164 0 9 (dk_at dksX1_take_1 7 rfl rfl)
theorem dX1_take_33 : decode cX1_take 33 = .ok (.aload_n 0, 1) := dk_42 (dk_at dksX1_take_1 10 rfl rfl)
theorem dX1_take_34 : decode cX1_take 34 = .ok (.iconst 1, 1) := dk_4 (dk_at dksX1_take_1 11 rfl rfl)
theorem dX1_take_35 : decode cX1_take 35 = .ok (.invokevirtual 49, 3) := dk_182 0 49 (dk_at dksX1_take_1 12 rfl rfl)
theorem dX1_take_38 : decode cX1_take 38 = .ok (.ireturn, 1) := dk_172 (dk_at dksX1_take_1 15 rfl rfl)
theorem dX1_take_39 : decode cX1_take 39 = .ok (.aload 4, 2) := dk_25 4 (dk_at dksX1_take_1 16 rfl rfl)
theorem dX1_take_41 : decode cX1_take 41 = .ok (.instanceof 63, 3) := dk_193 0 63 (dk_at dksX1_take_1 18 rfl rfl)
theorem dX1_take_44 : decode cX1_take 44 = .ok (.ifCond .eq 13, 3) := dk_153 0 13 (dk_at dksX1_take_1 21 rfl rfl)
theorem dX1_take_47 : decode cX1_take 47 = .ok (.aload 4, 2) := dk_25 4 (dk_at dksX1_take_2 0 rfl rfl)
theorem dX1_take_49 : decode cX1_take 49 = .ok (.checkcast 63, 3) := dk_192 0 63 (dk_at dksX1_take_2 2 rfl rfl)
theorem dX1_take_52 : decode cX1_take 52 = .ok (.iload_n 2, 1) := dk_28 (dk_at dksX1_take_2 5 rfl rfl)
theorem dX1_take_53 : decode cX1_take 53 = .ok (.aaload, 1) := dk_50 (dk_at dksX1_take_2 6 rfl rfl)
theorem dX1_take_54 : decode cX1_take 54 = .ok (.goto 10, 3) := dk_167 0 10 (dk_at dksX1_take_2 7 rfl rfl)
theorem dX1_take_57 : decode cX1_take 57 = .ok (.aload 4, 2) := dk_25 4 (dk_at dksX1_take_2 10 rfl rfl)
theorem dX1_take_59 : decode cX1_take 59 = .ok (.checkcast 80, 3) := dk_192 0 80 (dk_at dksX1_take_2 12 rfl rfl)
theorem dX1_take_62 : decode cX1_take 62 = .ok (.iload_n 2, 1) := dk_28 (dk_at dksX1_take_2 15 rfl rfl)
theorem dX1_take_63 : decode cX1_take 63 = .ok (.aaload, 1) := dk_50 (dk_at dksX1_take_2 16 rfl rfl)
theorem dX1_take_64 : decode cX1_take 64 = .ok (.astore 6, 2) := dk_58 6 (dk_at dksX1_take_2 17 rfl rfl)
theorem dX1_take_66 : decode cX1_take 66 = .ok (.aload_n 0, 1) := dk_42 (dk_at dksX1_take_2 19 rfl rfl)
theorem dX1_take_67 : decode cX1_take 67 = .ok (.iload_n 3, 1) := dk_29 (dk_at dksX1_take_2 20 rfl rfl)
theorem dX1_take_68 : decode cX1_take 68 = .ok (.aload 6, 2) := dk_25 6 (dk_at dksX1_take_2 21 rfl rfl)
theorem dX1_take_70 : decode cX1_take 70 = .ok (.invokevirtual 57, 3) := dk_182 0 57 (dk_at dksX1_take_3 0 rfl rfl)
theorem dX1_take_73 : decode cX1_take 73 = .ok (.aload 6, 2) := dk_25 6 (dk_at dksX1_take_3 3 rfl rfl)
theorem dX1_take_75 : decode cX1_take 75 = .ok (.invokestatic 98, 3) := dk_184 0 98 (dk_at dksX1_take_3 5 rfl rfl)
theorem dX1_take_78 : decode cX1_take 78 = .ok (.ireturn, 1) := dk_172 (dk_at dksX1_take_3 8 rfl rfl)
theorem dX1_take_79 : decode cX1_take 79 = .ok (.astore 6, 2) := dk_58 6 (dk_at dksX1_take_3 9 rfl rfl)
theorem dX1_take_81 : decode cX1_take 81 = .ok (.aload_n 0, 1) := dk_42 (dk_at dksX1_take_3 11 rfl rfl)
theorem dX1_take_82 : decode cX1_take 82 = .ok (.iconst 3, 1) := dk_6 (dk_at dksX1_take_3 12 rfl rfl)
theorem dX1_take_83 : decode cX1_take 83 = .ok (.invokevirtual 49, 3) := dk_182 0 49 (dk_at dksX1_take_3 13 rfl rfl)
theorem dX1_take_86 : decode cX1_take 86 = .ok (.ireturn, 1) := dk_172 (dk_at dksX1_take_3 16 rfl rfl)
theorem dX1_take_87 : decode cX1_take 87 = .ok (.astore 6, 2) := dk_58 6 (dk_at dksX1_take_3 17 rfl rfl)
theorem dX1_take_89 : decode cX1_take 89 = .ok (.aload_n 0, 1) := dk_42 (dk_at dksX1_take_3 19 rfl rfl)
theorem dX1_take_90 : decode cX1_take 90 = .ok (.iconst 2, 1) := dk_5 (dk_at dksX1_take_3 20 rfl rfl)
theorem dX1_take_91 : decode cX1_take 91 = .ok (.invokevirtual 49, 3) := dk_182 0 49 (dk_at dksX1_take_3 21 rfl rfl)
theorem dX1_take_94 : decode cX1_take 94 = .ok (.ireturn, 1) := dk_172 (dk_at dksX1_take_4 0 rfl rfl)
abbrev cX1_give : ByteArray := prog_1_method_37_code
def yX1_give : MethodName := ⟨RX1, "give", "(IIIZ)I"⟩
def dkwX1_give_3 : List UInt8 := [172, 58, 7, 42, 8, 182, 0, 49, 172]
abbrev dktX1_give_3 : List UInt8 := dkwX1_give_3 ++ []
def dkwX1_give_2 : List UInt8 := [58, 7, 42, 16, 6, 182, 0, 49, 172, 58, 7, 42, 6, 182, 0, 49, 172, 58, 7, 42, 5, 182, 0, 49]
abbrev dktX1_give_2 : List UInt8 := dkwX1_give_2 ++ dktX1_give_3
def dkwX1_give_1 : List UInt8 := [28, 25, 5, 192, 0, 40, 83, 167, 0, 15, 25, 6, 192, 0, 80, 28, 25, 5, 192, 0, 41, 83, 4, 172]
abbrev dktX1_give_1 : List UInt8 := dkwX1_give_1 ++ dktX1_give_2
def dkwX1_give_0 : List UInt8 := [42, 29, 182, 0, 45, 58, 5, 42, 27, 182, 0, 45, 58, 6, 21, 4, 153, 0, 18, 25, 6, 192, 0, 63]
abbrev dktX1_give_0 : List UInt8 := dkwX1_give_0 ++ dktX1_give_1
theorem dksX1_give_0 : cX1_give.data.toList.drop 0 = dktX1_give_0 := by decide +kernel
theorem dksX1_give_1 : cX1_give.data.toList.drop 24 = dktX1_give_1 := dk_seg dksX1_give_0 24 rfl rfl
theorem dksX1_give_2 : cX1_give.data.toList.drop 48 = dktX1_give_2 := dk_seg dksX1_give_1 24 rfl rfl
theorem dksX1_give_3 : cX1_give.data.toList.drop 72 = dktX1_give_3 := dk_seg dksX1_give_2 24 rfl rfl
theorem dX1_give_0 : decode cX1_give 0 = .ok (.aload_n 0, 1) := dk_42 (dk_at dksX1_give_0 0 rfl rfl)
theorem dX1_give_1 : decode cX1_give 1 = .ok (.iload_n 3, 1) := dk_29 (dk_at dksX1_give_0 1 rfl rfl)
theorem dX1_give_2 : decode cX1_give 2 = .ok (.invokevirtual 45, 3) := dk_182 0 45 (dk_at dksX1_give_0 2 rfl rfl)
theorem dX1_give_5 : decode cX1_give 5 = .ok (.astore 5, 2) := dk_58 5 (dk_at dksX1_give_0 5 rfl rfl)
theorem dX1_give_7 : decode cX1_give 7 = .ok (.aload_n 0, 1) := dk_42 (dk_at dksX1_give_0 7 rfl rfl)
theorem dX1_give_8 : decode cX1_give 8 = .ok (.iload_n 1, 1) := dk_27 (dk_at dksX1_give_0 8 rfl rfl)
theorem dX1_give_9 : decode cX1_give 9 = .ok (.invokevirtual 45, 3) := dk_182 0 45 (dk_at dksX1_give_0 9 rfl rfl)
theorem dX1_give_12 : decode cX1_give 12 = .ok (.astore 6, 2) := dk_58 6 (dk_at dksX1_give_0 12 rfl rfl)
theorem dX1_give_14 : decode cX1_give 14 = .ok (.iload 4, 2) := dk_21 4 (dk_at dksX1_give_0 14 rfl rfl)
theorem dX1_give_16 : decode cX1_give 16 = .ok (.ifCond .eq 18, 3) := dk_153 0 18 (dk_at dksX1_give_0 16 rfl rfl)
theorem dX1_give_19 : decode cX1_give 19 = .ok (.aload 6, 2) := dk_25 6 (dk_at dksX1_give_0 19 rfl rfl)
theorem dX1_give_21 : decode cX1_give 21 = .ok (.checkcast 63, 3) := dk_192 0 63 (dk_at dksX1_give_0 21 rfl rfl)
theorem dX1_give_24 : decode cX1_give 24 = .ok (.iload_n 2, 1) := dk_28 (dk_at dksX1_give_1 0 rfl rfl)
theorem dX1_give_25 : decode cX1_give 25 = .ok (.aload 5, 2) := dk_25 5 (dk_at dksX1_give_1 1 rfl rfl)
theorem dX1_give_27 : decode cX1_give 27 = .ok (.checkcast 40, 3) := dk_192 0 40 (dk_at dksX1_give_1 3 rfl rfl)
theorem dX1_give_30 : decode cX1_give 30 = .ok (.aastore, 1) := dk_83 (dk_at dksX1_give_1 6 rfl rfl)
theorem dX1_give_31 : decode cX1_give 31 = .ok (.goto 15, 3) := dk_167 0 15 (dk_at dksX1_give_1 7 rfl rfl)
theorem dX1_give_34 : decode cX1_give 34 = .ok (.aload 6, 2) := dk_25 6 (dk_at dksX1_give_1 10 rfl rfl)
theorem dX1_give_36 : decode cX1_give 36 = .ok (.checkcast 80, 3) := dk_192 0 80 (dk_at dksX1_give_1 12 rfl rfl)
theorem dX1_give_39 : decode cX1_give 39 = .ok (.iload_n 2, 1) := dk_28 (dk_at dksX1_give_1 15 rfl rfl)
theorem dX1_give_40 : decode cX1_give 40 = .ok (.aload 5, 2) := dk_25 5 (dk_at dksX1_give_1 16 rfl rfl)
theorem dX1_give_42 : decode cX1_give 42 = .ok (.checkcast 41, 3) := dk_192 0 41 (dk_at dksX1_give_1 18 rfl rfl)
theorem dX1_give_45 : decode cX1_give 45 = .ok (.aastore, 1) := dk_83 (dk_at dksX1_give_1 21 rfl rfl)
theorem dX1_give_46 : decode cX1_give 46 = .ok (.iconst 1, 1) := dk_4 (dk_at dksX1_give_1 22 rfl rfl)
theorem dX1_give_47 : decode cX1_give 47 = .ok (.ireturn, 1) := dk_172 (dk_at dksX1_give_1 23 rfl rfl)
theorem dX1_give_48 : decode cX1_give 48 = .ok (.astore 7, 2) := dk_58 7 (dk_at dksX1_give_2 0 rfl rfl)
theorem dX1_give_50 : decode cX1_give 50 = .ok (.aload_n 0, 1) := dk_42 (dk_at dksX1_give_2 2 rfl rfl)
theorem dX1_give_51 : decode cX1_give 51 = .ok (.bipush 6, 2) := dk_16 6 (dk_at dksX1_give_2 3 rfl rfl)
theorem dX1_give_53 : decode cX1_give 53 = .ok (.invokevirtual 49, 3) := dk_182 0 49 (dk_at dksX1_give_2 5 rfl rfl)
theorem dX1_give_56 : decode cX1_give 56 = .ok (.ireturn, 1) := dk_172 (dk_at dksX1_give_2 8 rfl rfl)
theorem dX1_give_57 : decode cX1_give 57 = .ok (.astore 7, 2) := dk_58 7 (dk_at dksX1_give_2 9 rfl rfl)
theorem dX1_give_59 : decode cX1_give 59 = .ok (.aload_n 0, 1) := dk_42 (dk_at dksX1_give_2 11 rfl rfl)
theorem dX1_give_60 : decode cX1_give 60 = .ok (.iconst 3, 1) := dk_6 (dk_at dksX1_give_2 12 rfl rfl)
theorem dX1_give_61 : decode cX1_give 61 = .ok (.invokevirtual 49, 3) := dk_182 0 49 (dk_at dksX1_give_2 13 rfl rfl)
theorem dX1_give_64 : decode cX1_give 64 = .ok (.ireturn, 1) := dk_172 (dk_at dksX1_give_2 16 rfl rfl)
theorem dX1_give_65 : decode cX1_give 65 = .ok (.astore 7, 2) := dk_58 7 (dk_at dksX1_give_2 17 rfl rfl)
theorem dX1_give_67 : decode cX1_give 67 = .ok (.aload_n 0, 1) := dk_42 (dk_at dksX1_give_2 19 rfl rfl)
theorem dX1_give_68 : decode cX1_give 68 = .ok (.iconst 2, 1) := dk_5 (dk_at dksX1_give_2 20 rfl rfl)
theorem dX1_give_69 : decode cX1_give 69 = .ok (.invokevirtual 49, 3) := dk_182 0 49 (dk_at dksX1_give_2 21 rfl rfl)
theorem dX1_give_72 : decode cX1_give 72 = .ok (.ireturn, 1) := dk_172 (dk_at dksX1_give_3 0 rfl rfl)
theorem dX1_give_73 : decode cX1_give 73 = .ok (.astore 7, 2) := dk_58 7 (dk_at dksX1_give_3 1 rfl rfl)
theorem dX1_give_75 : decode cX1_give 75 = .ok (.aload_n 0, 1) := dk_42 (dk_at dksX1_give_3 3 rfl rfl)
theorem dX1_give_76 : decode cX1_give 76 = .ok (.iconst 5, 1) := dk_8 (dk_at dksX1_give_3 4 rfl rfl)
theorem dX1_give_77 : decode cX1_give 77 = .ok (.invokevirtual 49, 3) := dk_182 0 49 (dk_at dksX1_give_3 5 rfl rfl)
theorem dX1_give_80 : decode cX1_give 80 = .ok (.ireturn, 1) := dk_172 (dk_at dksX1_give_3 8 rfl rfl)
abbrev cX1_deep : ByteArray := prog_1_method_38_code
def yX1_deep : MethodName := ⟨RX1, "deep", "(III)I"⟩
def dkwX1_deep_1 : List UInt8 := [182, 0, 49, 172, 58, 5, 42, 6, 182, 0, 49, 172, 58, 5, 42, 5, 182, 0, 49, 172]
abbrev dktX1_deep_1 : List UInt8 := dkwX1_deep_1 ++ []
def dkwX1_deep_0 : List UInt8 := [42, 27, 182, 0, 45, 58, 4, 25, 4, 192, 0, 63, 28, 50, 29, 46, 172, 58, 5, 42, 16, 6]
abbrev dktX1_deep_0 : List UInt8 := dkwX1_deep_0 ++ dktX1_deep_1
theorem dksX1_deep_0 : cX1_deep.data.toList.drop 0 = dktX1_deep_0 := by decide +kernel
theorem dksX1_deep_1 : cX1_deep.data.toList.drop 22 = dktX1_deep_1 := dk_seg dksX1_deep_0 22 rfl rfl
theorem dX1_deep_0 : decode cX1_deep 0 = .ok (.aload_n 0, 1) := dk_42 (dk_at dksX1_deep_0 0 rfl rfl)
theorem dX1_deep_1 : decode cX1_deep 1 = .ok (.iload_n 1, 1) := dk_27 (dk_at dksX1_deep_0 1 rfl rfl)
theorem dX1_deep_2 : decode cX1_deep 2 = .ok (.invokevirtual 45, 3) := dk_182 0 45 (dk_at dksX1_deep_0 2 rfl rfl)
theorem dX1_deep_5 : decode cX1_deep 5 = .ok (.astore 4, 2) := dk_58 4 (dk_at dksX1_deep_0 5 rfl rfl)
theorem dX1_deep_7 : decode cX1_deep 7 = .ok (.aload 4, 2) := dk_25 4 (dk_at dksX1_deep_0 7 rfl rfl)
theorem dX1_deep_9 : decode cX1_deep 9 = .ok (.checkcast 63, 3) := dk_192 0 63 (dk_at dksX1_deep_0 9 rfl rfl)
theorem dX1_deep_12 : decode cX1_deep 12 = .ok (.iload_n 2, 1) := dk_28 (dk_at dksX1_deep_0 12 rfl rfl)
theorem dX1_deep_13 : decode cX1_deep 13 = .ok (.aaload, 1) := dk_50 (dk_at dksX1_deep_0 13 rfl rfl)
theorem dX1_deep_14 : decode cX1_deep 14 = .ok (.iload_n 3, 1) := dk_29 (dk_at dksX1_deep_0 14 rfl rfl)
theorem dX1_deep_15 : decode cX1_deep 15 = .ok (.iaload, 1) := dk_46 (dk_at dksX1_deep_0 15 rfl rfl)
theorem dX1_deep_16 : decode cX1_deep 16 = .ok (.ireturn, 1) := dk_172 (dk_at dksX1_deep_0 16 rfl rfl)
theorem dX1_deep_17 : decode cX1_deep 17 = .ok (.astore 5, 2) := dk_58 5 (dk_at dksX1_deep_0 17 rfl rfl)
theorem dX1_deep_19 : decode cX1_deep 19 = .ok (.aload_n 0, 1) := dk_42 (dk_at dksX1_deep_0 19 rfl rfl)
theorem dX1_deep_20 : decode cX1_deep 20 = .ok (.bipush 6, 2) := dk_16 6 (dk_at dksX1_deep_0 20 rfl rfl)
theorem dX1_deep_22 : decode cX1_deep 22 = .ok (.invokevirtual 49, 3) := dk_182 0 49 (dk_at dksX1_deep_1 0 rfl rfl)
theorem dX1_deep_25 : decode cX1_deep 25 = .ok (.ireturn, 1) := dk_172 (dk_at dksX1_deep_1 3 rfl rfl)
theorem dX1_deep_26 : decode cX1_deep 26 = .ok (.astore 5, 2) := dk_58 5 (dk_at dksX1_deep_1 4 rfl rfl)
theorem dX1_deep_28 : decode cX1_deep 28 = .ok (.aload_n 0, 1) := dk_42 (dk_at dksX1_deep_1 6 rfl rfl)
theorem dX1_deep_29 : decode cX1_deep 29 = .ok (.iconst 3, 1) := dk_6 (dk_at dksX1_deep_1 7 rfl rfl)
theorem dX1_deep_30 : decode cX1_deep 30 = .ok (.invokevirtual 49, 3) := dk_182 0 49 (dk_at dksX1_deep_1 8 rfl rfl)
theorem dX1_deep_33 : decode cX1_deep 33 = .ok (.ireturn, 1) := dk_172 (dk_at dksX1_deep_1 11 rfl rfl)
theorem dX1_deep_34 : decode cX1_deep 34 = .ok (.astore 5, 2) := dk_58 5 (dk_at dksX1_deep_1 12 rfl rfl)
theorem dX1_deep_36 : decode cX1_deep 36 = .ok (.aload_n 0, 1) := dk_42 (dk_at dksX1_deep_1 14 rfl rfl)
theorem dX1_deep_37 : decode cX1_deep 37 = .ok (.iconst 2, 1) := dk_5 (dk_at dksX1_deep_1 15 rfl rfl)
theorem dX1_deep_38 : decode cX1_deep 38 = .ok (.invokevirtual 49, 3) := dk_182 0 49 (dk_at dksX1_deep_1 16 rfl rfl)
theorem dX1_deep_41 : decode cX1_deep 41 = .ok (.ireturn, 1) := dk_172 (dk_at dksX1_deep_1 19 rfl rfl)
abbrev cX1_deepPut : ByteArray := prog_1_method_39_code
def yX1_deepPut : MethodName := ⟨RX1, "deepPut", "(IIII)I"⟩
def dkwX1_deepPut_1 : List UInt8 := [16, 6, 182, 0, 49, 172, 58, 6, 42, 6, 182, 0, 49, 172, 58, 6, 42, 5, 182, 0, 49, 172]
abbrev dktX1_deepPut_1 : List UInt8 := dkwX1_deepPut_1 ++ []
def dkwX1_deepPut_0 : List UInt8 := [42, 27, 182, 0, 45, 58, 5, 25, 5, 192, 0, 63, 28, 50, 29, 21, 4, 79, 4, 172, 58, 6, 42]
abbrev dktX1_deepPut_0 : List UInt8 := dkwX1_deepPut_0 ++ dktX1_deepPut_1
theorem dksX1_deepPut_0 : cX1_deepPut.data.toList.drop 0 = dktX1_deepPut_0 := by decide +kernel
theorem dksX1_deepPut_1 : cX1_deepPut.data.toList.drop 23 = dktX1_deepPut_1 := dk_seg dksX1_deepPut_0 23 rfl rfl
theorem dX1_deepPut_0 : decode cX1_deepPut 0 = .ok (.aload_n 0, 1) := dk_42 (dk_at dksX1_deepPut_0 0 rfl rfl)
theorem dX1_deepPut_1 : decode cX1_deepPut 1 = .ok (.iload_n 1, 1) := dk_27 (dk_at dksX1_deepPut_0 1 rfl rfl)
theorem dX1_deepPut_2 : decode cX1_deepPut 2 = .ok (.invokevirtual 45, 3) := dk_182 0 45 (dk_at dksX1_deepPut_0 2 rfl rfl)
theorem dX1_deepPut_5 : decode cX1_deepPut 5 = .ok (.astore 5, 2) := dk_58 5 (dk_at dksX1_deepPut_0 5 rfl rfl)
theorem dX1_deepPut_7 : decode cX1_deepPut 7 = .ok (.aload 5, 2) := dk_25 5 (dk_at dksX1_deepPut_0 7 rfl rfl)
theorem dX1_deepPut_9 : decode cX1_deepPut 9 = .ok (.checkcast 63, 3) := dk_192 0 63 (dk_at dksX1_deepPut_0 9 rfl rfl)
theorem dX1_deepPut_12 : decode cX1_deepPut 12 = .ok (.iload_n 2, 1) := dk_28 (dk_at dksX1_deepPut_0 12 rfl rfl)
theorem dX1_deepPut_13 : decode cX1_deepPut 13 = .ok (.aaload, 1) := dk_50 (dk_at dksX1_deepPut_0 13 rfl rfl)
theorem dX1_deepPut_14 : decode cX1_deepPut 14 = .ok (.iload_n 3, 1) := dk_29 (dk_at dksX1_deepPut_0 14 rfl rfl)
theorem dX1_deepPut_15 : decode cX1_deepPut 15 = .ok (.iload 4, 2) := dk_21 4 (dk_at dksX1_deepPut_0 15 rfl rfl)
theorem dX1_deepPut_17 : decode cX1_deepPut 17 = .ok (.iastore, 1) := dk_79 (dk_at dksX1_deepPut_0 17 rfl rfl)
theorem dX1_deepPut_18 : decode cX1_deepPut 18 = .ok (.iconst 1, 1) := dk_4 (dk_at dksX1_deepPut_0 18 rfl rfl)
theorem dX1_deepPut_19 : decode cX1_deepPut 19 = .ok (.ireturn, 1) := dk_172 (dk_at dksX1_deepPut_0 19 rfl rfl)
theorem dX1_deepPut_20 : decode cX1_deepPut 20 = .ok (.astore 6, 2) := dk_58 6 (dk_at dksX1_deepPut_0 20 rfl rfl)
theorem dX1_deepPut_22 : decode cX1_deepPut 22 = .ok (.aload_n 0, 1) := dk_42 (dk_at dksX1_deepPut_0 22 rfl rfl)
theorem dX1_deepPut_23 : decode cX1_deepPut 23 = .ok (.bipush 6, 2) := dk_16 6 (dk_at dksX1_deepPut_1 0 rfl rfl)
theorem dX1_deepPut_25 : decode cX1_deepPut 25 = .ok (.invokevirtual 49, 3) := dk_182 0 49 (dk_at dksX1_deepPut_1 2 rfl rfl)
theorem dX1_deepPut_28 : decode cX1_deepPut 28 = .ok (.ireturn, 1) := dk_172 (dk_at dksX1_deepPut_1 5 rfl rfl)
theorem dX1_deepPut_29 : decode cX1_deepPut 29 = .ok (.astore 6, 2) := dk_58 6 (dk_at dksX1_deepPut_1 6 rfl rfl)
theorem dX1_deepPut_31 : decode cX1_deepPut 31 = .ok (.aload_n 0, 1) := dk_42 (dk_at dksX1_deepPut_1 8 rfl rfl)
theorem dX1_deepPut_32 : decode cX1_deepPut 32 = .ok (.iconst 3, 1) := dk_6 (dk_at dksX1_deepPut_1 9 rfl rfl)
theorem dX1_deepPut_33 : decode cX1_deepPut 33 = .ok (.invokevirtual 49, 3) := dk_182 0 49 (dk_at dksX1_deepPut_1 10 rfl rfl)
theorem dX1_deepPut_36 : decode cX1_deepPut 36 = .ok (.ireturn, 1) := dk_172 (dk_at dksX1_deepPut_1 13 rfl rfl)
theorem dX1_deepPut_37 : decode cX1_deepPut 37 = .ok (.astore 6, 2) := dk_58 6 (dk_at dksX1_deepPut_1 14 rfl rfl)
theorem dX1_deepPut_39 : decode cX1_deepPut 39 = .ok (.aload_n 0, 1) := dk_42 (dk_at dksX1_deepPut_1 16 rfl rfl)
theorem dX1_deepPut_40 : decode cX1_deepPut 40 = .ok (.iconst 2, 1) := dk_5 (dk_at dksX1_deepPut_1 17 rfl rfl)
theorem dX1_deepPut_41 : decode cX1_deepPut 41 = .ok (.invokevirtual 49, 3) := dk_182 0 49 (dk_at dksX1_deepPut_1 18 rfl rfl)
theorem dX1_deepPut_44 : decode cX1_deepPut 44 = .ok (.ireturn, 1) := dk_172 (dk_at dksX1_deepPut_1 21 rfl rfl)
abbrev cX1_copy : ByteArray := prog_1_method_40_code
def yX1_copy : MethodName := ⟨RX1, "copy", "(IIIII)I"⟩
def dkwX1_copy_2 : List UInt8 := [42, 5, 182, 0, 49, 172]
abbrev dktX1_copy_2 : List UInt8 := dkwX1_copy_2 ++ []
def dkwX1_copy_1 : List UInt8 := [184, 0, 202, 21, 5, 172, 58, 8, 42, 6, 182, 0, 49, 172, 58, 8, 42, 8, 182, 0, 49, 172, 58, 8]
abbrev dktX1_copy_1 : List UInt8 := dkwX1_copy_1 ++ dktX1_copy_2
def dkwX1_copy_0 : List UInt8 := [42, 27, 182, 0, 45, 58, 6, 42, 29, 182, 0, 45, 58, 7, 25, 6, 28, 25, 7, 21, 4, 21, 5]
abbrev dktX1_copy_0 : List UInt8 := dkwX1_copy_0 ++ dktX1_copy_1
theorem dksX1_copy_0 : cX1_copy.data.toList.drop 0 = dktX1_copy_0 := by decide +kernel
theorem dksX1_copy_1 : cX1_copy.data.toList.drop 23 = dktX1_copy_1 := dk_seg dksX1_copy_0 23 rfl rfl
theorem dksX1_copy_2 : cX1_copy.data.toList.drop 47 = dktX1_copy_2 := dk_seg dksX1_copy_1 24 rfl rfl
theorem dX1_copy_0 : decode cX1_copy 0 = .ok (.aload_n 0, 1) := dk_42 (dk_at dksX1_copy_0 0 rfl rfl)
theorem dX1_copy_1 : decode cX1_copy 1 = .ok (.iload_n 1, 1) := dk_27 (dk_at dksX1_copy_0 1 rfl rfl)
theorem dX1_copy_2 : decode cX1_copy 2 = .ok (.invokevirtual 45, 3) := dk_182 0 45 (dk_at dksX1_copy_0 2 rfl rfl)
theorem dX1_copy_5 : decode cX1_copy 5 = .ok (.astore 6, 2) := dk_58 6 (dk_at dksX1_copy_0 5 rfl rfl)
theorem dX1_copy_7 : decode cX1_copy 7 = .ok (.aload_n 0, 1) := dk_42 (dk_at dksX1_copy_0 7 rfl rfl)
theorem dX1_copy_8 : decode cX1_copy 8 = .ok (.iload_n 3, 1) := dk_29 (dk_at dksX1_copy_0 8 rfl rfl)
theorem dX1_copy_9 : decode cX1_copy 9 = .ok (.invokevirtual 45, 3) := dk_182 0 45 (dk_at dksX1_copy_0 9 rfl rfl)
theorem dX1_copy_12 : decode cX1_copy 12 = .ok (.astore 7, 2) := dk_58 7 (dk_at dksX1_copy_0 12 rfl rfl)
theorem dX1_copy_14 : decode cX1_copy 14 = .ok (.aload 6, 2) := dk_25 6 (dk_at dksX1_copy_0 14 rfl rfl)
theorem dX1_copy_16 : decode cX1_copy 16 = .ok (.iload_n 2, 1) := dk_28 (dk_at dksX1_copy_0 16 rfl rfl)
theorem dX1_copy_17 : decode cX1_copy 17 = .ok (.aload 7, 2) := dk_25 7 (dk_at dksX1_copy_0 17 rfl rfl)
theorem dX1_copy_19 : decode cX1_copy 19 = .ok (.iload 4, 2) := dk_21 4 (dk_at dksX1_copy_0 19 rfl rfl)
theorem dX1_copy_21 : decode cX1_copy 21 = .ok (.iload 5, 2) := dk_21 5 (dk_at dksX1_copy_0 21 rfl rfl)
theorem dX1_copy_23 : decode cX1_copy 23 = .ok (.invokestatic 202, 3) := dk_184 0 202 (dk_at dksX1_copy_1 0 rfl rfl)
theorem dX1_copy_26 : decode cX1_copy 26 = .ok (.iload 5, 2) := dk_21 5 (dk_at dksX1_copy_1 3 rfl rfl)
theorem dX1_copy_28 : decode cX1_copy 28 = .ok (.ireturn, 1) := dk_172 (dk_at dksX1_copy_1 5 rfl rfl)
theorem dX1_copy_29 : decode cX1_copy 29 = .ok (.astore 8, 2) := dk_58 8 (dk_at dksX1_copy_1 6 rfl rfl)
theorem dX1_copy_31 : decode cX1_copy 31 = .ok (.aload_n 0, 1) := dk_42 (dk_at dksX1_copy_1 8 rfl rfl)
theorem dX1_copy_32 : decode cX1_copy 32 = .ok (.iconst 3, 1) := dk_6 (dk_at dksX1_copy_1 9 rfl rfl)
theorem dX1_copy_33 : decode cX1_copy 33 = .ok (.invokevirtual 49, 3) := dk_182 0 49 (dk_at dksX1_copy_1 10 rfl rfl)
theorem dX1_copy_36 : decode cX1_copy 36 = .ok (.ireturn, 1) := dk_172 (dk_at dksX1_copy_1 13 rfl rfl)
theorem dX1_copy_37 : decode cX1_copy 37 = .ok (.astore 8, 2) := dk_58 8 (dk_at dksX1_copy_1 14 rfl rfl)
theorem dX1_copy_39 : decode cX1_copy 39 = .ok (.aload_n 0, 1) := dk_42 (dk_at dksX1_copy_1 16 rfl rfl)
theorem dX1_copy_40 : decode cX1_copy 40 = .ok (.iconst 5, 1) := dk_8 (dk_at dksX1_copy_1 17 rfl rfl)
theorem dX1_copy_41 : decode cX1_copy 41 = .ok (.invokevirtual 49, 3) := dk_182 0 49 (dk_at dksX1_copy_1 18 rfl rfl)
theorem dX1_copy_44 : decode cX1_copy 44 = .ok (.ireturn, 1) := dk_172 (dk_at dksX1_copy_1 21 rfl rfl)
theorem dX1_copy_45 : decode cX1_copy 45 = .ok (.astore 8, 2) := dk_58 8 (dk_at dksX1_copy_1 22 rfl rfl)
theorem dX1_copy_47 : decode cX1_copy 47 = .ok (.aload_n 0, 1) := dk_42 (dk_at dksX1_copy_2 0 rfl rfl)
theorem dX1_copy_48 : decode cX1_copy 48 = .ok (.iconst 2, 1) := dk_5 (dk_at dksX1_copy_2 1 rfl rfl)
theorem dX1_copy_49 : decode cX1_copy 49 = .ok (.invokevirtual 49, 3) := dk_182 0 49 (dk_at dksX1_copy_2 2 rfl rfl)
theorem dX1_copy_52 : decode cX1_copy 52 = .ok (.ireturn, 1) := dk_172 (dk_at dksX1_copy_2 5 rfl rfl)
abbrev cX1_twin : ByteArray := prog_1_method_41_code
def yX1_twin : MethodName := ⟨RX1, "twin", "(II)I"⟩
def dkwX1_twin_2 : List UInt8 := [184, 0, 202, 42, 28, 25, 5, 182, 0, 57, 21, 4, 172, 58, 4, 42, 6, 182, 0, 49, 172]
abbrev dktX1_twin_2 : List UInt8 := dkwX1_twin_2 ++ []
def dkwX1_twin_1 : List UInt8 := [184, 0, 118, 54, 4, 45, 184, 0, 98, 21, 4, 184, 0, 53, 58, 5, 45, 3, 25, 5, 3, 21, 4]
abbrev dktX1_twin_1 : List UInt8 := dkwX1_twin_1 ++ dktX1_twin_2
def dkwX1_twin_0 : List UInt8 := [42, 27, 182, 0, 45, 78, 45, 198, 0, 16, 45, 184, 0, 114, 154, 0, 9, 42, 4, 182, 0, 49, 172, 45]
abbrev dktX1_twin_0 : List UInt8 := dkwX1_twin_0 ++ dktX1_twin_1
theorem dksX1_twin_0 : cX1_twin.data.toList.drop 0 = dktX1_twin_0 := by decide +kernel
theorem dksX1_twin_1 : cX1_twin.data.toList.drop 24 = dktX1_twin_1 := dk_seg dksX1_twin_0 24 rfl rfl
theorem dksX1_twin_2 : cX1_twin.data.toList.drop 47 = dktX1_twin_2 := dk_seg dksX1_twin_1 23 rfl rfl
theorem dX1_twin_0 : decode cX1_twin 0 = .ok (.aload_n 0, 1) := dk_42 (dk_at dksX1_twin_0 0 rfl rfl)
theorem dX1_twin_1 : decode cX1_twin 1 = .ok (.iload_n 1, 1) := dk_27 (dk_at dksX1_twin_0 1 rfl rfl)
theorem dX1_twin_2 : decode cX1_twin 2 = .ok (.invokevirtual 45, 3) := dk_182 0 45 (dk_at dksX1_twin_0 2 rfl rfl)
theorem dX1_twin_5 : decode cX1_twin 5 = .ok (.astore_n 3, 1) := dk_78 (dk_at dksX1_twin_0 5 rfl rfl)
theorem dX1_twin_6 : decode cX1_twin 6 = .ok (.aload_n 3, 1) := dk_45 (dk_at dksX1_twin_0 6 rfl rfl)
theorem dX1_twin_7 : decode cX1_twin 7 = .ok (.ifnull 16, 3) := dk_198 0 16 (dk_at dksX1_twin_0 7 rfl rfl)
theorem dX1_twin_10 : decode cX1_twin 10 = .ok (.aload_n 3, 1) := dk_45 (dk_at dksX1_twin_0 10 rfl rfl)
theorem dX1_twin_11 : decode cX1_twin 11 = .ok (.invokestatic 114, 3) := dk_184 0 114 (dk_at dksX1_twin_0 11 rfl rfl)
theorem dX1_twin_14 : decode cX1_twin 14 = .ok (.ifCond .ne 9, 3) := dk_154 0 9 (dk_at dksX1_twin_0 14 rfl rfl)
theorem dX1_twin_17 : decode cX1_twin 17 = .ok (.aload_n 0, 1) := dk_42 (dk_at dksX1_twin_0 17 rfl rfl)
theorem dX1_twin_18 : decode cX1_twin 18 = .ok (.iconst 1, 1) := dk_4 (dk_at dksX1_twin_0 18 rfl rfl)
theorem dX1_twin_19 : decode cX1_twin 19 = .ok (.invokevirtual 49, 3) := dk_182 0 49 (dk_at dksX1_twin_0 19 rfl rfl)
theorem dX1_twin_22 : decode cX1_twin 22 = .ok (.ireturn, 1) := dk_172 (dk_at dksX1_twin_0 22 rfl rfl)
theorem dX1_twin_23 : decode cX1_twin 23 = .ok (.aload_n 3, 1) := dk_45 (dk_at dksX1_twin_0 23 rfl rfl)
theorem dX1_twin_24 : decode cX1_twin 24 = .ok (.invokestatic 118, 3) := dk_184 0 118 (dk_at dksX1_twin_1 0 rfl rfl)
theorem dX1_twin_27 : decode cX1_twin 27 = .ok (.istore 4, 2) := dk_54 4 (dk_at dksX1_twin_1 3 rfl rfl)
theorem dX1_twin_29 : decode cX1_twin 29 = .ok (.aload_n 3, 1) := dk_45 (dk_at dksX1_twin_1 5 rfl rfl)
theorem dX1_twin_30 : decode cX1_twin 30 = .ok (.invokestatic 98, 3) := dk_184 0 98 (dk_at dksX1_twin_1 6 rfl rfl)
theorem dX1_twin_33 : decode cX1_twin 33 = .ok (.iload 4, 2) := dk_21 4 (dk_at dksX1_twin_1 9 rfl rfl)
theorem dX1_twin_35 : decode cX1_twin 35 = .ok (.invokestatic 53, 3) := dk_184 0 53 (dk_at dksX1_twin_1 11 rfl rfl)
theorem dX1_twin_38 : decode cX1_twin 38 = .ok (.astore 5, 2) := dk_58 5 (dk_at dksX1_twin_1 14 rfl rfl)
theorem dX1_twin_40 : decode cX1_twin 40 = .ok (.aload_n 3, 1) := dk_45 (dk_at dksX1_twin_1 16 rfl rfl)
theorem dX1_twin_41 : decode cX1_twin 41 = .ok (.iconst 0, 1) := dk_3 (dk_at dksX1_twin_1 17 rfl rfl)
theorem dX1_twin_42 : decode cX1_twin 42 = .ok (.aload 5, 2) := dk_25 5 (dk_at dksX1_twin_1 18 rfl rfl)
theorem dX1_twin_44 : decode cX1_twin 44 = .ok (.iconst 0, 1) := dk_3 (dk_at dksX1_twin_1 20 rfl rfl)
theorem dX1_twin_45 : decode cX1_twin 45 = .ok (.iload 4, 2) := dk_21 4 (dk_at dksX1_twin_1 21 rfl rfl)
theorem dX1_twin_47 : decode cX1_twin 47 = .ok (.invokestatic 202, 3) := dk_184 0 202 (dk_at dksX1_twin_2 0 rfl rfl)
theorem dX1_twin_50 : decode cX1_twin 50 = .ok (.aload_n 0, 1) := dk_42 (dk_at dksX1_twin_2 3 rfl rfl)
theorem dX1_twin_51 : decode cX1_twin 51 = .ok (.iload_n 2, 1) := dk_28 (dk_at dksX1_twin_2 4 rfl rfl)
theorem dX1_twin_52 : decode cX1_twin 52 = .ok (.aload 5, 2) := dk_25 5 (dk_at dksX1_twin_2 5 rfl rfl)
theorem dX1_twin_54 : decode cX1_twin 54 = .ok (.invokevirtual 57, 3) := dk_182 0 57 (dk_at dksX1_twin_2 7 rfl rfl)
theorem dX1_twin_57 : decode cX1_twin 57 = .ok (.iload 4, 2) := dk_21 4 (dk_at dksX1_twin_2 10 rfl rfl)
theorem dX1_twin_59 : decode cX1_twin 59 = .ok (.ireturn, 1) := dk_172 (dk_at dksX1_twin_2 12 rfl rfl)
theorem dX1_twin_60 : decode cX1_twin 60 = .ok (.astore 4, 2) := dk_58 4 (dk_at dksX1_twin_2 13 rfl rfl)
theorem dX1_twin_62 : decode cX1_twin 62 = .ok (.aload_n 0, 1) := dk_42 (dk_at dksX1_twin_2 15 rfl rfl)
theorem dX1_twin_63 : decode cX1_twin 63 = .ok (.iconst 3, 1) := dk_6 (dk_at dksX1_twin_2 16 rfl rfl)
theorem dX1_twin_64 : decode cX1_twin 64 = .ok (.invokevirtual 49, 3) := dk_182 0 49 (dk_at dksX1_twin_2 17 rfl rfl)
theorem dX1_twin_67 : decode cX1_twin 67 = .ok (.ireturn, 1) := dk_172 (dk_at dksX1_twin_2 20 rfl rfl)
abbrev cX1_call : ByteArray := prog_1_method_43_code
def yX1_call : MethodName := ⟨RX1, "call", "(II)I"⟩
def dkwX1_call_1 : List UInt8 := [184, 0, 232, 172, 58, 4, 42, 16, 6, 182, 0, 49, 172, 58, 4, 42, 6, 182, 0, 49, 172]
abbrev dktX1_call_1 : List UInt8 := dkwX1_call_1 ++ []
def dkwX1_call_0 : List UInt8 := [42, 27, 182, 0, 45, 78, 28, 155, 0, 8, 28, 8, 164, 0, 9, 42, 4, 182, 0, 49, 172, 45, 28]
abbrev dktX1_call_0 : List UInt8 := dkwX1_call_0 ++ dktX1_call_1
theorem dksX1_call_0 : cX1_call.data.toList.drop 0 = dktX1_call_0 := by decide +kernel
theorem dksX1_call_1 : cX1_call.data.toList.drop 23 = dktX1_call_1 := dk_seg dksX1_call_0 23 rfl rfl
theorem dX1_call_0 : decode cX1_call 0 = .ok (.aload_n 0, 1) := dk_42 (dk_at dksX1_call_0 0 rfl rfl)
theorem dX1_call_1 : decode cX1_call 1 = .ok (.iload_n 1, 1) := dk_27 (dk_at dksX1_call_0 1 rfl rfl)
theorem dX1_call_2 : decode cX1_call 2 = .ok (.invokevirtual 45, 3) := dk_182 0 45 (dk_at dksX1_call_0 2 rfl rfl)
theorem dX1_call_5 : decode cX1_call 5 = .ok (.astore_n 3, 1) := dk_78 (dk_at dksX1_call_0 5 rfl rfl)
theorem dX1_call_6 : decode cX1_call 6 = .ok (.iload_n 2, 1) := dk_28 (dk_at dksX1_call_0 6 rfl rfl)
theorem dX1_call_7 : decode cX1_call 7 = .ok (.ifCond .lt 8, 3) := dk_155 0 8 (dk_at dksX1_call_0 7 rfl rfl)
theorem dX1_call_10 : decode cX1_call 10 = .ok (.iload_n 2, 1) := dk_28 (dk_at dksX1_call_0 10 rfl rfl)
theorem dX1_call_11 : decode cX1_call 11 = .ok (.iconst 5, 1) := dk_8 (dk_at dksX1_call_0 11 rfl rfl)
theorem dX1_call_12 : decode cX1_call 12 = .ok (.if_icmp .le 9, 3) := dk_164 0 9 (dk_at dksX1_call_0 12 rfl rfl)
theorem dX1_call_15 : decode cX1_call 15 = .ok (.aload_n 0, 1) := dk_42 (dk_at dksX1_call_0 15 rfl rfl)
theorem dX1_call_16 : decode cX1_call 16 = .ok (.iconst 1, 1) := dk_4 (dk_at dksX1_call_0 16 rfl rfl)
theorem dX1_call_17 : decode cX1_call 17 = .ok (.invokevirtual 49, 3) := dk_182 0 49 (dk_at dksX1_call_0 17 rfl rfl)
theorem dX1_call_20 : decode cX1_call 20 = .ok (.ireturn, 1) := dk_172 (dk_at dksX1_call_0 20 rfl rfl)
theorem dX1_call_21 : decode cX1_call 21 = .ok (.aload_n 3, 1) := dk_45 (dk_at dksX1_call_0 21 rfl rfl)
theorem dX1_call_22 : decode cX1_call 22 = .ok (.iload_n 2, 1) := dk_28 (dk_at dksX1_call_0 22 rfl rfl)
theorem dX1_call_23 : decode cX1_call 23 = .ok (.invokestatic 232, 3) := dk_184 0 232 (dk_at dksX1_call_1 0 rfl rfl)
theorem dX1_call_26 : decode cX1_call 26 = .ok (.ireturn, 1) := dk_172 (dk_at dksX1_call_1 3 rfl rfl)
theorem dX1_call_27 : decode cX1_call 27 = .ok (.astore 4, 2) := dk_58 4 (dk_at dksX1_call_1 4 rfl rfl)
theorem dX1_call_29 : decode cX1_call 29 = .ok (.aload_n 0, 1) := dk_42 (dk_at dksX1_call_1 6 rfl rfl)
theorem dX1_call_30 : decode cX1_call 30 = .ok (.bipush 6, 2) := dk_16 6 (dk_at dksX1_call_1 7 rfl rfl)
theorem dX1_call_32 : decode cX1_call 32 = .ok (.invokevirtual 49, 3) := dk_182 0 49 (dk_at dksX1_call_1 9 rfl rfl)
theorem dX1_call_35 : decode cX1_call 35 = .ok (.ireturn, 1) := dk_172 (dk_at dksX1_call_1 12 rfl rfl)
theorem dX1_call_36 : decode cX1_call 36 = .ok (.astore 4, 2) := dk_58 4 (dk_at dksX1_call_1 13 rfl rfl)
theorem dX1_call_38 : decode cX1_call 38 = .ok (.aload_n 0, 1) := dk_42 (dk_at dksX1_call_1 15 rfl rfl)
theorem dX1_call_39 : decode cX1_call 39 = .ok (.iconst 3, 1) := dk_6 (dk_at dksX1_call_1 16 rfl rfl)
theorem dX1_call_40 : decode cX1_call 40 = .ok (.invokevirtual 49, 3) := dk_182 0 49 (dk_at dksX1_call_1 17 rfl rfl)
theorem dX1_call_43 : decode cX1_call 43 = .ok (.ireturn, 1) := dk_172 (dk_at dksX1_call_1 20 rfl rfl)
abbrev cX1_called : ByteArray := prog_1_method_42_code
def yX1_called : MethodName := ⟨RX1, "called", "(Ljava/lang/Object;I)I"⟩
def dkwX1_called_5 : List UInt8 := [172]
abbrev dktX1_called_5 : List UInt8 := dkwX1_called_5 ++ []
def dkwX1_called_4 : List UInt8 := [192, 0, 72, 180, 0, 223, 167, 0, 10, 42, 192, 0, 41, 182, 0, 226, 172, 42, 192, 0, 41, 182, 0, 229]
abbrev dktX1_called_4 : List UInt8 := dkwX1_called_4 ++ dktX1_called_5
def dkwX1_called_3 : List UInt8 := [185, 0, 217, 1, 0, 172, 42, 192, 0, 78, 185, 0, 220, 1, 0, 172, 42, 193, 0, 72, 153, 0, 13, 42]
abbrev dktX1_called_3 : List UInt8 := dkwX1_called_3 ++ dktX1_called_4
def dkwX1_called_2 : List UInt8 := [42, 192, 0, 78, 185, 0, 210, 1, 0, 172, 42, 192, 0, 78, 185, 0, 214, 1, 0, 172, 42, 192, 0, 78]
abbrev dktX1_called_2 : List UInt8 := dkwX1_called_2 ++ dktX1_called_3
def dkwX1_called_1 : List UInt8 := [170, 0, 0, 0, 0, 0, 100, 0, 0, 0, 0, 0, 0, 0, 4, 0, 0, 0, 35, 0, 0, 0, 45, 0, 0, 0, 55, 0, 0, 0, 65, 0, 0, 0, 75]
abbrev dktX1_called_1 : List UInt8 := dkwX1_called_1 ++ dktX1_called_2
def dkwX1_called_0 : List UInt8 := [27]
abbrev dktX1_called_0 : List UInt8 := dkwX1_called_0 ++ dktX1_called_1
theorem dksX1_called_0 : cX1_called.data.toList.drop 0 = dktX1_called_0 := by decide +kernel
theorem dksX1_called_1 : cX1_called.data.toList.drop 1 = dktX1_called_1 := dk_seg dksX1_called_0 1 rfl rfl
theorem dksX1_called_2 : cX1_called.data.toList.drop 36 = dktX1_called_2 := dk_seg dksX1_called_1 35 rfl rfl
theorem dksX1_called_3 : cX1_called.data.toList.drop 60 = dktX1_called_3 := dk_seg dksX1_called_2 24 rfl rfl
theorem dksX1_called_4 : cX1_called.data.toList.drop 84 = dktX1_called_4 := dk_seg dksX1_called_3 24 rfl rfl
theorem dksX1_called_5 : cX1_called.data.toList.drop 108 = dktX1_called_5 := dk_seg dksX1_called_4 24 rfl rfl
theorem dX1_called_0 : decode cX1_called 0 = .ok (.iload_n 1, 1) := dk_27 (dk_at dksX1_called_0 0 rfl rfl)
theorem dX1_called_1 : decode cX1_called 1 = .ok (.tableswitch 100 0 4 #[35, 45, 55, 65, 75], 35) := by decide +kernel
theorem dX1_called_36 : decode cX1_called 36 = .ok (.aload_n 0, 1) := dk_42 (dk_at dksX1_called_2 0 rfl rfl)
theorem dX1_called_37 : decode cX1_called 37 = .ok (.checkcast 78, 3) := dk_192 0 78 (dk_at dksX1_called_2 1 rfl rfl)
theorem dX1_called_40 : decode cX1_called 40 = .ok (.invokeinterface 210 1, 5) := by decide +kernel
theorem dX1_called_45 : decode cX1_called 45 = .ok (.ireturn, 1) := dk_172 (dk_at dksX1_called_2 9 rfl rfl)
theorem dX1_called_46 : decode cX1_called 46 = .ok (.aload_n 0, 1) := dk_42 (dk_at dksX1_called_2 10 rfl rfl)
theorem dX1_called_47 : decode cX1_called 47 = .ok (.checkcast 78, 3) := dk_192 0 78 (dk_at dksX1_called_2 11 rfl rfl)
theorem dX1_called_50 : decode cX1_called 50 = .ok (.invokeinterface 214 1, 5) := by decide +kernel
theorem dX1_called_55 : decode cX1_called 55 = .ok (.ireturn, 1) := dk_172 (dk_at dksX1_called_2 19 rfl rfl)
theorem dX1_called_56 : decode cX1_called 56 = .ok (.aload_n 0, 1) := dk_42 (dk_at dksX1_called_2 20 rfl rfl)
theorem dX1_called_57 : decode cX1_called 57 = .ok (.checkcast 78, 3) := dk_192 0 78 (dk_at dksX1_called_2 21 rfl rfl)
theorem dX1_called_60 : decode cX1_called 60 = .ok (.invokeinterface 217 1, 5) := by decide +kernel
theorem dX1_called_65 : decode cX1_called 65 = .ok (.ireturn, 1) := dk_172 (dk_at dksX1_called_3 5 rfl rfl)
theorem dX1_called_66 : decode cX1_called 66 = .ok (.aload_n 0, 1) := dk_42 (dk_at dksX1_called_3 6 rfl rfl)
theorem dX1_called_67 : decode cX1_called 67 = .ok (.checkcast 78, 3) := dk_192 0 78 (dk_at dksX1_called_3 7 rfl rfl)
theorem dX1_called_70 : decode cX1_called 70 = .ok (.invokeinterface 220 1, 5) := by decide +kernel
theorem dX1_called_75 : decode cX1_called 75 = .ok (.ireturn, 1) := dk_172 (dk_at dksX1_called_3 15 rfl rfl)
theorem dX1_called_76 : decode cX1_called 76 = .ok (.aload_n 0, 1) := dk_42 (dk_at dksX1_called_3 16 rfl rfl)
theorem dX1_called_77 : decode cX1_called 77 = .ok (.instanceof 72, 3) := dk_193 0 72 (dk_at dksX1_called_3 17 rfl rfl)
theorem dX1_called_80 : decode cX1_called 80 = .ok (.ifCond .eq 13, 3) := dk_153 0 13 (dk_at dksX1_called_3 20 rfl rfl)
theorem dX1_called_83 : decode cX1_called 83 = .ok (.aload_n 0, 1) := dk_42 (dk_at dksX1_called_3 23 rfl rfl)
theorem dX1_called_84 : decode cX1_called 84 = .ok (.checkcast 72, 3) := dk_192 0 72 (dk_at dksX1_called_4 0 rfl rfl)
theorem dX1_called_87 : decode cX1_called 87 = .ok (.getfield 223, 3) := dk_180 0 223 (dk_at dksX1_called_4 3 rfl rfl)
theorem dX1_called_90 : decode cX1_called 90 = .ok (.goto 10, 3) := dk_167 0 10 (dk_at dksX1_called_4 6 rfl rfl)
theorem dX1_called_93 : decode cX1_called 93 = .ok (.aload_n 0, 1) := dk_42 (dk_at dksX1_called_4 9 rfl rfl)
theorem dX1_called_94 : decode cX1_called 94 = .ok (.checkcast 41, 3) := dk_192 0 41 (dk_at dksX1_called_4 10 rfl rfl)
theorem dX1_called_97 : decode cX1_called 97 = .ok (.invokevirtual 226, 3) := dk_182 0 226 (dk_at dksX1_called_4 13 rfl rfl)
theorem dX1_called_100 : decode cX1_called 100 = .ok (.ireturn, 1) := dk_172 (dk_at dksX1_called_4 16 rfl rfl)
theorem dX1_called_101 : decode cX1_called 101 = .ok (.aload_n 0, 1) := dk_42 (dk_at dksX1_called_4 17 rfl rfl)
theorem dX1_called_102 : decode cX1_called 102 = .ok (.checkcast 41, 3) := dk_192 0 41 (dk_at dksX1_called_4 18 rfl rfl)
theorem dX1_called_105 : decode cX1_called 105 = .ok (.invokevirtual 229, 3) := dk_182 0 229 (dk_at dksX1_called_4 21 rfl rfl)
theorem dX1_called_108 : decode cX1_called 108 = .ok (.ireturn, 1) := dk_172 (dk_at dksX1_called_5 0 rfl rfl)
abbrev cX1_number : ByteArray := prog_1_method_44_code
def yX1_number : MethodName := ⟨RX1, "number", "(I)I"⟩
def dkwX1_number_1 : List UInt8 := [6, 182, 0, 49, 172]
abbrev dktX1_number_1 : List UInt8 := dkwX1_number_1 ++ []
def dkwX1_number_0 : List UInt8 := [42, 27, 182, 0, 45, 77, 44, 192, 0, 41, 180, 0, 236, 172, 78, 42, 16, 6, 182, 0, 49, 172, 78, 42]
abbrev dktX1_number_0 : List UInt8 := dkwX1_number_0 ++ dktX1_number_1
theorem dksX1_number_0 : cX1_number.data.toList.drop 0 = dktX1_number_0 := by decide +kernel
theorem dksX1_number_1 : cX1_number.data.toList.drop 24 = dktX1_number_1 := dk_seg dksX1_number_0 24 rfl rfl
theorem dX1_number_0 : decode cX1_number 0 = .ok (.aload_n 0, 1) := dk_42 (dk_at dksX1_number_0 0 rfl rfl)
theorem dX1_number_1 : decode cX1_number 1 = .ok (.iload_n 1, 1) := dk_27 (dk_at dksX1_number_0 1 rfl rfl)
theorem dX1_number_2 : decode cX1_number 2 = .ok (.invokevirtual 45, 3) := dk_182 0 45 (dk_at dksX1_number_0 2 rfl rfl)
theorem dX1_number_5 : decode cX1_number 5 = .ok (.astore_n 2, 1) := dk_77 (dk_at dksX1_number_0 5 rfl rfl)
theorem dX1_number_6 : decode cX1_number 6 = .ok (.aload_n 2, 1) := dk_44 (dk_at dksX1_number_0 6 rfl rfl)
theorem dX1_number_7 : decode cX1_number 7 = .ok (.checkcast 41, 3) := dk_192 0 41 (dk_at dksX1_number_0 7 rfl rfl)
theorem dX1_number_10 : decode cX1_number 10 = .ok (.getfield 236, 3) := dk_180 0 236 (dk_at dksX1_number_0 10 rfl rfl)
theorem dX1_number_13 : decode cX1_number 13 = .ok (.ireturn, 1) := dk_172 (dk_at dksX1_number_0 13 rfl rfl)
theorem dX1_number_14 : decode cX1_number 14 = .ok (.astore_n 3, 1) := dk_78 (dk_at dksX1_number_0 14 rfl rfl)
theorem dX1_number_15 : decode cX1_number 15 = .ok (.aload_n 0, 1) := dk_42 (dk_at dksX1_number_0 15 rfl rfl)
theorem dX1_number_16 : decode cX1_number 16 = .ok (.bipush 6, 2) := dk_16 6 (dk_at dksX1_number_0 16 rfl rfl)
theorem dX1_number_18 : decode cX1_number 18 = .ok (.invokevirtual 49, 3) := dk_182 0 49 (dk_at dksX1_number_0 18 rfl rfl)
theorem dX1_number_21 : decode cX1_number 21 = .ok (.ireturn, 1) := dk_172 (dk_at dksX1_number_0 21 rfl rfl)
theorem dX1_number_22 : decode cX1_number 22 = .ok (.astore_n 3, 1) := dk_78 (dk_at dksX1_number_0 22 rfl rfl)
theorem dX1_number_23 : decode cX1_number 23 = .ok (.aload_n 0, 1) := dk_42 (dk_at dksX1_number_0 23 rfl rfl)
theorem dX1_number_24 : decode cX1_number 24 = .ok (.iconst 3, 1) := dk_6 (dk_at dksX1_number_1 0 rfl rfl)
theorem dX1_number_25 : decode cX1_number 25 = .ok (.invokevirtual 49, 3) := dk_182 0 49 (dk_at dksX1_number_1 1 rfl rfl)
theorem dX1_number_28 : decode cX1_number 28 = .ok (.ireturn, 1) := dk_172 (dk_at dksX1_number_1 4 rfl rfl)
abbrev cX1_setNumber : ByteArray := prog_1_method_45_code
def yX1_setNumber : MethodName := ⟨RX1, "setNumber", "(II)I"⟩
def dkwX1_setNumber_1 : List UInt8 := [21, 4, 172, 58, 4, 42, 16, 6, 182, 0, 49, 172, 58, 4, 42, 6, 182, 0, 49, 172]
abbrev dktX1_setNumber_1 : List UInt8 := dkwX1_setNumber_1 ++ []
def dkwX1_setNumber_0 : List UInt8 := [42, 27, 182, 0, 45, 78, 45, 192, 0, 41, 180, 0, 236, 54, 4, 45, 192, 0, 41, 28, 181, 0, 236]
abbrev dktX1_setNumber_0 : List UInt8 := dkwX1_setNumber_0 ++ dktX1_setNumber_1
theorem dksX1_setNumber_0 : cX1_setNumber.data.toList.drop 0 = dktX1_setNumber_0 := by decide +kernel
theorem dksX1_setNumber_1 : cX1_setNumber.data.toList.drop 23 = dktX1_setNumber_1 := dk_seg dksX1_setNumber_0 23 rfl rfl
theorem dX1_setNumber_0 : decode cX1_setNumber 0 = .ok (.aload_n 0, 1) := dk_42 (dk_at dksX1_setNumber_0 0 rfl rfl)
theorem dX1_setNumber_1 : decode cX1_setNumber 1 = .ok (.iload_n 1, 1) := dk_27 (dk_at dksX1_setNumber_0 1 rfl rfl)
theorem dX1_setNumber_2 : decode cX1_setNumber 2 = .ok (.invokevirtual 45, 3) := dk_182 0 45 (dk_at dksX1_setNumber_0 2 rfl rfl)
theorem dX1_setNumber_5 : decode cX1_setNumber 5 = .ok (.astore_n 3, 1) := dk_78 (dk_at dksX1_setNumber_0 5 rfl rfl)
theorem dX1_setNumber_6 : decode cX1_setNumber 6 = .ok (.aload_n 3, 1) := dk_45 (dk_at dksX1_setNumber_0 6 rfl rfl)
theorem dX1_setNumber_7 : decode cX1_setNumber 7 = .ok (.checkcast 41, 3) := dk_192 0 41 (dk_at dksX1_setNumber_0 7 rfl rfl)
theorem dX1_setNumber_10 : decode cX1_setNumber 10 = .ok (.getfield 236, 3) := dk_180 0 236 (dk_at dksX1_setNumber_0 10 rfl rfl)
theorem dX1_setNumber_13 : decode cX1_setNumber 13 = .ok (.istore 4, 2) := dk_54 4 (dk_at dksX1_setNumber_0 13 rfl rfl)
theorem dX1_setNumber_15 : decode cX1_setNumber 15 = .ok (.aload_n 3, 1) := dk_45 (dk_at dksX1_setNumber_0 15 rfl rfl)
theorem dX1_setNumber_16 : decode cX1_setNumber 16 = .ok (.checkcast 41, 3) := dk_192 0 41 (dk_at dksX1_setNumber_0 16 rfl rfl)
theorem dX1_setNumber_19 : decode cX1_setNumber 19 = .ok (.iload_n 2, 1) := dk_28 (dk_at dksX1_setNumber_0 19 rfl rfl)
theorem dX1_setNumber_20 : decode cX1_setNumber 20 = .ok (.putfield 236, 3) := dk_181 0 236 (dk_at dksX1_setNumber_0 20 rfl rfl)
theorem dX1_setNumber_23 : decode cX1_setNumber 23 = .ok (.iload 4, 2) := dk_21 4 (dk_at dksX1_setNumber_1 0 rfl rfl)
theorem dX1_setNumber_25 : decode cX1_setNumber 25 = .ok (.ireturn, 1) := dk_172 (dk_at dksX1_setNumber_1 2 rfl rfl)
theorem dX1_setNumber_26 : decode cX1_setNumber 26 = .ok (.astore 4, 2) := dk_58 4 (dk_at dksX1_setNumber_1 3 rfl rfl)
theorem dX1_setNumber_28 : decode cX1_setNumber 28 = .ok (.aload_n 0, 1) := dk_42 (dk_at dksX1_setNumber_1 5 rfl rfl)
theorem dX1_setNumber_29 : decode cX1_setNumber 29 = .ok (.bipush 6, 2) := dk_16 6 (dk_at dksX1_setNumber_1 6 rfl rfl)
theorem dX1_setNumber_31 : decode cX1_setNumber 31 = .ok (.invokevirtual 49, 3) := dk_182 0 49 (dk_at dksX1_setNumber_1 8 rfl rfl)
theorem dX1_setNumber_34 : decode cX1_setNumber 34 = .ok (.ireturn, 1) := dk_172 (dk_at dksX1_setNumber_1 11 rfl rfl)
theorem dX1_setNumber_35 : decode cX1_setNumber 35 = .ok (.astore 4, 2) := dk_58 4 (dk_at dksX1_setNumber_1 12 rfl rfl)
theorem dX1_setNumber_37 : decode cX1_setNumber 37 = .ok (.aload_n 0, 1) := dk_42 (dk_at dksX1_setNumber_1 14 rfl rfl)
theorem dX1_setNumber_38 : decode cX1_setNumber 38 = .ok (.iconst 3, 1) := dk_6 (dk_at dksX1_setNumber_1 15 rfl rfl)
theorem dX1_setNumber_39 : decode cX1_setNumber 39 = .ok (.invokevirtual 49, 3) := dk_182 0 49 (dk_at dksX1_setNumber_1 16 rfl rfl)
theorem dX1_setNumber_42 : decode cX1_setNumber 42 = .ok (.ireturn, 1) := dk_172 (dk_at dksX1_setNumber_1 19 rfl rfl)
abbrev cX1_raise : ByteArray := prog_1_method_47_code
def yX1_raise : MethodName := ⟨RX1, "raise", "(II)I"⟩
def dkwX1_raise_3 : List UInt8 := [172]
abbrev dktX1_raise_3 : List UInt8 := dkwX1_raise_3 ++ []
def dkwX1_raise_2 : List UInt8 := [54, 4, 167, 0, 12, 58, 5, 42, 6, 182, 0, 49, 54, 4, 42, 42, 180, 0, 241, 181, 0, 245, 21, 4]
abbrev dktX1_raise_2 : List UInt8 := dkwX1_raise_2 ++ dktX1_raise_3
def dkwX1_raise_1 : List UInt8 := [167, 0, 37, 58, 5, 25, 5, 180, 0, 244, 54, 4, 167, 0, 25, 58, 5, 42, 16, 6, 182, 0, 49]
abbrev dktX1_raise_1 : List UInt8 := dkwX1_raise_1 ++ dktX1_raise_2
def dkwX1_raise_0 : List UInt8 := [42, 27, 182, 0, 45, 78, 3, 54, 4, 42, 3, 181, 0, 241, 42, 45, 28, 16, 7, 126, 182, 0, 237]
abbrev dktX1_raise_0 : List UInt8 := dkwX1_raise_0 ++ dktX1_raise_1
theorem dksX1_raise_0 : cX1_raise.data.toList.drop 0 = dktX1_raise_0 := by decide +kernel
theorem dksX1_raise_1 : cX1_raise.data.toList.drop 23 = dktX1_raise_1 := dk_seg dksX1_raise_0 23 rfl rfl
theorem dksX1_raise_2 : cX1_raise.data.toList.drop 46 = dktX1_raise_2 := dk_seg dksX1_raise_1 23 rfl rfl
theorem dksX1_raise_3 : cX1_raise.data.toList.drop 70 = dktX1_raise_3 := dk_seg dksX1_raise_2 24 rfl rfl
theorem dX1_raise_0 : decode cX1_raise 0 = .ok (.aload_n 0, 1) := dk_42 (dk_at dksX1_raise_0 0 rfl rfl)
theorem dX1_raise_1 : decode cX1_raise 1 = .ok (.iload_n 1, 1) := dk_27 (dk_at dksX1_raise_0 1 rfl rfl)
theorem dX1_raise_2 : decode cX1_raise 2 = .ok (.invokevirtual 45, 3) := dk_182 0 45 (dk_at dksX1_raise_0 2 rfl rfl)
theorem dX1_raise_5 : decode cX1_raise 5 = .ok (.astore_n 3, 1) := dk_78 (dk_at dksX1_raise_0 5 rfl rfl)
theorem dX1_raise_6 : decode cX1_raise 6 = .ok (.iconst 0, 1) := dk_3 (dk_at dksX1_raise_0 6 rfl rfl)
theorem dX1_raise_7 : decode cX1_raise 7 = .ok (.istore 4, 2) := dk_54 4 (dk_at dksX1_raise_0 7 rfl rfl)
theorem dX1_raise_9 : decode cX1_raise 9 = .ok (.aload_n 0, 1) := dk_42 (dk_at dksX1_raise_0 9 rfl rfl)
theorem dX1_raise_10 : decode cX1_raise 10 = .ok (.iconst 0, 1) := dk_3 (dk_at dksX1_raise_0 10 rfl rfl)
theorem dX1_raise_11 : decode cX1_raise 11 = .ok (.putfield 241, 3) := dk_181 0 241 (dk_at dksX1_raise_0 11 rfl rfl)
theorem dX1_raise_14 : decode cX1_raise 14 = .ok (.aload_n 0, 1) := dk_42 (dk_at dksX1_raise_0 14 rfl rfl)
theorem dX1_raise_15 : decode cX1_raise 15 = .ok (.aload_n 3, 1) := dk_45 (dk_at dksX1_raise_0 15 rfl rfl)
theorem dX1_raise_16 : decode cX1_raise 16 = .ok (.iload_n 2, 1) := dk_28 (dk_at dksX1_raise_0 16 rfl rfl)
theorem dX1_raise_17 : decode cX1_raise 17 = .ok (.bipush 7, 2) := dk_16 7 (dk_at dksX1_raise_0 17 rfl rfl)
theorem dX1_raise_19 : decode cX1_raise 19 = .ok (.iand, 1) := dk_126 (dk_at dksX1_raise_0 19 rfl rfl)
theorem dX1_raise_20 : decode cX1_raise 20 = .ok (.invokevirtual 237, 3) := dk_182 0 237 (dk_at dksX1_raise_0 20 rfl rfl)
theorem dX1_raise_23 : decode cX1_raise 23 = .ok (.goto 37, 3) := dk_167 0 37 (dk_at dksX1_raise_1 0 rfl rfl)
theorem dX1_raise_26 : decode cX1_raise 26 = .ok (.astore 5, 2) := dk_58 5 (dk_at dksX1_raise_1 3 rfl rfl)
theorem dX1_raise_28 : decode cX1_raise 28 = .ok (.aload 5, 2) := dk_25 5 (dk_at dksX1_raise_1 5 rfl rfl)
theorem dX1_raise_30 : decode cX1_raise 30 = .ok (.getfield 244, 3) := dk_180 0 244 (dk_at dksX1_raise_1 7 rfl rfl)
theorem dX1_raise_33 : decode cX1_raise 33 = .ok (.istore 4, 2) := dk_54 4 (dk_at dksX1_raise_1 10 rfl rfl)
theorem dX1_raise_35 : decode cX1_raise 35 = .ok (.goto 25, 3) := dk_167 0 25 (dk_at dksX1_raise_1 12 rfl rfl)
theorem dX1_raise_38 : decode cX1_raise 38 = .ok (.astore 5, 2) := dk_58 5 (dk_at dksX1_raise_1 15 rfl rfl)
theorem dX1_raise_40 : decode cX1_raise 40 = .ok (.aload_n 0, 1) := dk_42 (dk_at dksX1_raise_1 17 rfl rfl)
theorem dX1_raise_41 : decode cX1_raise 41 = .ok (.bipush 6, 2) := dk_16 6 (dk_at dksX1_raise_1 18 rfl rfl)
theorem dX1_raise_43 : decode cX1_raise 43 = .ok (.invokevirtual 49, 3) := dk_182 0 49 (dk_at dksX1_raise_1 20 rfl rfl)
theorem dX1_raise_46 : decode cX1_raise 46 = .ok (.istore 4, 2) := dk_54 4 (dk_at dksX1_raise_2 0 rfl rfl)
theorem dX1_raise_48 : decode cX1_raise 48 = .ok (.goto 12, 3) := dk_167 0 12 (dk_at dksX1_raise_2 2 rfl rfl)
theorem dX1_raise_51 : decode cX1_raise 51 = .ok (.astore 5, 2) := dk_58 5 (dk_at dksX1_raise_2 5 rfl rfl)
theorem dX1_raise_53 : decode cX1_raise 53 = .ok (.aload_n 0, 1) := dk_42 (dk_at dksX1_raise_2 7 rfl rfl)
theorem dX1_raise_54 : decode cX1_raise 54 = .ok (.iconst 3, 1) := dk_6 (dk_at dksX1_raise_2 8 rfl rfl)
theorem dX1_raise_55 : decode cX1_raise 55 = .ok (.invokevirtual 49, 3) := dk_182 0 49 (dk_at dksX1_raise_2 9 rfl rfl)
theorem dX1_raise_58 : decode cX1_raise 58 = .ok (.istore 4, 2) := dk_54 4 (dk_at dksX1_raise_2 12 rfl rfl)
theorem dX1_raise_60 : decode cX1_raise 60 = .ok (.aload_n 0, 1) := dk_42 (dk_at dksX1_raise_2 14 rfl rfl)
theorem dX1_raise_61 : decode cX1_raise 61 = .ok (.aload_n 0, 1) := dk_42 (dk_at dksX1_raise_2 15 rfl rfl)
theorem dX1_raise_62 : decode cX1_raise 62 = .ok (.getfield 241, 3) := dk_180 0 241 (dk_at dksX1_raise_2 16 rfl rfl)
theorem dX1_raise_65 : decode cX1_raise 65 = .ok (.putfield 245, 3) := dk_181 0 245 (dk_at dksX1_raise_2 19 rfl rfl)
theorem dX1_raise_68 : decode cX1_raise 68 = .ok (.iload 4, 2) := dk_21 4 (dk_at dksX1_raise_2 22 rfl rfl)
theorem dX1_raise_70 : decode cX1_raise 70 = .ok (.ireturn, 1) := dk_172 (dk_at dksX1_raise_3 0 rfl rfl)
abbrev cX1_below : ByteArray := prog_1_method_46_code
def yX1_below : MethodName := ⟨RX1, "below", "(Ljava/lang/Object;I)V"⟩
def dkwX1_below_1 : List UInt8 := [181, 0, 241, 167, 0, 16, 78, 42, 89, 180, 0, 241, 4, 96, 181, 0, 241, 45, 191, 177]
abbrev dktX1_below_1 : List UInt8 := dkwX1_below_1 ++ []
def dkwX1_below_0 : List UInt8 := [28, 154, 0, 8, 43, 192, 0, 75, 191, 42, 43, 28, 4, 100, 182, 0, 237, 42, 89, 180, 0, 241, 4, 96]
abbrev dktX1_below_0 : List UInt8 := dkwX1_below_0 ++ dktX1_below_1
theorem dksX1_below_0 : cX1_below.data.toList.drop 0 = dktX1_below_0 := by decide +kernel
theorem dksX1_below_1 : cX1_below.data.toList.drop 24 = dktX1_below_1 := dk_seg dksX1_below_0 24 rfl rfl
theorem dX1_below_0 : decode cX1_below 0 = .ok (.iload_n 2, 1) := dk_28 (dk_at dksX1_below_0 0 rfl rfl)
theorem dX1_below_1 : decode cX1_below 1 = .ok (.ifCond .ne 8, 3) := dk_154 0 8 (dk_at dksX1_below_0 1 rfl rfl)
theorem dX1_below_4 : decode cX1_below 4 = .ok (.aload_n 1, 1) := dk_43 (dk_at dksX1_below_0 4 rfl rfl)
theorem dX1_below_5 : decode cX1_below 5 = .ok (.checkcast 75, 3) := dk_192 0 75 (dk_at dksX1_below_0 5 rfl rfl)
theorem dX1_below_8 : decode cX1_below 8 = .ok (.athrow, 1) := dk_191 (dk_at dksX1_below_0 8 rfl rfl)
theorem dX1_below_9 : decode cX1_below 9 = .ok (.aload_n 0, 1) := dk_42 (dk_at dksX1_below_0 9 rfl rfl)
theorem dX1_below_10 : decode cX1_below 10 = .ok (.aload_n 1, 1) := dk_43 (dk_at dksX1_below_0 10 rfl rfl)
theorem dX1_below_11 : decode cX1_below 11 = .ok (.iload_n 2, 1) := dk_28 (dk_at dksX1_below_0 11 rfl rfl)
theorem dX1_below_12 : decode cX1_below 12 = .ok (.iconst 1, 1) := dk_4 (dk_at dksX1_below_0 12 rfl rfl)
theorem dX1_below_13 : decode cX1_below 13 = .ok (.isub, 1) := dk_100 (dk_at dksX1_below_0 13 rfl rfl)
theorem dX1_below_14 : decode cX1_below 14 = .ok (.invokevirtual 237, 3) := dk_182 0 237 (dk_at dksX1_below_0 14 rfl rfl)
theorem dX1_below_17 : decode cX1_below 17 = .ok (.aload_n 0, 1) := dk_42 (dk_at dksX1_below_0 17 rfl rfl)
theorem dX1_below_18 : decode cX1_below 18 = .ok (.dup, 1) := dk_89 (dk_at dksX1_below_0 18 rfl rfl)
theorem dX1_below_19 : decode cX1_below 19 = .ok (.getfield 241, 3) := dk_180 0 241 (dk_at dksX1_below_0 19 rfl rfl)
theorem dX1_below_22 : decode cX1_below 22 = .ok (.iconst 1, 1) := dk_4 (dk_at dksX1_below_0 22 rfl rfl)
theorem dX1_below_23 : decode cX1_below 23 = .ok (.iadd, 1) := dk_96 (dk_at dksX1_below_0 23 rfl rfl)
theorem dX1_below_24 : decode cX1_below 24 = .ok (.putfield 241, 3) := dk_181 0 241 (dk_at dksX1_below_1 0 rfl rfl)
theorem dX1_below_27 : decode cX1_below 27 = .ok (.goto 16, 3) := dk_167 0 16 (dk_at dksX1_below_1 3 rfl rfl)
theorem dX1_below_30 : decode cX1_below 30 = .ok (.astore_n 3, 1) := dk_78 (dk_at dksX1_below_1 6 rfl rfl)
theorem dX1_below_31 : decode cX1_below 31 = .ok (.aload_n 0, 1) := dk_42 (dk_at dksX1_below_1 7 rfl rfl)
theorem dX1_below_32 : decode cX1_below 32 = .ok (.dup, 1) := dk_89 (dk_at dksX1_below_1 8 rfl rfl)
theorem dX1_below_33 : decode cX1_below 33 = .ok (.getfield 241, 3) := dk_180 0 241 (dk_at dksX1_below_1 9 rfl rfl)
theorem dX1_below_36 : decode cX1_below 36 = .ok (.iconst 1, 1) := dk_4 (dk_at dksX1_below_1 12 rfl rfl)
theorem dX1_below_37 : decode cX1_below 37 = .ok (.iadd, 1) := dk_96 (dk_at dksX1_below_1 13 rfl rfl)
theorem dX1_below_38 : decode cX1_below 38 = .ok (.putfield 241, 3) := dk_181 0 241 (dk_at dksX1_below_1 14 rfl rfl)
theorem dX1_below_41 : decode cX1_below 41 = .ok (.aload_n 3, 1) := dk_45 (dk_at dksX1_below_1 17 rfl rfl)
theorem dX1_below_42 : decode cX1_below 42 = .ok (.athrow, 1) := dk_191 (dk_at dksX1_below_1 18 rfl rfl)
theorem dX1_below_43 : decode cX1_below 43 = .ok (.return_, 1) := dk_177 (dk_at dksX1_below_1 19 rfl rfl)
abbrev cX1_trail : ByteArray := prog_1_method_48_code
def yX1_trail : MethodName := ⟨RX1, "trail", "()I"⟩
theorem dX1_trail_0 : decode cX1_trail 0 = .ok (.aload_n 0, 1) := by decide +kernel
theorem dX1_trail_1 : decode cX1_trail 1 = .ok (.getfield 245, 3) := by decide +kernel
theorem dX1_trail_4 : decode cX1_trail 4 = .ok (.ireturn, 1) := by decide +kernel
abbrev cX1_divide : ByteArray := prog_1_method_49_code
def yX1_divide : MethodName := ⟨RX1, "divide", "(JJZZ)J"⟩
def dkwX1_divide_2 : List UInt8 := [167, 0, 6, 31, 33, 109, 173, 58, 7, 42, 16, 7, 182, 0, 49, 133, 173]
abbrev dktX1_divide_2 : List UInt8 := dkwX1_divide_2 ++ []
def dkwX1_divide_1 : List UInt8 := [21, 7, 21, 8, 112, 133, 167, 0, 9, 21, 7, 21, 8, 108, 133, 173, 21, 5, 153, 0, 9, 31, 33, 113]
abbrev dktX1_divide_1 : List UInt8 := dkwX1_divide_1 ++ dktX1_divide_2
def dkwX1_divide_0 : List UInt8 := [42, 3, 181, 0, 33, 21, 6, 153, 0, 32, 31, 136, 54, 7, 33, 136, 54, 8, 21, 5, 153, 0, 12]
abbrev dktX1_divide_0 : List UInt8 := dkwX1_divide_0 ++ dktX1_divide_1
theorem dksX1_divide_0 : cX1_divide.data.toList.drop 0 = dktX1_divide_0 := by decide +kernel
theorem dksX1_divide_1 : cX1_divide.data.toList.drop 23 = dktX1_divide_1 := dk_seg dksX1_divide_0 23 rfl rfl
theorem dksX1_divide_2 : cX1_divide.data.toList.drop 47 = dktX1_divide_2 := dk_seg dksX1_divide_1 24 rfl rfl
theorem dX1_divide_0 : decode cX1_divide 0 = .ok (.aload_n 0, 1) := dk_42 (dk_at dksX1_divide_0 0 rfl rfl)
theorem dX1_divide_1 : decode cX1_divide 1 = .ok (.iconst 0, 1) := dk_3 (dk_at dksX1_divide_0 1 rfl rfl)
theorem dX1_divide_2 : decode cX1_divide 2 = .ok (.putfield 33, 3) := dk_181 0 33 (dk_at dksX1_divide_0 2 rfl rfl)
theorem dX1_divide_5 : decode cX1_divide 5 = .ok (.iload 6, 2) := dk_21 6 (dk_at dksX1_divide_0 5 rfl rfl)
theorem dX1_divide_7 : decode cX1_divide 7 = .ok (.ifCond .eq 32, 3) := dk_153 0 32 (dk_at dksX1_divide_0 7 rfl rfl)
theorem dX1_divide_10 : decode cX1_divide 10 = .ok (.lload_n 1, 1) := dk_31 (dk_at dksX1_divide_0 10 rfl rfl)
theorem dX1_divide_11 : decode cX1_divide 11 = .ok (.l2i, 1) := dk_136 (dk_at dksX1_divide_0 11 rfl rfl)
theorem dX1_divide_12 : decode cX1_divide 12 = .ok (.istore 7, 2) := dk_54 7 (dk_at dksX1_divide_0 12 rfl rfl)
theorem dX1_divide_14 : decode cX1_divide 14 = .ok (.lload_n 3, 1) := dk_33 (dk_at dksX1_divide_0 14 rfl rfl)
theorem dX1_divide_15 : decode cX1_divide 15 = .ok (.l2i, 1) := dk_136 (dk_at dksX1_divide_0 15 rfl rfl)
theorem dX1_divide_16 : decode cX1_divide 16 = .ok (.istore 8, 2) := dk_54 8 (dk_at dksX1_divide_0 16 rfl rfl)
theorem dX1_divide_18 : decode cX1_divide 18 = .ok (.iload 5, 2) := dk_21 5 (dk_at dksX1_divide_0 18 rfl rfl)
theorem dX1_divide_20 : decode cX1_divide 20 = .ok (.ifCond .eq 12, 3) := dk_153 0 12 (dk_at dksX1_divide_0 20 rfl rfl)
theorem dX1_divide_23 : decode cX1_divide 23 = .ok (.iload 7, 2) := dk_21 7 (dk_at dksX1_divide_1 0 rfl rfl)
theorem dX1_divide_25 : decode cX1_divide 25 = .ok (.iload 8, 2) := dk_21 8 (dk_at dksX1_divide_1 2 rfl rfl)
theorem dX1_divide_27 : decode cX1_divide 27 = .ok (.irem, 1) := dk_112 (dk_at dksX1_divide_1 4 rfl rfl)
theorem dX1_divide_28 : decode cX1_divide 28 = .ok (.i2l, 1) := dk_133 (dk_at dksX1_divide_1 5 rfl rfl)
theorem dX1_divide_29 : decode cX1_divide 29 = .ok (.goto 9, 3) := dk_167 0 9 (dk_at dksX1_divide_1 6 rfl rfl)
theorem dX1_divide_32 : decode cX1_divide 32 = .ok (.iload 7, 2) := dk_21 7 (dk_at dksX1_divide_1 9 rfl rfl)
theorem dX1_divide_34 : decode cX1_divide 34 = .ok (.iload 8, 2) := dk_21 8 (dk_at dksX1_divide_1 11 rfl rfl)
theorem dX1_divide_36 : decode cX1_divide 36 = .ok (.idiv, 1) := dk_108 (dk_at dksX1_divide_1 13 rfl rfl)
theorem dX1_divide_37 : decode cX1_divide 37 = .ok (.i2l, 1) := dk_133 (dk_at dksX1_divide_1 14 rfl rfl)
theorem dX1_divide_38 : decode cX1_divide 38 = .ok (.lreturn, 1) := dk_173 (dk_at dksX1_divide_1 15 rfl rfl)
theorem dX1_divide_39 : decode cX1_divide 39 = .ok (.iload 5, 2) := dk_21 5 (dk_at dksX1_divide_1 16 rfl rfl)
theorem dX1_divide_41 : decode cX1_divide 41 = .ok (.ifCond .eq 9, 3) := dk_153 0 9 (dk_at dksX1_divide_1 18 rfl rfl)
theorem dX1_divide_44 : decode cX1_divide 44 = .ok (.lload_n 1, 1) := dk_31 (dk_at dksX1_divide_1 21 rfl rfl)
theorem dX1_divide_45 : decode cX1_divide 45 = .ok (.lload_n 3, 1) := dk_33 (dk_at dksX1_divide_1 22 rfl rfl)
theorem dX1_divide_46 : decode cX1_divide 46 = .ok (.lrem, 1) := dk_113 (dk_at dksX1_divide_1 23 rfl rfl)
theorem dX1_divide_47 : decode cX1_divide 47 = .ok (.goto 6, 3) := dk_167 0 6 (dk_at dksX1_divide_2 0 rfl rfl)
theorem dX1_divide_50 : decode cX1_divide 50 = .ok (.lload_n 1, 1) := dk_31 (dk_at dksX1_divide_2 3 rfl rfl)
theorem dX1_divide_51 : decode cX1_divide 51 = .ok (.lload_n 3, 1) := dk_33 (dk_at dksX1_divide_2 4 rfl rfl)
theorem dX1_divide_52 : decode cX1_divide 52 = .ok (.ldiv, 1) := dk_109 (dk_at dksX1_divide_2 5 rfl rfl)
theorem dX1_divide_53 : decode cX1_divide 53 = .ok (.lreturn, 1) := dk_173 (dk_at dksX1_divide_2 6 rfl rfl)
theorem dX1_divide_54 : decode cX1_divide 54 = .ok (.astore 7, 2) := dk_58 7 (dk_at dksX1_divide_2 7 rfl rfl)
theorem dX1_divide_56 : decode cX1_divide 56 = .ok (.aload_n 0, 1) := dk_42 (dk_at dksX1_divide_2 9 rfl rfl)
theorem dX1_divide_57 : decode cX1_divide 57 = .ok (.bipush 7, 2) := dk_16 7 (dk_at dksX1_divide_2 10 rfl rfl)
theorem dX1_divide_59 : decode cX1_divide 59 = .ok (.invokevirtual 49, 3) := dk_182 0 49 (dk_at dksX1_divide_2 12 rfl rfl)
theorem dX1_divide_62 : decode cX1_divide 62 = .ok (.i2l, 1) := dk_133 (dk_at dksX1_divide_2 15 rfl rfl)
theorem dX1_divide_63 : decode cX1_divide 63 = .ok (.lreturn, 1) := dk_173 (dk_at dksX1_divide_2 16 rfl rfl)
abbrev cX1_reckon : ByteArray := prog_1_method_53_code
def yX1_reckon : MethodName := ⟨RX1, "reckon", "(IJJ)J"⟩
def dkwX1_reckon_1 : List UInt8 := [184, 0, 178, 22, 4, 184, 0, 178, 184, 1, 33, 184, 0, 152, 173]
abbrev dktX1_reckon_1 : List UInt8 := dkwX1_reckon_1 ++ []
def dkwX1_reckon_0 : List UInt8 := [42, 3, 181, 0, 33, 27, 155, 0, 9, 27, 16, 14, 164, 0, 10, 42, 4, 182, 0, 49, 133, 173, 27, 32]
abbrev dktX1_reckon_0 : List UInt8 := dkwX1_reckon_0 ++ dktX1_reckon_1
theorem dksX1_reckon_0 : cX1_reckon.data.toList.drop 0 = dktX1_reckon_0 := by decide +kernel
theorem dksX1_reckon_1 : cX1_reckon.data.toList.drop 24 = dktX1_reckon_1 := dk_seg dksX1_reckon_0 24 rfl rfl
theorem dX1_reckon_0 : decode cX1_reckon 0 = .ok (.aload_n 0, 1) := dk_42 (dk_at dksX1_reckon_0 0 rfl rfl)
theorem dX1_reckon_1 : decode cX1_reckon 1 = .ok (.iconst 0, 1) := dk_3 (dk_at dksX1_reckon_0 1 rfl rfl)
theorem dX1_reckon_2 : decode cX1_reckon 2 = .ok (.putfield 33, 3) := dk_181 0 33 (dk_at dksX1_reckon_0 2 rfl rfl)
theorem dX1_reckon_5 : decode cX1_reckon 5 = .ok (.iload_n 1, 1) := dk_27 (dk_at dksX1_reckon_0 5 rfl rfl)
theorem dX1_reckon_6 : decode cX1_reckon 6 = .ok (.ifCond .lt 9, 3) := dk_155 0 9 (dk_at dksX1_reckon_0 6 rfl rfl)
theorem dX1_reckon_9 : decode cX1_reckon 9 = .ok (.iload_n 1, 1) := dk_27 (dk_at dksX1_reckon_0 9 rfl rfl)
theorem dX1_reckon_10 : decode cX1_reckon 10 = .ok (.bipush 14, 2) := dk_16 14 (dk_at dksX1_reckon_0 10 rfl rfl)
theorem dX1_reckon_12 : decode cX1_reckon 12 = .ok (.if_icmp .le 10, 3) := dk_164 0 10 (dk_at dksX1_reckon_0 12 rfl rfl)
theorem dX1_reckon_15 : decode cX1_reckon 15 = .ok (.aload_n 0, 1) := dk_42 (dk_at dksX1_reckon_0 15 rfl rfl)
theorem dX1_reckon_16 : decode cX1_reckon 16 = .ok (.iconst 1, 1) := dk_4 (dk_at dksX1_reckon_0 16 rfl rfl)
theorem dX1_reckon_17 : decode cX1_reckon 17 = .ok (.invokevirtual 49, 3) := dk_182 0 49 (dk_at dksX1_reckon_0 17 rfl rfl)
theorem dX1_reckon_20 : decode cX1_reckon 20 = .ok (.i2l, 1) := dk_133 (dk_at dksX1_reckon_0 20 rfl rfl)
theorem dX1_reckon_21 : decode cX1_reckon 21 = .ok (.lreturn, 1) := dk_173 (dk_at dksX1_reckon_0 21 rfl rfl)
theorem dX1_reckon_22 : decode cX1_reckon 22 = .ok (.iload_n 1, 1) := dk_27 (dk_at dksX1_reckon_0 22 rfl rfl)
theorem dX1_reckon_23 : decode cX1_reckon 23 = .ok (.lload_n 2, 1) := dk_32 (dk_at dksX1_reckon_0 23 rfl rfl)
theorem dX1_reckon_24 : decode cX1_reckon 24 = .ok (.invokestatic 178, 3) := dk_184 0 178 (dk_at dksX1_reckon_1 0 rfl rfl)
theorem dX1_reckon_27 : decode cX1_reckon 27 = .ok (.lload 4, 2) := dk_22 4 (dk_at dksX1_reckon_1 3 rfl rfl)
theorem dX1_reckon_29 : decode cX1_reckon 29 = .ok (.invokestatic 178, 3) := dk_184 0 178 (dk_at dksX1_reckon_1 5 rfl rfl)
theorem dX1_reckon_32 : decode cX1_reckon 32 = .ok (.invokestatic 289, 3) := dk_184 1 33 (dk_at dksX1_reckon_1 8 rfl rfl)
theorem dX1_reckon_35 : decode cX1_reckon 35 = .ok (.invokestatic 152, 3) := dk_184 0 152 (dk_at dksX1_reckon_1 11 rfl rfl)
theorem dX1_reckon_38 : decode cX1_reckon 38 = .ok (.lreturn, 1) := dk_173 (dk_at dksX1_reckon_1 14 rfl rfl)
abbrev cX1_reckoned : ByteArray := prog_1_method_52_code
def yX1_reckoned : MethodName := ⟨RX1, "reckoned", "(IDD)D"⟩
def dkwX1_reckoned_5 : List UInt8 := [39, 184, 1, 27, 175, 39, 184, 1, 30, 175, 39, 119, 175]
abbrev dktX1_reckoned_5 : List UInt8 := dkwX1_reckoned_5 ++ []
def dkwX1_reckoned_4 : List UInt8 := [184, 1, 11, 175, 39, 184, 1, 14, 175, 39, 184, 1, 18, 175, 39, 184, 1, 21, 175, 39, 184, 1, 24, 175]
abbrev dktX1_reckoned_4 : List UInt8 := dkwX1_reckoned_4 ++ dktX1_reckoned_5
def dkwX1_reckoned_3 : List UInt8 := [184, 1, 6, 175, 39, 41, 184, 1, 9, 175, 39, 41, 41, 151, 153, 0, 7, 15, 167, 0, 4, 41]
abbrev dktX1_reckoned_3 : List UInt8 := dkwX1_reckoned_3 ++ dktX1_reckoned_4
def dkwX1_reckoned_2 : List UInt8 := [39, 41, 99, 175, 39, 41, 103, 175, 39, 41, 107, 175, 39, 41, 111, 175, 39, 41, 115, 175, 39, 41]
abbrev dktX1_reckoned_2 : List UInt8 := dkwX1_reckoned_2 ++ dktX1_reckoned_3
def dkwX1_reckoned_1 : List UInt8 := [170, 0, 0, 0, 0, 148, 0, 0, 0, 0, 0, 0, 0, 13, 0, 0, 0, 70, 0, 0, 0, 74, 0, 0, 0, 78, 0, 0, 0, 82, 0, 0, 0, 86, 0, 0, 0, 90, 0, 0, 0, 96, 0, 0, 0, 102, 0, 0, 0, 118, 0, 0, 0, 123, 0, 0, 0, 128, 0, 0, 0, 133, 0, 0, 0, 138, 0, 0, 0, 143]
abbrev dktX1_reckoned_1 : List UInt8 := dkwX1_reckoned_1 ++ dktX1_reckoned_2
def dkwX1_reckoned_0 : List UInt8 := [26, 39, 41, 184, 1, 2, 153, 0, 7, 20, 0, 131, 175, 26]
abbrev dktX1_reckoned_0 : List UInt8 := dkwX1_reckoned_0 ++ dktX1_reckoned_1
theorem dksX1_reckoned_0 : cX1_reckoned.data.toList.drop 0 = dktX1_reckoned_0 := by decide +kernel
theorem dksX1_reckoned_1 : cX1_reckoned.data.toList.drop 14 = dktX1_reckoned_1 := dk_seg dksX1_reckoned_0 14 rfl rfl
theorem dksX1_reckoned_2 : cX1_reckoned.data.toList.drop 84 = dktX1_reckoned_2 := dk_seg dksX1_reckoned_1 70 rfl rfl
theorem dksX1_reckoned_3 : cX1_reckoned.data.toList.drop 106 = dktX1_reckoned_3 := dk_seg dksX1_reckoned_2 22 rfl rfl
theorem dksX1_reckoned_4 : cX1_reckoned.data.toList.drop 128 = dktX1_reckoned_4 := dk_seg dksX1_reckoned_3 22 rfl rfl
theorem dksX1_reckoned_5 : cX1_reckoned.data.toList.drop 152 = dktX1_reckoned_5 := dk_seg dksX1_reckoned_4 24 rfl rfl
theorem dX1_reckoned_0 : decode cX1_reckoned 0 = .ok (.iload_n 0, 1) := dk_26 (dk_at dksX1_reckoned_0 0 rfl rfl)
theorem dX1_reckoned_1 : decode cX1_reckoned 1 = .ok (.dload_n 1, 1) := dk_39 (dk_at dksX1_reckoned_0 1 rfl rfl)
theorem dX1_reckoned_2 : decode cX1_reckoned 2 = .ok (.dload_n 3, 1) := dk_41 (dk_at dksX1_reckoned_0 2 rfl rfl)
theorem dX1_reckoned_3 : decode cX1_reckoned 3 = .ok (.invokestatic 258, 3) := dk_184 1 2 (dk_at dksX1_reckoned_0 3 rfl rfl)
theorem dX1_reckoned_6 : decode cX1_reckoned 6 = .ok (.ifCond .eq 7, 3) := dk_153 0 7 (dk_at dksX1_reckoned_0 6 rfl rfl)
theorem dX1_reckoned_9 : decode cX1_reckoned 9 = .ok (.ldc2_w 131, 3) := dk_20 0 131 (dk_at dksX1_reckoned_0 9 rfl rfl)
theorem dX1_reckoned_12 : decode cX1_reckoned 12 = .ok (.dreturn, 1) := dk_175 (dk_at dksX1_reckoned_0 12 rfl rfl)
theorem dX1_reckoned_13 : decode cX1_reckoned 13 = .ok (.iload_n 0, 1) := dk_26 (dk_at dksX1_reckoned_0 13 rfl rfl)
theorem dX1_reckoned_14 : decode cX1_reckoned 14 = .ok (.tableswitch 148 0 13 #[70, 74, 78, 82, 86, 90, 96, 102, 118, 123, 128, 133, 138, 143], 70) := by decide +kernel
theorem dX1_reckoned_84 : decode cX1_reckoned 84 = .ok (.dload_n 1, 1) := dk_39 (dk_at dksX1_reckoned_2 0 rfl rfl)
theorem dX1_reckoned_85 : decode cX1_reckoned 85 = .ok (.dload_n 3, 1) := dk_41 (dk_at dksX1_reckoned_2 1 rfl rfl)
theorem dX1_reckoned_86 : decode cX1_reckoned 86 = .ok (.dadd, 1) := dk_99 (dk_at dksX1_reckoned_2 2 rfl rfl)
theorem dX1_reckoned_87 : decode cX1_reckoned 87 = .ok (.dreturn, 1) := dk_175 (dk_at dksX1_reckoned_2 3 rfl rfl)
theorem dX1_reckoned_88 : decode cX1_reckoned 88 = .ok (.dload_n 1, 1) := dk_39 (dk_at dksX1_reckoned_2 4 rfl rfl)
theorem dX1_reckoned_89 : decode cX1_reckoned 89 = .ok (.dload_n 3, 1) := dk_41 (dk_at dksX1_reckoned_2 5 rfl rfl)
theorem dX1_reckoned_90 : decode cX1_reckoned 90 = .ok (.dsub, 1) := dk_103 (dk_at dksX1_reckoned_2 6 rfl rfl)
theorem dX1_reckoned_91 : decode cX1_reckoned 91 = .ok (.dreturn, 1) := dk_175 (dk_at dksX1_reckoned_2 7 rfl rfl)
theorem dX1_reckoned_92 : decode cX1_reckoned 92 = .ok (.dload_n 1, 1) := dk_39 (dk_at dksX1_reckoned_2 8 rfl rfl)
theorem dX1_reckoned_93 : decode cX1_reckoned 93 = .ok (.dload_n 3, 1) := dk_41 (dk_at dksX1_reckoned_2 9 rfl rfl)
theorem dX1_reckoned_94 : decode cX1_reckoned 94 = .ok (.dmul, 1) := dk_107 (dk_at dksX1_reckoned_2 10 rfl rfl)
theorem dX1_reckoned_95 : decode cX1_reckoned 95 = .ok (.dreturn, 1) := dk_175 (dk_at dksX1_reckoned_2 11 rfl rfl)
theorem dX1_reckoned_96 : decode cX1_reckoned 96 = .ok (.dload_n 1, 1) := dk_39 (dk_at dksX1_reckoned_2 12 rfl rfl)
theorem dX1_reckoned_97 : decode cX1_reckoned 97 = .ok (.dload_n 3, 1) := dk_41 (dk_at dksX1_reckoned_2 13 rfl rfl)
theorem dX1_reckoned_98 : decode cX1_reckoned 98 = .ok (.ddiv, 1) := dk_111 (dk_at dksX1_reckoned_2 14 rfl rfl)
theorem dX1_reckoned_99 : decode cX1_reckoned 99 = .ok (.dreturn, 1) := dk_175 (dk_at dksX1_reckoned_2 15 rfl rfl)
theorem dX1_reckoned_100 : decode cX1_reckoned 100 = .ok (.dload_n 1, 1) := dk_39 (dk_at dksX1_reckoned_2 16 rfl rfl)
theorem dX1_reckoned_101 : decode cX1_reckoned 101 = .ok (.dload_n 3, 1) := dk_41 (dk_at dksX1_reckoned_2 17 rfl rfl)
theorem dX1_reckoned_102 : decode cX1_reckoned 102 = .ok (.drem, 1) := dk_115 (dk_at dksX1_reckoned_2 18 rfl rfl)
theorem dX1_reckoned_103 : decode cX1_reckoned 103 = .ok (.dreturn, 1) := dk_175 (dk_at dksX1_reckoned_2 19 rfl rfl)
theorem dX1_reckoned_104 : decode cX1_reckoned 104 = .ok (.dload_n 1, 1) := dk_39 (dk_at dksX1_reckoned_2 20 rfl rfl)
theorem dX1_reckoned_105 : decode cX1_reckoned 105 = .ok (.dload_n 3, 1) := dk_41 (dk_at dksX1_reckoned_2 21 rfl rfl)
theorem dX1_reckoned_106 : decode cX1_reckoned 106 = .ok (.invokestatic 262, 3) := dk_184 1 6 (dk_at dksX1_reckoned_3 0 rfl rfl)
theorem dX1_reckoned_109 : decode cX1_reckoned 109 = .ok (.dreturn, 1) := dk_175 (dk_at dksX1_reckoned_3 3 rfl rfl)
theorem dX1_reckoned_110 : decode cX1_reckoned 110 = .ok (.dload_n 1, 1) := dk_39 (dk_at dksX1_reckoned_3 4 rfl rfl)
theorem dX1_reckoned_111 : decode cX1_reckoned 111 = .ok (.dload_n 3, 1) := dk_41 (dk_at dksX1_reckoned_3 5 rfl rfl)
theorem dX1_reckoned_112 : decode cX1_reckoned 112 = .ok (.invokestatic 265, 3) := dk_184 1 9 (dk_at dksX1_reckoned_3 6 rfl rfl)
theorem dX1_reckoned_115 : decode cX1_reckoned 115 = .ok (.dreturn, 1) := dk_175 (dk_at dksX1_reckoned_3 9 rfl rfl)
theorem dX1_reckoned_116 : decode cX1_reckoned 116 = .ok (.dload_n 1, 1) := dk_39 (dk_at dksX1_reckoned_3 10 rfl rfl)
theorem dX1_reckoned_117 : decode cX1_reckoned 117 = .ok (.dload_n 3, 1) := dk_41 (dk_at dksX1_reckoned_3 11 rfl rfl)
theorem dX1_reckoned_118 : decode cX1_reckoned 118 = .ok (.dload_n 3, 1) := dk_41 (dk_at dksX1_reckoned_3 12 rfl rfl)
theorem dX1_reckoned_119 : decode cX1_reckoned 119 = .ok (.dcmp .l, 1) := dk_151 (dk_at dksX1_reckoned_3 13 rfl rfl)
theorem dX1_reckoned_120 : decode cX1_reckoned 120 = .ok (.ifCond .eq 7, 3) := dk_153 0 7 (dk_at dksX1_reckoned_3 14 rfl rfl)
theorem dX1_reckoned_123 : decode cX1_reckoned 123 = .ok (.dconst 1, 1) := dk_15 (dk_at dksX1_reckoned_3 17 rfl rfl)
theorem dX1_reckoned_124 : decode cX1_reckoned 124 = .ok (.goto 4, 3) := dk_167 0 4 (dk_at dksX1_reckoned_3 18 rfl rfl)
theorem dX1_reckoned_127 : decode cX1_reckoned 127 = .ok (.dload_n 3, 1) := dk_41 (dk_at dksX1_reckoned_3 21 rfl rfl)
theorem dX1_reckoned_128 : decode cX1_reckoned 128 = .ok (.invokestatic 267, 3) := dk_184 1 11 (dk_at dksX1_reckoned_4 0 rfl rfl)
theorem dX1_reckoned_131 : decode cX1_reckoned 131 = .ok (.dreturn, 1) := dk_175 (dk_at dksX1_reckoned_4 3 rfl rfl)
theorem dX1_reckoned_132 : decode cX1_reckoned 132 = .ok (.dload_n 1, 1) := dk_39 (dk_at dksX1_reckoned_4 4 rfl rfl)
theorem dX1_reckoned_133 : decode cX1_reckoned 133 = .ok (.invokestatic 270, 3) := dk_184 1 14 (dk_at dksX1_reckoned_4 5 rfl rfl)
theorem dX1_reckoned_136 : decode cX1_reckoned 136 = .ok (.dreturn, 1) := dk_175 (dk_at dksX1_reckoned_4 8 rfl rfl)
theorem dX1_reckoned_137 : decode cX1_reckoned 137 = .ok (.dload_n 1, 1) := dk_39 (dk_at dksX1_reckoned_4 9 rfl rfl)
theorem dX1_reckoned_138 : decode cX1_reckoned 138 = .ok (.invokestatic 274, 3) := dk_184 1 18 (dk_at dksX1_reckoned_4 10 rfl rfl)
theorem dX1_reckoned_141 : decode cX1_reckoned 141 = .ok (.dreturn, 1) := dk_175 (dk_at dksX1_reckoned_4 13 rfl rfl)
theorem dX1_reckoned_142 : decode cX1_reckoned 142 = .ok (.dload_n 1, 1) := dk_39 (dk_at dksX1_reckoned_4 14 rfl rfl)
theorem dX1_reckoned_143 : decode cX1_reckoned 143 = .ok (.invokestatic 277, 3) := dk_184 1 21 (dk_at dksX1_reckoned_4 15 rfl rfl)
theorem dX1_reckoned_146 : decode cX1_reckoned 146 = .ok (.dreturn, 1) := dk_175 (dk_at dksX1_reckoned_4 18 rfl rfl)
theorem dX1_reckoned_147 : decode cX1_reckoned 147 = .ok (.dload_n 1, 1) := dk_39 (dk_at dksX1_reckoned_4 19 rfl rfl)
theorem dX1_reckoned_148 : decode cX1_reckoned 148 = .ok (.invokestatic 280, 3) := dk_184 1 24 (dk_at dksX1_reckoned_4 20 rfl rfl)
theorem dX1_reckoned_151 : decode cX1_reckoned 151 = .ok (.dreturn, 1) := dk_175 (dk_at dksX1_reckoned_4 23 rfl rfl)
theorem dX1_reckoned_152 : decode cX1_reckoned 152 = .ok (.dload_n 1, 1) := dk_39 (dk_at dksX1_reckoned_5 0 rfl rfl)
theorem dX1_reckoned_153 : decode cX1_reckoned 153 = .ok (.invokestatic 283, 3) := dk_184 1 27 (dk_at dksX1_reckoned_5 1 rfl rfl)
theorem dX1_reckoned_156 : decode cX1_reckoned 156 = .ok (.dreturn, 1) := dk_175 (dk_at dksX1_reckoned_5 4 rfl rfl)
theorem dX1_reckoned_157 : decode cX1_reckoned 157 = .ok (.dload_n 1, 1) := dk_39 (dk_at dksX1_reckoned_5 5 rfl rfl)
theorem dX1_reckoned_158 : decode cX1_reckoned 158 = .ok (.invokestatic 286, 3) := dk_184 1 30 (dk_at dksX1_reckoned_5 6 rfl rfl)
theorem dX1_reckoned_161 : decode cX1_reckoned 161 = .ok (.dreturn, 1) := dk_175 (dk_at dksX1_reckoned_5 9 rfl rfl)
theorem dX1_reckoned_162 : decode cX1_reckoned 162 = .ok (.dload_n 1, 1) := dk_39 (dk_at dksX1_reckoned_5 10 rfl rfl)
theorem dX1_reckoned_163 : decode cX1_reckoned 163 = .ok (.dneg, 1) := dk_119 (dk_at dksX1_reckoned_5 11 rfl rfl)
theorem dX1_reckoned_164 : decode cX1_reckoned 164 = .ok (.dreturn, 1) := dk_175 (dk_at dksX1_reckoned_5 12 rfl rfl)
abbrev cX1_isNone : ByteArray := prog_1_method_51_code
def yX1_isNone : MethodName := ⟨RX1, "isNone", "(IDD)Z"⟩
def dkwX1_isNone_7 : List UInt8 := [154, 0, 9, 41, 14, 151, 154, 0, 7, 4, 167, 0, 4, 3, 172, 3, 172]
abbrev dktX1_isNone_7 : List UInt8 := dkwX1_isNone_7 ++ []
def dkwX1_isNone_6 : List UInt8 := [184, 0, 254, 153, 0, 14, 41, 184, 0, 254, 153, 0, 7, 4, 167, 0, 4, 3, 172, 39, 184, 0, 254]
abbrev dktX1_isNone_6 : List UInt8 := dkwX1_isNone_6 ++ dktX1_isNone_7
def dkwX1_isNone_5 : List UInt8 := [153, 0, 7, 4, 167, 0, 4, 3, 172, 39, 14, 151, 154, 0, 9, 41, 14, 151, 153, 0, 17, 39]
abbrev dktX1_isNone_5 : List UInt8 := dkwX1_isNone_5 ++ dktX1_isNone_6
def dkwX1_isNone_4 : List UInt8 := [184, 0, 254, 153, 0, 9, 41, 14, 151, 153, 0, 16, 39, 14, 151, 154, 0, 14, 41, 184, 0, 254]
abbrev dktX1_isNone_4 : List UInt8 := dkwX1_isNone_4 ++ dktX1_isNone_5
def dkwX1_isNone_3 : List UInt8 := [3, 172, 39, 184, 0, 254, 153, 0, 13, 39, 41, 151, 154, 0, 7, 4, 167, 0, 4, 3, 172, 39]
abbrev dktX1_isNone_3 : List UInt8 := dkwX1_isNone_3 ++ dktX1_isNone_4
def dkwX1_isNone_2 : List UInt8 := [39, 184, 0, 254, 153, 0, 20, 41, 184, 0, 254, 153, 0, 13, 39, 41, 151, 153, 0, 7, 4, 167, 0, 4]
abbrev dktX1_isNone_2 : List UInt8 := dkwX1_isNone_2 ++ dktX1_isNone_3
def dkwX1_isNone_1 : List UInt8 := [170, 0, 0, 0, 0, 0, 163, 0, 0, 0, 0, 0, 0, 0, 4, 0, 0, 0, 35, 0, 0, 0, 61, 0, 0, 0, 80, 0, 0, 0, 112, 0, 0, 0, 144]
abbrev dktX1_isNone_1 : List UInt8 := dkwX1_isNone_1 ++ dktX1_isNone_2
def dkwX1_isNone_0 : List UInt8 := [39, 39, 151, 154, 0, 15, 26, 16, 7, 162, 0, 11, 41, 41, 151, 153, 0, 5, 4, 172, 26]
abbrev dktX1_isNone_0 : List UInt8 := dkwX1_isNone_0 ++ dktX1_isNone_1
theorem dksX1_isNone_0 : cX1_isNone.data.toList.drop 0 = dktX1_isNone_0 := by decide +kernel
theorem dksX1_isNone_1 : cX1_isNone.data.toList.drop 21 = dktX1_isNone_1 := dk_seg dksX1_isNone_0 21 rfl rfl
theorem dksX1_isNone_2 : cX1_isNone.data.toList.drop 56 = dktX1_isNone_2 := dk_seg dksX1_isNone_1 35 rfl rfl
theorem dksX1_isNone_3 : cX1_isNone.data.toList.drop 80 = dktX1_isNone_3 := dk_seg dksX1_isNone_2 24 rfl rfl
theorem dksX1_isNone_4 : cX1_isNone.data.toList.drop 102 = dktX1_isNone_4 := dk_seg dksX1_isNone_3 22 rfl rfl
theorem dksX1_isNone_5 : cX1_isNone.data.toList.drop 124 = dktX1_isNone_5 := dk_seg dksX1_isNone_4 22 rfl rfl
theorem dksX1_isNone_6 : cX1_isNone.data.toList.drop 146 = dktX1_isNone_6 := dk_seg dksX1_isNone_5 22 rfl rfl
theorem dksX1_isNone_7 : cX1_isNone.data.toList.drop 169 = dktX1_isNone_7 := dk_seg dksX1_isNone_6 23 rfl rfl
theorem dX1_isNone_0 : decode cX1_isNone 0 = .ok (.dload_n 1, 1) := dk_39 (dk_at dksX1_isNone_0 0 rfl rfl)
theorem dX1_isNone_1 : decode cX1_isNone 1 = .ok (.dload_n 1, 1) := dk_39 (dk_at dksX1_isNone_0 1 rfl rfl)
theorem dX1_isNone_2 : decode cX1_isNone 2 = .ok (.dcmp .l, 1) := dk_151 (dk_at dksX1_isNone_0 2 rfl rfl)
theorem dX1_isNone_3 : decode cX1_isNone 3 = .ok (.ifCond .ne 15, 3) := dk_154 0 15 (dk_at dksX1_isNone_0 3 rfl rfl)
theorem dX1_isNone_6 : decode cX1_isNone 6 = .ok (.iload_n 0, 1) := dk_26 (dk_at dksX1_isNone_0 6 rfl rfl)
theorem dX1_isNone_7 : decode cX1_isNone 7 = .ok (.bipush 7, 2) := dk_16 7 (dk_at dksX1_isNone_0 7 rfl rfl)
theorem dX1_isNone_9 : decode cX1_isNone 9 = .ok (.if_icmp .ge 11, 3) := dk_162 0 11 (dk_at dksX1_isNone_0 9 rfl rfl)
theorem dX1_isNone_12 : decode cX1_isNone 12 = .ok (.dload_n 3, 1) := dk_41 (dk_at dksX1_isNone_0 12 rfl rfl)
theorem dX1_isNone_13 : decode cX1_isNone 13 = .ok (.dload_n 3, 1) := dk_41 (dk_at dksX1_isNone_0 13 rfl rfl)
theorem dX1_isNone_14 : decode cX1_isNone 14 = .ok (.dcmp .l, 1) := dk_151 (dk_at dksX1_isNone_0 14 rfl rfl)
theorem dX1_isNone_15 : decode cX1_isNone 15 = .ok (.ifCond .eq 5, 3) := dk_153 0 5 (dk_at dksX1_isNone_0 15 rfl rfl)
theorem dX1_isNone_18 : decode cX1_isNone 18 = .ok (.iconst 1, 1) := dk_4 (dk_at dksX1_isNone_0 18 rfl rfl)
theorem dX1_isNone_19 : decode cX1_isNone 19 = .ok (.ireturn, 1) := dk_172 (dk_at dksX1_isNone_0 19 rfl rfl)
theorem dX1_isNone_20 : decode cX1_isNone 20 = .ok (.iload_n 0, 1) := dk_26 (dk_at dksX1_isNone_0 20 rfl rfl)
theorem dX1_isNone_21 : decode cX1_isNone 21 = .ok (.tableswitch 163 0 4 #[35, 61, 80, 112, 144], 35) := by decide +kernel
theorem dX1_isNone_56 : decode cX1_isNone 56 = .ok (.dload_n 1, 1) := dk_39 (dk_at dksX1_isNone_2 0 rfl rfl)
theorem dX1_isNone_57 : decode cX1_isNone 57 = .ok (.invokestatic 254, 3) := dk_184 0 254 (dk_at dksX1_isNone_2 1 rfl rfl)
theorem dX1_isNone_60 : decode cX1_isNone 60 = .ok (.ifCond .eq 20, 3) := dk_153 0 20 (dk_at dksX1_isNone_2 4 rfl rfl)
theorem dX1_isNone_63 : decode cX1_isNone 63 = .ok (.dload_n 3, 1) := dk_41 (dk_at dksX1_isNone_2 7 rfl rfl)
theorem dX1_isNone_64 : decode cX1_isNone 64 = .ok (.invokestatic 254, 3) := dk_184 0 254 (dk_at dksX1_isNone_2 8 rfl rfl)
theorem dX1_isNone_67 : decode cX1_isNone 67 = .ok (.ifCond .eq 13, 3) := dk_153 0 13 (dk_at dksX1_isNone_2 11 rfl rfl)
theorem dX1_isNone_70 : decode cX1_isNone 70 = .ok (.dload_n 1, 1) := dk_39 (dk_at dksX1_isNone_2 14 rfl rfl)
theorem dX1_isNone_71 : decode cX1_isNone 71 = .ok (.dload_n 3, 1) := dk_41 (dk_at dksX1_isNone_2 15 rfl rfl)
theorem dX1_isNone_72 : decode cX1_isNone 72 = .ok (.dcmp .l, 1) := dk_151 (dk_at dksX1_isNone_2 16 rfl rfl)
theorem dX1_isNone_73 : decode cX1_isNone 73 = .ok (.ifCond .eq 7, 3) := dk_153 0 7 (dk_at dksX1_isNone_2 17 rfl rfl)
theorem dX1_isNone_76 : decode cX1_isNone 76 = .ok (.iconst 1, 1) := dk_4 (dk_at dksX1_isNone_2 20 rfl rfl)
theorem dX1_isNone_77 : decode cX1_isNone 77 = .ok (.goto 4, 3) := dk_167 0 4 (dk_at dksX1_isNone_2 21 rfl rfl)
theorem dX1_isNone_80 : decode cX1_isNone 80 = .ok (.iconst 0, 1) := dk_3 (dk_at dksX1_isNone_3 0 rfl rfl)
theorem dX1_isNone_81 : decode cX1_isNone 81 = .ok (.ireturn, 1) := dk_172 (dk_at dksX1_isNone_3 1 rfl rfl)
theorem dX1_isNone_82 : decode cX1_isNone 82 = .ok (.dload_n 1, 1) := dk_39 (dk_at dksX1_isNone_3 2 rfl rfl)
theorem dX1_isNone_83 : decode cX1_isNone 83 = .ok (.invokestatic 254, 3) := dk_184 0 254 (dk_at dksX1_isNone_3 3 rfl rfl)
theorem dX1_isNone_86 : decode cX1_isNone 86 = .ok (.ifCond .eq 13, 3) := dk_153 0 13 (dk_at dksX1_isNone_3 6 rfl rfl)
theorem dX1_isNone_89 : decode cX1_isNone 89 = .ok (.dload_n 1, 1) := dk_39 (dk_at dksX1_isNone_3 9 rfl rfl)
theorem dX1_isNone_90 : decode cX1_isNone 90 = .ok (.dload_n 3, 1) := dk_41 (dk_at dksX1_isNone_3 10 rfl rfl)
theorem dX1_isNone_91 : decode cX1_isNone 91 = .ok (.dcmp .l, 1) := dk_151 (dk_at dksX1_isNone_3 11 rfl rfl)
theorem dX1_isNone_92 : decode cX1_isNone 92 = .ok (.ifCond .ne 7, 3) := dk_154 0 7 (dk_at dksX1_isNone_3 12 rfl rfl)
theorem dX1_isNone_95 : decode cX1_isNone 95 = .ok (.iconst 1, 1) := dk_4 (dk_at dksX1_isNone_3 15 rfl rfl)
theorem dX1_isNone_96 : decode cX1_isNone 96 = .ok (.goto 4, 3) := dk_167 0 4 (dk_at dksX1_isNone_3 16 rfl rfl)
theorem dX1_isNone_99 : decode cX1_isNone 99 = .ok (.iconst 0, 1) := dk_3 (dk_at dksX1_isNone_3 19 rfl rfl)
theorem dX1_isNone_100 : decode cX1_isNone 100 = .ok (.ireturn, 1) := dk_172 (dk_at dksX1_isNone_3 20 rfl rfl)
theorem dX1_isNone_101 : decode cX1_isNone 101 = .ok (.dload_n 1, 1) := dk_39 (dk_at dksX1_isNone_3 21 rfl rfl)
theorem dX1_isNone_102 : decode cX1_isNone 102 = .ok (.invokestatic 254, 3) := dk_184 0 254 (dk_at dksX1_isNone_4 0 rfl rfl)
theorem dX1_isNone_105 : decode cX1_isNone 105 = .ok (.ifCond .eq 9, 3) := dk_153 0 9 (dk_at dksX1_isNone_4 3 rfl rfl)
theorem dX1_isNone_108 : decode cX1_isNone 108 = .ok (.dload_n 3, 1) := dk_41 (dk_at dksX1_isNone_4 6 rfl rfl)
theorem dX1_isNone_109 : decode cX1_isNone 109 = .ok (.dconst 0, 1) := dk_14 (dk_at dksX1_isNone_4 7 rfl rfl)
theorem dX1_isNone_110 : decode cX1_isNone 110 = .ok (.dcmp .l, 1) := dk_151 (dk_at dksX1_isNone_4 8 rfl rfl)
theorem dX1_isNone_111 : decode cX1_isNone 111 = .ok (.ifCond .eq 16, 3) := dk_153 0 16 (dk_at dksX1_isNone_4 9 rfl rfl)
theorem dX1_isNone_114 : decode cX1_isNone 114 = .ok (.dload_n 1, 1) := dk_39 (dk_at dksX1_isNone_4 12 rfl rfl)
theorem dX1_isNone_115 : decode cX1_isNone 115 = .ok (.dconst 0, 1) := dk_14 (dk_at dksX1_isNone_4 13 rfl rfl)
theorem dX1_isNone_116 : decode cX1_isNone 116 = .ok (.dcmp .l, 1) := dk_151 (dk_at dksX1_isNone_4 14 rfl rfl)
theorem dX1_isNone_117 : decode cX1_isNone 117 = .ok (.ifCond .ne 14, 3) := dk_154 0 14 (dk_at dksX1_isNone_4 15 rfl rfl)
theorem dX1_isNone_120 : decode cX1_isNone 120 = .ok (.dload_n 3, 1) := dk_41 (dk_at dksX1_isNone_4 18 rfl rfl)
theorem dX1_isNone_121 : decode cX1_isNone 121 = .ok (.invokestatic 254, 3) := dk_184 0 254 (dk_at dksX1_isNone_4 19 rfl rfl)
theorem dX1_isNone_124 : decode cX1_isNone 124 = .ok (.ifCond .eq 7, 3) := dk_153 0 7 (dk_at dksX1_isNone_5 0 rfl rfl)
theorem dX1_isNone_127 : decode cX1_isNone 127 = .ok (.iconst 1, 1) := dk_4 (dk_at dksX1_isNone_5 3 rfl rfl)
theorem dX1_isNone_128 : decode cX1_isNone 128 = .ok (.goto 4, 3) := dk_167 0 4 (dk_at dksX1_isNone_5 4 rfl rfl)
theorem dX1_isNone_131 : decode cX1_isNone 131 = .ok (.iconst 0, 1) := dk_3 (dk_at dksX1_isNone_5 7 rfl rfl)
theorem dX1_isNone_132 : decode cX1_isNone 132 = .ok (.ireturn, 1) := dk_172 (dk_at dksX1_isNone_5 8 rfl rfl)
theorem dX1_isNone_133 : decode cX1_isNone 133 = .ok (.dload_n 1, 1) := dk_39 (dk_at dksX1_isNone_5 9 rfl rfl)
theorem dX1_isNone_134 : decode cX1_isNone 134 = .ok (.dconst 0, 1) := dk_14 (dk_at dksX1_isNone_5 10 rfl rfl)
theorem dX1_isNone_135 : decode cX1_isNone 135 = .ok (.dcmp .l, 1) := dk_151 (dk_at dksX1_isNone_5 11 rfl rfl)
theorem dX1_isNone_136 : decode cX1_isNone 136 = .ok (.ifCond .ne 9, 3) := dk_154 0 9 (dk_at dksX1_isNone_5 12 rfl rfl)
theorem dX1_isNone_139 : decode cX1_isNone 139 = .ok (.dload_n 3, 1) := dk_41 (dk_at dksX1_isNone_5 15 rfl rfl)
theorem dX1_isNone_140 : decode cX1_isNone 140 = .ok (.dconst 0, 1) := dk_14 (dk_at dksX1_isNone_5 16 rfl rfl)
theorem dX1_isNone_141 : decode cX1_isNone 141 = .ok (.dcmp .l, 1) := dk_151 (dk_at dksX1_isNone_5 17 rfl rfl)
theorem dX1_isNone_142 : decode cX1_isNone 142 = .ok (.ifCond .eq 17, 3) := dk_153 0 17 (dk_at dksX1_isNone_5 18 rfl rfl)
theorem dX1_isNone_145 : decode cX1_isNone 145 = .ok (.dload_n 1, 1) := dk_39 (dk_at dksX1_isNone_5 21 rfl rfl)
theorem dX1_isNone_146 : decode cX1_isNone 146 = .ok (.invokestatic 254, 3) := dk_184 0 254 (dk_at dksX1_isNone_6 0 rfl rfl)
theorem dX1_isNone_149 : decode cX1_isNone 149 = .ok (.ifCond .eq 14, 3) := dk_153 0 14 (dk_at dksX1_isNone_6 3 rfl rfl)
theorem dX1_isNone_152 : decode cX1_isNone 152 = .ok (.dload_n 3, 1) := dk_41 (dk_at dksX1_isNone_6 6 rfl rfl)
theorem dX1_isNone_153 : decode cX1_isNone 153 = .ok (.invokestatic 254, 3) := dk_184 0 254 (dk_at dksX1_isNone_6 7 rfl rfl)
theorem dX1_isNone_156 : decode cX1_isNone 156 = .ok (.ifCond .eq 7, 3) := dk_153 0 7 (dk_at dksX1_isNone_6 10 rfl rfl)
theorem dX1_isNone_159 : decode cX1_isNone 159 = .ok (.iconst 1, 1) := dk_4 (dk_at dksX1_isNone_6 13 rfl rfl)
theorem dX1_isNone_160 : decode cX1_isNone 160 = .ok (.goto 4, 3) := dk_167 0 4 (dk_at dksX1_isNone_6 14 rfl rfl)
theorem dX1_isNone_163 : decode cX1_isNone 163 = .ok (.iconst 0, 1) := dk_3 (dk_at dksX1_isNone_6 17 rfl rfl)
theorem dX1_isNone_164 : decode cX1_isNone 164 = .ok (.ireturn, 1) := dk_172 (dk_at dksX1_isNone_6 18 rfl rfl)
theorem dX1_isNone_165 : decode cX1_isNone 165 = .ok (.dload_n 1, 1) := dk_39 (dk_at dksX1_isNone_6 19 rfl rfl)
theorem dX1_isNone_166 : decode cX1_isNone 166 = .ok (.invokestatic 254, 3) := dk_184 0 254 (dk_at dksX1_isNone_6 20 rfl rfl)
theorem dX1_isNone_169 : decode cX1_isNone 169 = .ok (.ifCond .ne 9, 3) := dk_154 0 9 (dk_at dksX1_isNone_7 0 rfl rfl)
theorem dX1_isNone_172 : decode cX1_isNone 172 = .ok (.dload_n 3, 1) := dk_41 (dk_at dksX1_isNone_7 3 rfl rfl)
theorem dX1_isNone_173 : decode cX1_isNone 173 = .ok (.dconst 0, 1) := dk_14 (dk_at dksX1_isNone_7 4 rfl rfl)
theorem dX1_isNone_174 : decode cX1_isNone 174 = .ok (.dcmp .l, 1) := dk_151 (dk_at dksX1_isNone_7 5 rfl rfl)
theorem dX1_isNone_175 : decode cX1_isNone 175 = .ok (.ifCond .ne 7, 3) := dk_154 0 7 (dk_at dksX1_isNone_7 6 rfl rfl)
theorem dX1_isNone_178 : decode cX1_isNone 178 = .ok (.iconst 1, 1) := dk_4 (dk_at dksX1_isNone_7 9 rfl rfl)
theorem dX1_isNone_179 : decode cX1_isNone 179 = .ok (.goto 4, 3) := dk_167 0 4 (dk_at dksX1_isNone_7 10 rfl rfl)
theorem dX1_isNone_182 : decode cX1_isNone 182 = .ok (.iconst 0, 1) := dk_3 (dk_at dksX1_isNone_7 13 rfl rfl)
theorem dX1_isNone_183 : decode cX1_isNone 183 = .ok (.ireturn, 1) := dk_172 (dk_at dksX1_isNone_7 14 rfl rfl)
theorem dX1_isNone_184 : decode cX1_isNone 184 = .ok (.iconst 0, 1) := dk_3 (dk_at dksX1_isNone_7 15 rfl rfl)
theorem dX1_isNone_185 : decode cX1_isNone 185 = .ok (.ireturn, 1) := dk_172 (dk_at dksX1_isNone_7 16 rfl rfl)
abbrev cX1_isEndless : ByteArray := prog_1_method_50_code
def yX1_isEndless : MethodName := ⟨RX1, "isEndless", "(D)Z"⟩
def dkwX1_isEndless_0 : List UInt8 := [38, 20, 0, 250, 151, 153, 0, 11, 38, 20, 0, 252, 151, 154, 0, 7, 4, 167, 0, 4, 3, 172]
abbrev dktX1_isEndless_0 : List UInt8 := dkwX1_isEndless_0 ++ []
theorem dksX1_isEndless_0 : cX1_isEndless.data.toList.drop 0 = dktX1_isEndless_0 := by decide +kernel
theorem dX1_isEndless_0 : decode cX1_isEndless 0 = .ok (.dload_n 0, 1) := dk_38 (dk_at dksX1_isEndless_0 0 rfl rfl)
theorem dX1_isEndless_1 : decode cX1_isEndless 1 = .ok (.ldc2_w 250, 3) := dk_20 0 250 (dk_at dksX1_isEndless_0 1 rfl rfl)
theorem dX1_isEndless_4 : decode cX1_isEndless 4 = .ok (.dcmp .l, 1) := dk_151 (dk_at dksX1_isEndless_0 4 rfl rfl)
theorem dX1_isEndless_5 : decode cX1_isEndless 5 = .ok (.ifCond .eq 11, 3) := dk_153 0 11 (dk_at dksX1_isEndless_0 5 rfl rfl)
theorem dX1_isEndless_8 : decode cX1_isEndless 8 = .ok (.dload_n 0, 1) := dk_38 (dk_at dksX1_isEndless_0 8 rfl rfl)
theorem dX1_isEndless_9 : decode cX1_isEndless 9 = .ok (.ldc2_w 252, 3) := dk_20 0 252 (dk_at dksX1_isEndless_0 9 rfl rfl)
theorem dX1_isEndless_12 : decode cX1_isEndless 12 = .ok (.dcmp .l, 1) := dk_151 (dk_at dksX1_isEndless_0 12 rfl rfl)
theorem dX1_isEndless_13 : decode cX1_isEndless 13 = .ok (.ifCond .ne 7, 3) := dk_154 0 7 (dk_at dksX1_isEndless_0 13 rfl rfl)
theorem dX1_isEndless_16 : decode cX1_isEndless 16 = .ok (.iconst 1, 1) := dk_4 (dk_at dksX1_isEndless_0 16 rfl rfl)
theorem dX1_isEndless_17 : decode cX1_isEndless 17 = .ok (.goto 4, 3) := dk_167 0 4 (dk_at dksX1_isEndless_0 17 rfl rfl)
theorem dX1_isEndless_20 : decode cX1_isEndless 20 = .ok (.iconst 0, 1) := dk_3 (dk_at dksX1_isEndless_0 20 rfl rfl)
theorem dX1_isEndless_21 : decode cX1_isEndless 21 = .ok (.ireturn, 1) := dk_172 (dk_at dksX1_isEndless_0 21 rfl rfl)
abbrev cX1_reckonFloat : ByteArray := prog_1_method_57_code
def yX1_reckonFloat : MethodName := ⟨RX1, "reckonFloat", "(III)I"⟩
def dkwX1_reckonFloat_2 : List UInt8 := [172]
abbrev dktX1_reckonFloat_2 : List UInt8 := dkwX1_reckonFloat_2 ++ []
def dkwX1_reckonFloat_1 : List UInt8 := [163, 0, 9, 42, 4, 182, 0, 49, 172, 27, 28, 184, 0, 181, 29, 184, 0, 181, 184, 1, 59, 184, 0, 148]
abbrev dktX1_reckonFloat_1 : List UInt8 := dkwX1_reckonFloat_1 ++ dktX1_reckonFloat_2
def dkwX1_reckonFloat_0 : List UInt8 := [42, 3, 181, 0, 33, 27, 155, 0, 21, 27, 16, 14, 163, 0, 15, 27, 16, 9, 161, 0, 15, 27, 16, 11]
abbrev dktX1_reckonFloat_0 : List UInt8 := dkwX1_reckonFloat_0 ++ dktX1_reckonFloat_1
theorem dksX1_reckonFloat_0 : cX1_reckonFloat.data.toList.drop 0 = dktX1_reckonFloat_0 := by decide +kernel
theorem dksX1_reckonFloat_1 : cX1_reckonFloat.data.toList.drop 24 = dktX1_reckonFloat_1 := dk_seg dksX1_reckonFloat_0 24 rfl rfl
theorem dksX1_reckonFloat_2 : cX1_reckonFloat.data.toList.drop 48 = dktX1_reckonFloat_2 := dk_seg dksX1_reckonFloat_1 24 rfl rfl
theorem dX1_reckonFloat_0 : decode cX1_reckonFloat 0 = .ok (.aload_n 0, 1) := dk_42 (dk_at dksX1_reckonFloat_0 0 rfl rfl)
theorem dX1_reckonFloat_1 : decode cX1_reckonFloat 1 = .ok (.iconst 0, 1) := dk_3 (dk_at dksX1_reckonFloat_0 1 rfl rfl)
theorem dX1_reckonFloat_2 : decode cX1_reckonFloat 2 = .ok (.putfield 33, 3) := dk_181 0 33 (dk_at dksX1_reckonFloat_0 2 rfl rfl)
theorem dX1_reckonFloat_5 : decode cX1_reckonFloat 5 = .ok (.iload_n 1, 1) := dk_27 (dk_at dksX1_reckonFloat_0 5 rfl rfl)
theorem dX1_reckonFloat_6 : decode cX1_reckonFloat 6 = .ok (.ifCond .lt 21, 3) := dk_155 0 21 (dk_at dksX1_reckonFloat_0 6 rfl rfl)
theorem dX1_reckonFloat_9 : decode cX1_reckonFloat 9 = .ok (.iload_n 1, 1) := dk_27 (dk_at dksX1_reckonFloat_0 9 rfl rfl)
theorem dX1_reckonFloat_10 : decode cX1_reckonFloat 10 = .ok (.bipush 14, 2) := dk_16 14 (dk_at dksX1_reckonFloat_0 10 rfl rfl)
theorem dX1_reckonFloat_12 : decode cX1_reckonFloat 12 = .ok (.if_icmp .gt 15, 3) := dk_163 0 15 (dk_at dksX1_reckonFloat_0 12 rfl rfl)
theorem dX1_reckonFloat_15 : decode cX1_reckonFloat 15 = .ok (.iload_n 1, 1) := dk_27 (dk_at dksX1_reckonFloat_0 15 rfl rfl)
theorem dX1_reckonFloat_16 : decode cX1_reckonFloat 16 = .ok (.bipush 9, 2) := dk_16 9 (dk_at dksX1_reckonFloat_0 16 rfl rfl)
theorem dX1_reckonFloat_18 : decode cX1_reckonFloat 18 = .ok (.if_icmp .lt 15, 3) := dk_161 0 15 (dk_at dksX1_reckonFloat_0 18 rfl rfl)
theorem dX1_reckonFloat_21 : decode cX1_reckonFloat 21 = .ok (.iload_n 1, 1) := dk_27 (dk_at dksX1_reckonFloat_0 21 rfl rfl)
theorem dX1_reckonFloat_22 : decode cX1_reckonFloat 22 = .ok (.bipush 11, 2) := dk_16 11 (dk_at dksX1_reckonFloat_0 22 rfl rfl)
theorem dX1_reckonFloat_24 : decode cX1_reckonFloat 24 = .ok (.if_icmp .gt 9, 3) := dk_163 0 9 (dk_at dksX1_reckonFloat_1 0 rfl rfl)
theorem dX1_reckonFloat_27 : decode cX1_reckonFloat 27 = .ok (.aload_n 0, 1) := dk_42 (dk_at dksX1_reckonFloat_1 3 rfl rfl)
theorem dX1_reckonFloat_28 : decode cX1_reckonFloat 28 = .ok (.iconst 1, 1) := dk_4 (dk_at dksX1_reckonFloat_1 4 rfl rfl)
theorem dX1_reckonFloat_29 : decode cX1_reckonFloat 29 = .ok (.invokevirtual 49, 3) := dk_182 0 49 (dk_at dksX1_reckonFloat_1 5 rfl rfl)
theorem dX1_reckonFloat_32 : decode cX1_reckonFloat 32 = .ok (.ireturn, 1) := dk_172 (dk_at dksX1_reckonFloat_1 8 rfl rfl)
theorem dX1_reckonFloat_33 : decode cX1_reckonFloat 33 = .ok (.iload_n 1, 1) := dk_27 (dk_at dksX1_reckonFloat_1 9 rfl rfl)
theorem dX1_reckonFloat_34 : decode cX1_reckonFloat 34 = .ok (.iload_n 2, 1) := dk_28 (dk_at dksX1_reckonFloat_1 10 rfl rfl)
theorem dX1_reckonFloat_35 : decode cX1_reckonFloat 35 = .ok (.invokestatic 181, 3) := dk_184 0 181 (dk_at dksX1_reckonFloat_1 11 rfl rfl)
theorem dX1_reckonFloat_38 : decode cX1_reckonFloat 38 = .ok (.iload_n 3, 1) := dk_29 (dk_at dksX1_reckonFloat_1 14 rfl rfl)
theorem dX1_reckonFloat_39 : decode cX1_reckonFloat 39 = .ok (.invokestatic 181, 3) := dk_184 0 181 (dk_at dksX1_reckonFloat_1 15 rfl rfl)
theorem dX1_reckonFloat_42 : decode cX1_reckonFloat 42 = .ok (.invokestatic 315, 3) := dk_184 1 59 (dk_at dksX1_reckonFloat_1 18 rfl rfl)
theorem dX1_reckonFloat_45 : decode cX1_reckonFloat 45 = .ok (.invokestatic 148, 3) := dk_184 0 148 (dk_at dksX1_reckonFloat_1 21 rfl rfl)
theorem dX1_reckonFloat_48 : decode cX1_reckonFloat 48 = .ok (.ireturn, 1) := dk_172 (dk_at dksX1_reckonFloat_2 0 rfl rfl)
abbrev cX1_reckoned_2 : ByteArray := prog_1_method_56_code
def yX1_reckoned_2 : MethodName := ⟨RX1, "reckoned", "(IFF)F"⟩
def dkwX1_reckoned_2_4 : List UInt8 := [184, 1, 50, 174, 35, 184, 1, 52, 174, 35, 184, 1, 55, 174, 35, 184, 1, 57, 174, 35, 118, 174]
abbrev dktX1_reckoned_2_4 : List UInt8 := dkwX1_reckoned_2_4 ++ []
def dkwX1_reckoned_2_3 : List UInt8 := [184, 1, 45, 174, 35, 36, 184, 1, 48, 174, 35, 36, 36, 149, 153, 0, 7, 12, 167, 0, 4, 36]
abbrev dktX1_reckoned_2_3 : List UInt8 := dkwX1_reckoned_2_3 ++ dktX1_reckoned_2_4
def dkwX1_reckoned_2_2 : List UInt8 := [35, 36, 98, 174, 35, 36, 102, 174, 35, 36, 106, 174, 35, 36, 110, 174, 35, 36, 114, 174, 35, 36]
abbrev dktX1_reckoned_2_2 : List UInt8 := dkwX1_reckoned_2_2 ++ dktX1_reckoned_2_3
def dkwX1_reckoned_2_1 : List UInt8 := [170, 0, 0, 0, 0, 0, 134, 0, 0, 0, 0, 0, 0, 0, 13, 0, 0, 0, 71, 0, 0, 0, 75, 0, 0, 0, 79, 0, 0, 0, 83, 0, 0, 0, 87, 0, 0, 0, 91, 0, 0, 0, 97, 0, 0, 0, 103, 0, 0, 0, 119, 0, 0, 0, 134, 0, 0, 0, 134, 0, 0, 0, 134, 0, 0, 0, 124, 0, 0, 0, 129]
abbrev dktX1_reckoned_2_1 : List UInt8 := dkwX1_reckoned_2_1 ++ dktX1_reckoned_2_2
def dkwX1_reckoned_2_0 : List UInt8 := [26, 35, 36, 184, 1, 42, 153, 0, 6, 18, 143, 174, 26]
abbrev dktX1_reckoned_2_0 : List UInt8 := dkwX1_reckoned_2_0 ++ dktX1_reckoned_2_1
theorem dksX1_reckoned_2_0 : cX1_reckoned_2.data.toList.drop 0 = dktX1_reckoned_2_0 := by decide +kernel
theorem dksX1_reckoned_2_1 : cX1_reckoned_2.data.toList.drop 13 = dktX1_reckoned_2_1 := dk_seg dksX1_reckoned_2_0 13 rfl rfl
theorem dksX1_reckoned_2_2 : cX1_reckoned_2.data.toList.drop 84 = dktX1_reckoned_2_2 := dk_seg dksX1_reckoned_2_1 71 rfl rfl
theorem dksX1_reckoned_2_3 : cX1_reckoned_2.data.toList.drop 106 = dktX1_reckoned_2_3 := dk_seg dksX1_reckoned_2_2 22 rfl rfl
theorem dksX1_reckoned_2_4 : cX1_reckoned_2.data.toList.drop 128 = dktX1_reckoned_2_4 := dk_seg dksX1_reckoned_2_3 22 rfl rfl
theorem dX1_reckoned_2_0 : decode cX1_reckoned_2 0 = .ok (.iload_n 0, 1) := dk_26 (dk_at dksX1_reckoned_2_0 0 rfl rfl)
theorem dX1_reckoned_2_1 : decode cX1_reckoned_2 1 = .ok (.fload_n 1, 1) := dk_35 (dk_at dksX1_reckoned_2_0 1 rfl rfl)
theorem dX1_reckoned_2_2 : decode cX1_reckoned_2 2 = .ok (.fload_n 2, 1) := dk_36 (dk_at dksX1_reckoned_2_0 2 rfl rfl)
theorem dX1_reckoned_2_3 : decode cX1_reckoned_2 3 = .ok (.invokestatic 298, 3) := dk_184 1 42 (dk_at dksX1_reckoned_2_0 3 rfl rfl)
theorem dX1_reckoned_2_6 : decode cX1_reckoned_2 6 = .ok (.ifCond .eq 6, 3) := dk_153 0 6 (dk_at dksX1_reckoned_2_0 6 rfl rfl)
theorem dX1_reckoned_2_9 : decode cX1_reckoned_2 9 = .ok (.ldc 143, 2) := dk_18 143 (dk_at dksX1_reckoned_2_0 9 rfl rfl)
theorem dX1_reckoned_2_11 : decode cX1_reckoned_2 11 = .ok (.freturn, 1) := dk_174 (dk_at dksX1_reckoned_2_0 11 rfl rfl)
theorem dX1_reckoned_2_12 : decode cX1_reckoned_2 12 = .ok (.iload_n 0, 1) := dk_26 (dk_at dksX1_reckoned_2_0 12 rfl rfl)
theorem dX1_reckoned_2_13 : decode cX1_reckoned_2 13 = .ok (.tableswitch 134 0 13 #[71, 75, 79, 83, 87, 91, 97, 103, 119, 134, 134, 134, 124, 129], 71) := by decide +kernel
theorem dX1_reckoned_2_84 : decode cX1_reckoned_2 84 = .ok (.fload_n 1, 1) := dk_35 (dk_at dksX1_reckoned_2_2 0 rfl rfl)
theorem dX1_reckoned_2_85 : decode cX1_reckoned_2 85 = .ok (.fload_n 2, 1) := dk_36 (dk_at dksX1_reckoned_2_2 1 rfl rfl)
theorem dX1_reckoned_2_86 : decode cX1_reckoned_2 86 = .ok (.fadd, 1) := dk_98 (dk_at dksX1_reckoned_2_2 2 rfl rfl)
theorem dX1_reckoned_2_87 : decode cX1_reckoned_2 87 = .ok (.freturn, 1) := dk_174 (dk_at dksX1_reckoned_2_2 3 rfl rfl)
theorem dX1_reckoned_2_88 : decode cX1_reckoned_2 88 = .ok (.fload_n 1, 1) := dk_35 (dk_at dksX1_reckoned_2_2 4 rfl rfl)
theorem dX1_reckoned_2_89 : decode cX1_reckoned_2 89 = .ok (.fload_n 2, 1) := dk_36 (dk_at dksX1_reckoned_2_2 5 rfl rfl)
theorem dX1_reckoned_2_90 : decode cX1_reckoned_2 90 = .ok (.fsub, 1) := dk_102 (dk_at dksX1_reckoned_2_2 6 rfl rfl)
theorem dX1_reckoned_2_91 : decode cX1_reckoned_2 91 = .ok (.freturn, 1) := dk_174 (dk_at dksX1_reckoned_2_2 7 rfl rfl)
theorem dX1_reckoned_2_92 : decode cX1_reckoned_2 92 = .ok (.fload_n 1, 1) := dk_35 (dk_at dksX1_reckoned_2_2 8 rfl rfl)
theorem dX1_reckoned_2_93 : decode cX1_reckoned_2 93 = .ok (.fload_n 2, 1) := dk_36 (dk_at dksX1_reckoned_2_2 9 rfl rfl)
theorem dX1_reckoned_2_94 : decode cX1_reckoned_2 94 = .ok (.fmul, 1) := dk_106 (dk_at dksX1_reckoned_2_2 10 rfl rfl)
theorem dX1_reckoned_2_95 : decode cX1_reckoned_2 95 = .ok (.freturn, 1) := dk_174 (dk_at dksX1_reckoned_2_2 11 rfl rfl)
theorem dX1_reckoned_2_96 : decode cX1_reckoned_2 96 = .ok (.fload_n 1, 1) := dk_35 (dk_at dksX1_reckoned_2_2 12 rfl rfl)
theorem dX1_reckoned_2_97 : decode cX1_reckoned_2 97 = .ok (.fload_n 2, 1) := dk_36 (dk_at dksX1_reckoned_2_2 13 rfl rfl)
theorem dX1_reckoned_2_98 : decode cX1_reckoned_2 98 = .ok (.fdiv, 1) := dk_110 (dk_at dksX1_reckoned_2_2 14 rfl rfl)
theorem dX1_reckoned_2_99 : decode cX1_reckoned_2 99 = .ok (.freturn, 1) := dk_174 (dk_at dksX1_reckoned_2_2 15 rfl rfl)
theorem dX1_reckoned_2_100 : decode cX1_reckoned_2 100 = .ok (.fload_n 1, 1) := dk_35 (dk_at dksX1_reckoned_2_2 16 rfl rfl)
theorem dX1_reckoned_2_101 : decode cX1_reckoned_2 101 = .ok (.fload_n 2, 1) := dk_36 (dk_at dksX1_reckoned_2_2 17 rfl rfl)
theorem dX1_reckoned_2_102 : decode cX1_reckoned_2 102 = .ok (.frem, 1) := dk_114 (dk_at dksX1_reckoned_2_2 18 rfl rfl)
theorem dX1_reckoned_2_103 : decode cX1_reckoned_2 103 = .ok (.freturn, 1) := dk_174 (dk_at dksX1_reckoned_2_2 19 rfl rfl)
theorem dX1_reckoned_2_104 : decode cX1_reckoned_2 104 = .ok (.fload_n 1, 1) := dk_35 (dk_at dksX1_reckoned_2_2 20 rfl rfl)
theorem dX1_reckoned_2_105 : decode cX1_reckoned_2 105 = .ok (.fload_n 2, 1) := dk_36 (dk_at dksX1_reckoned_2_2 21 rfl rfl)
theorem dX1_reckoned_2_106 : decode cX1_reckoned_2 106 = .ok (.invokestatic 301, 3) := dk_184 1 45 (dk_at dksX1_reckoned_2_3 0 rfl rfl)
theorem dX1_reckoned_2_109 : decode cX1_reckoned_2 109 = .ok (.freturn, 1) := dk_174 (dk_at dksX1_reckoned_2_3 3 rfl rfl)
theorem dX1_reckoned_2_110 : decode cX1_reckoned_2 110 = .ok (.fload_n 1, 1) := dk_35 (dk_at dksX1_reckoned_2_3 4 rfl rfl)
theorem dX1_reckoned_2_111 : decode cX1_reckoned_2 111 = .ok (.fload_n 2, 1) := dk_36 (dk_at dksX1_reckoned_2_3 5 rfl rfl)
theorem dX1_reckoned_2_112 : decode cX1_reckoned_2 112 = .ok (.invokestatic 304, 3) := dk_184 1 48 (dk_at dksX1_reckoned_2_3 6 rfl rfl)
theorem dX1_reckoned_2_115 : decode cX1_reckoned_2 115 = .ok (.freturn, 1) := dk_174 (dk_at dksX1_reckoned_2_3 9 rfl rfl)
theorem dX1_reckoned_2_116 : decode cX1_reckoned_2 116 = .ok (.fload_n 1, 1) := dk_35 (dk_at dksX1_reckoned_2_3 10 rfl rfl)
theorem dX1_reckoned_2_117 : decode cX1_reckoned_2 117 = .ok (.fload_n 2, 1) := dk_36 (dk_at dksX1_reckoned_2_3 11 rfl rfl)
theorem dX1_reckoned_2_118 : decode cX1_reckoned_2 118 = .ok (.fload_n 2, 1) := dk_36 (dk_at dksX1_reckoned_2_3 12 rfl rfl)
theorem dX1_reckoned_2_119 : decode cX1_reckoned_2 119 = .ok (.fcmp .l, 1) := dk_149 (dk_at dksX1_reckoned_2_3 13 rfl rfl)
theorem dX1_reckoned_2_120 : decode cX1_reckoned_2 120 = .ok (.ifCond .eq 7, 3) := dk_153 0 7 (dk_at dksX1_reckoned_2_3 14 rfl rfl)
theorem dX1_reckoned_2_123 : decode cX1_reckoned_2 123 = .ok (.fconst 1, 1) := dk_12 (dk_at dksX1_reckoned_2_3 17 rfl rfl)
theorem dX1_reckoned_2_124 : decode cX1_reckoned_2 124 = .ok (.goto 4, 3) := dk_167 0 4 (dk_at dksX1_reckoned_2_3 18 rfl rfl)
theorem dX1_reckoned_2_127 : decode cX1_reckoned_2 127 = .ok (.fload_n 2, 1) := dk_36 (dk_at dksX1_reckoned_2_3 21 rfl rfl)
theorem dX1_reckoned_2_128 : decode cX1_reckoned_2 128 = .ok (.invokestatic 306, 3) := dk_184 1 50 (dk_at dksX1_reckoned_2_4 0 rfl rfl)
theorem dX1_reckoned_2_131 : decode cX1_reckoned_2 131 = .ok (.freturn, 1) := dk_174 (dk_at dksX1_reckoned_2_4 3 rfl rfl)
theorem dX1_reckoned_2_132 : decode cX1_reckoned_2 132 = .ok (.fload_n 1, 1) := dk_35 (dk_at dksX1_reckoned_2_4 4 rfl rfl)
theorem dX1_reckoned_2_133 : decode cX1_reckoned_2 133 = .ok (.invokestatic 308, 3) := dk_184 1 52 (dk_at dksX1_reckoned_2_4 5 rfl rfl)
theorem dX1_reckoned_2_136 : decode cX1_reckoned_2 136 = .ok (.freturn, 1) := dk_174 (dk_at dksX1_reckoned_2_4 8 rfl rfl)
theorem dX1_reckoned_2_137 : decode cX1_reckoned_2 137 = .ok (.fload_n 1, 1) := dk_35 (dk_at dksX1_reckoned_2_4 9 rfl rfl)
theorem dX1_reckoned_2_138 : decode cX1_reckoned_2 138 = .ok (.invokestatic 311, 3) := dk_184 1 55 (dk_at dksX1_reckoned_2_4 10 rfl rfl)
theorem dX1_reckoned_2_141 : decode cX1_reckoned_2 141 = .ok (.freturn, 1) := dk_174 (dk_at dksX1_reckoned_2_4 13 rfl rfl)
theorem dX1_reckoned_2_142 : decode cX1_reckoned_2 142 = .ok (.fload_n 1, 1) := dk_35 (dk_at dksX1_reckoned_2_4 14 rfl rfl)
theorem dX1_reckoned_2_143 : decode cX1_reckoned_2 143 = .ok (.invokestatic 313, 3) := dk_184 1 57 (dk_at dksX1_reckoned_2_4 15 rfl rfl)
theorem dX1_reckoned_2_146 : decode cX1_reckoned_2 146 = .ok (.freturn, 1) := dk_174 (dk_at dksX1_reckoned_2_4 18 rfl rfl)
theorem dX1_reckoned_2_147 : decode cX1_reckoned_2 147 = .ok (.fload_n 1, 1) := dk_35 (dk_at dksX1_reckoned_2_4 19 rfl rfl)
theorem dX1_reckoned_2_148 : decode cX1_reckoned_2 148 = .ok (.fneg, 1) := dk_118 (dk_at dksX1_reckoned_2_4 20 rfl rfl)
theorem dX1_reckoned_2_149 : decode cX1_reckoned_2 149 = .ok (.freturn, 1) := dk_174 (dk_at dksX1_reckoned_2_4 21 rfl rfl)
abbrev cX1_isNone_2 : ByteArray := prog_1_method_55_code
def yX1_isNone_2 : MethodName := ⟨RX1, "isNone", "(IFF)Z"⟩
def dkwX1_isNone_2_7 : List UInt8 := [154, 0, 9, 36, 11, 149, 154, 0, 7, 4, 167, 0, 4, 3, 172, 3, 172]
abbrev dktX1_isNone_2_7 : List UInt8 := dkwX1_isNone_2_7 ++ []
def dkwX1_isNone_2_6 : List UInt8 := [184, 1, 39, 153, 0, 14, 36, 184, 1, 39, 153, 0, 7, 4, 167, 0, 4, 3, 172, 35, 184, 1, 39]
abbrev dktX1_isNone_2_6 : List UInt8 := dkwX1_isNone_2_6 ++ dktX1_isNone_2_7
def dkwX1_isNone_2_5 : List UInt8 := [153, 0, 7, 4, 167, 0, 4, 3, 172, 35, 11, 149, 154, 0, 9, 36, 11, 149, 153, 0, 17, 35]
abbrev dktX1_isNone_2_5 : List UInt8 := dkwX1_isNone_2_5 ++ dktX1_isNone_2_6
def dkwX1_isNone_2_4 : List UInt8 := [184, 1, 39, 153, 0, 9, 36, 11, 149, 153, 0, 16, 35, 11, 149, 154, 0, 14, 36, 184, 1, 39]
abbrev dktX1_isNone_2_4 : List UInt8 := dkwX1_isNone_2_4 ++ dktX1_isNone_2_5
def dkwX1_isNone_2_3 : List UInt8 := [3, 172, 35, 184, 1, 39, 153, 0, 13, 35, 36, 149, 154, 0, 7, 4, 167, 0, 4, 3, 172, 35]
abbrev dktX1_isNone_2_3 : List UInt8 := dkwX1_isNone_2_3 ++ dktX1_isNone_2_4
def dkwX1_isNone_2_2 : List UInt8 := [35, 184, 1, 39, 153, 0, 20, 36, 184, 1, 39, 153, 0, 13, 35, 36, 149, 153, 0, 7, 4, 167, 0, 4]
abbrev dktX1_isNone_2_2 : List UInt8 := dkwX1_isNone_2_2 ++ dktX1_isNone_2_3
def dkwX1_isNone_2_1 : List UInt8 := [170, 0, 0, 0, 0, 0, 163, 0, 0, 0, 0, 0, 0, 0, 4, 0, 0, 0, 35, 0, 0, 0, 61, 0, 0, 0, 80, 0, 0, 0, 112, 0, 0, 0, 144]
abbrev dktX1_isNone_2_1 : List UInt8 := dkwX1_isNone_2_1 ++ dktX1_isNone_2_2
def dkwX1_isNone_2_0 : List UInt8 := [35, 35, 149, 154, 0, 15, 26, 16, 7, 162, 0, 11, 36, 36, 149, 153, 0, 5, 4, 172, 26]
abbrev dktX1_isNone_2_0 : List UInt8 := dkwX1_isNone_2_0 ++ dktX1_isNone_2_1
theorem dksX1_isNone_2_0 : cX1_isNone_2.data.toList.drop 0 = dktX1_isNone_2_0 := by decide +kernel
theorem dksX1_isNone_2_1 : cX1_isNone_2.data.toList.drop 21 = dktX1_isNone_2_1 := dk_seg dksX1_isNone_2_0 21 rfl rfl
theorem dksX1_isNone_2_2 : cX1_isNone_2.data.toList.drop 56 = dktX1_isNone_2_2 := dk_seg dksX1_isNone_2_1 35 rfl rfl
theorem dksX1_isNone_2_3 : cX1_isNone_2.data.toList.drop 80 = dktX1_isNone_2_3 := dk_seg dksX1_isNone_2_2 24 rfl rfl
theorem dksX1_isNone_2_4 : cX1_isNone_2.data.toList.drop 102 = dktX1_isNone_2_4 := dk_seg dksX1_isNone_2_3 22 rfl rfl
theorem dksX1_isNone_2_5 : cX1_isNone_2.data.toList.drop 124 = dktX1_isNone_2_5 := dk_seg dksX1_isNone_2_4 22 rfl rfl
theorem dksX1_isNone_2_6 : cX1_isNone_2.data.toList.drop 146 = dktX1_isNone_2_6 := dk_seg dksX1_isNone_2_5 22 rfl rfl
theorem dksX1_isNone_2_7 : cX1_isNone_2.data.toList.drop 169 = dktX1_isNone_2_7 := dk_seg dksX1_isNone_2_6 23 rfl rfl
theorem dX1_isNone_2_0 : decode cX1_isNone_2 0 = .ok (.fload_n 1, 1) := dk_35 (dk_at dksX1_isNone_2_0 0 rfl rfl)
theorem dX1_isNone_2_1 : decode cX1_isNone_2 1 = .ok (.fload_n 1, 1) := dk_35 (dk_at dksX1_isNone_2_0 1 rfl rfl)
theorem dX1_isNone_2_2 : decode cX1_isNone_2 2 = .ok (.fcmp .l, 1) := dk_149 (dk_at dksX1_isNone_2_0 2 rfl rfl)
theorem dX1_isNone_2_3 : decode cX1_isNone_2 3 = .ok (.ifCond .ne 15, 3) := dk_154 0 15 (dk_at dksX1_isNone_2_0 3 rfl rfl)
theorem dX1_isNone_2_6 : decode cX1_isNone_2 6 = .ok (.iload_n 0, 1) := dk_26 (dk_at dksX1_isNone_2_0 6 rfl rfl)
theorem dX1_isNone_2_7 : decode cX1_isNone_2 7 = .ok (.bipush 7, 2) := dk_16 7 (dk_at dksX1_isNone_2_0 7 rfl rfl)
theorem dX1_isNone_2_9 : decode cX1_isNone_2 9 = .ok (.if_icmp .ge 11, 3) := dk_162 0 11 (dk_at dksX1_isNone_2_0 9 rfl rfl)
theorem dX1_isNone_2_12 : decode cX1_isNone_2 12 = .ok (.fload_n 2, 1) := dk_36 (dk_at dksX1_isNone_2_0 12 rfl rfl)
theorem dX1_isNone_2_13 : decode cX1_isNone_2 13 = .ok (.fload_n 2, 1) := dk_36 (dk_at dksX1_isNone_2_0 13 rfl rfl)
theorem dX1_isNone_2_14 : decode cX1_isNone_2 14 = .ok (.fcmp .l, 1) := dk_149 (dk_at dksX1_isNone_2_0 14 rfl rfl)
theorem dX1_isNone_2_15 : decode cX1_isNone_2 15 = .ok (.ifCond .eq 5, 3) := dk_153 0 5 (dk_at dksX1_isNone_2_0 15 rfl rfl)
theorem dX1_isNone_2_18 : decode cX1_isNone_2 18 = .ok (.iconst 1, 1) := dk_4 (dk_at dksX1_isNone_2_0 18 rfl rfl)
theorem dX1_isNone_2_19 : decode cX1_isNone_2 19 = .ok (.ireturn, 1) := dk_172 (dk_at dksX1_isNone_2_0 19 rfl rfl)
theorem dX1_isNone_2_20 : decode cX1_isNone_2 20 = .ok (.iload_n 0, 1) := dk_26 (dk_at dksX1_isNone_2_0 20 rfl rfl)
theorem dX1_isNone_2_21 : decode cX1_isNone_2 21 = .ok (.tableswitch 163 0 4 #[35, 61, 80, 112, 144], 35) := by decide +kernel
theorem dX1_isNone_2_56 : decode cX1_isNone_2 56 = .ok (.fload_n 1, 1) := dk_35 (dk_at dksX1_isNone_2_2 0 rfl rfl)
theorem dX1_isNone_2_57 : decode cX1_isNone_2 57 = .ok (.invokestatic 295, 3) := dk_184 1 39 (dk_at dksX1_isNone_2_2 1 rfl rfl)
theorem dX1_isNone_2_60 : decode cX1_isNone_2 60 = .ok (.ifCond .eq 20, 3) := dk_153 0 20 (dk_at dksX1_isNone_2_2 4 rfl rfl)
theorem dX1_isNone_2_63 : decode cX1_isNone_2 63 = .ok (.fload_n 2, 1) := dk_36 (dk_at dksX1_isNone_2_2 7 rfl rfl)
theorem dX1_isNone_2_64 : decode cX1_isNone_2 64 = .ok (.invokestatic 295, 3) := dk_184 1 39 (dk_at dksX1_isNone_2_2 8 rfl rfl)
theorem dX1_isNone_2_67 : decode cX1_isNone_2 67 = .ok (.ifCond .eq 13, 3) := dk_153 0 13 (dk_at dksX1_isNone_2_2 11 rfl rfl)
theorem dX1_isNone_2_70 : decode cX1_isNone_2 70 = .ok (.fload_n 1, 1) := dk_35 (dk_at dksX1_isNone_2_2 14 rfl rfl)
theorem dX1_isNone_2_71 : decode cX1_isNone_2 71 = .ok (.fload_n 2, 1) := dk_36 (dk_at dksX1_isNone_2_2 15 rfl rfl)
theorem dX1_isNone_2_72 : decode cX1_isNone_2 72 = .ok (.fcmp .l, 1) := dk_149 (dk_at dksX1_isNone_2_2 16 rfl rfl)
theorem dX1_isNone_2_73 : decode cX1_isNone_2 73 = .ok (.ifCond .eq 7, 3) := dk_153 0 7 (dk_at dksX1_isNone_2_2 17 rfl rfl)
theorem dX1_isNone_2_76 : decode cX1_isNone_2 76 = .ok (.iconst 1, 1) := dk_4 (dk_at dksX1_isNone_2_2 20 rfl rfl)
theorem dX1_isNone_2_77 : decode cX1_isNone_2 77 = .ok (.goto 4, 3) := dk_167 0 4 (dk_at dksX1_isNone_2_2 21 rfl rfl)
theorem dX1_isNone_2_80 : decode cX1_isNone_2 80 = .ok (.iconst 0, 1) := dk_3 (dk_at dksX1_isNone_2_3 0 rfl rfl)
theorem dX1_isNone_2_81 : decode cX1_isNone_2 81 = .ok (.ireturn, 1) := dk_172 (dk_at dksX1_isNone_2_3 1 rfl rfl)
theorem dX1_isNone_2_82 : decode cX1_isNone_2 82 = .ok (.fload_n 1, 1) := dk_35 (dk_at dksX1_isNone_2_3 2 rfl rfl)
theorem dX1_isNone_2_83 : decode cX1_isNone_2 83 = .ok (.invokestatic 295, 3) := dk_184 1 39 (dk_at dksX1_isNone_2_3 3 rfl rfl)
theorem dX1_isNone_2_86 : decode cX1_isNone_2 86 = .ok (.ifCond .eq 13, 3) := dk_153 0 13 (dk_at dksX1_isNone_2_3 6 rfl rfl)
theorem dX1_isNone_2_89 : decode cX1_isNone_2 89 = .ok (.fload_n 1, 1) := dk_35 (dk_at dksX1_isNone_2_3 9 rfl rfl)
theorem dX1_isNone_2_90 : decode cX1_isNone_2 90 = .ok (.fload_n 2, 1) := dk_36 (dk_at dksX1_isNone_2_3 10 rfl rfl)
theorem dX1_isNone_2_91 : decode cX1_isNone_2 91 = .ok (.fcmp .l, 1) := dk_149 (dk_at dksX1_isNone_2_3 11 rfl rfl)
theorem dX1_isNone_2_92 : decode cX1_isNone_2 92 = .ok (.ifCond .ne 7, 3) := dk_154 0 7 (dk_at dksX1_isNone_2_3 12 rfl rfl)
theorem dX1_isNone_2_95 : decode cX1_isNone_2 95 = .ok (.iconst 1, 1) := dk_4 (dk_at dksX1_isNone_2_3 15 rfl rfl)
theorem dX1_isNone_2_96 : decode cX1_isNone_2 96 = .ok (.goto 4, 3) := dk_167 0 4 (dk_at dksX1_isNone_2_3 16 rfl rfl)
theorem dX1_isNone_2_99 : decode cX1_isNone_2 99 = .ok (.iconst 0, 1) := dk_3 (dk_at dksX1_isNone_2_3 19 rfl rfl)
theorem dX1_isNone_2_100 : decode cX1_isNone_2 100 = .ok (.ireturn, 1) := dk_172 (dk_at dksX1_isNone_2_3 20 rfl rfl)
theorem dX1_isNone_2_101 : decode cX1_isNone_2 101 = .ok (.fload_n 1, 1) := dk_35 (dk_at dksX1_isNone_2_3 21 rfl rfl)
theorem dX1_isNone_2_102 : decode cX1_isNone_2 102 = .ok (.invokestatic 295, 3) := dk_184 1 39 (dk_at dksX1_isNone_2_4 0 rfl rfl)
theorem dX1_isNone_2_105 : decode cX1_isNone_2 105 = .ok (.ifCond .eq 9, 3) := dk_153 0 9 (dk_at dksX1_isNone_2_4 3 rfl rfl)
theorem dX1_isNone_2_108 : decode cX1_isNone_2 108 = .ok (.fload_n 2, 1) := dk_36 (dk_at dksX1_isNone_2_4 6 rfl rfl)
theorem dX1_isNone_2_109 : decode cX1_isNone_2 109 = .ok (.fconst 0, 1) := dk_11 (dk_at dksX1_isNone_2_4 7 rfl rfl)
theorem dX1_isNone_2_110 : decode cX1_isNone_2 110 = .ok (.fcmp .l, 1) := dk_149 (dk_at dksX1_isNone_2_4 8 rfl rfl)
theorem dX1_isNone_2_111 : decode cX1_isNone_2 111 = .ok (.ifCond .eq 16, 3) := dk_153 0 16 (dk_at dksX1_isNone_2_4 9 rfl rfl)
theorem dX1_isNone_2_114 : decode cX1_isNone_2 114 = .ok (.fload_n 1, 1) := dk_35 (dk_at dksX1_isNone_2_4 12 rfl rfl)
theorem dX1_isNone_2_115 : decode cX1_isNone_2 115 = .ok (.fconst 0, 1) := dk_11 (dk_at dksX1_isNone_2_4 13 rfl rfl)
theorem dX1_isNone_2_116 : decode cX1_isNone_2 116 = .ok (.fcmp .l, 1) := dk_149 (dk_at dksX1_isNone_2_4 14 rfl rfl)
theorem dX1_isNone_2_117 : decode cX1_isNone_2 117 = .ok (.ifCond .ne 14, 3) := dk_154 0 14 (dk_at dksX1_isNone_2_4 15 rfl rfl)
theorem dX1_isNone_2_120 : decode cX1_isNone_2 120 = .ok (.fload_n 2, 1) := dk_36 (dk_at dksX1_isNone_2_4 18 rfl rfl)
theorem dX1_isNone_2_121 : decode cX1_isNone_2 121 = .ok (.invokestatic 295, 3) := dk_184 1 39 (dk_at dksX1_isNone_2_4 19 rfl rfl)
theorem dX1_isNone_2_124 : decode cX1_isNone_2 124 = .ok (.ifCond .eq 7, 3) := dk_153 0 7 (dk_at dksX1_isNone_2_5 0 rfl rfl)
theorem dX1_isNone_2_127 : decode cX1_isNone_2 127 = .ok (.iconst 1, 1) := dk_4 (dk_at dksX1_isNone_2_5 3 rfl rfl)
theorem dX1_isNone_2_128 : decode cX1_isNone_2 128 = .ok (.goto 4, 3) := dk_167 0 4 (dk_at dksX1_isNone_2_5 4 rfl rfl)
theorem dX1_isNone_2_131 : decode cX1_isNone_2 131 = .ok (.iconst 0, 1) := dk_3 (dk_at dksX1_isNone_2_5 7 rfl rfl)
theorem dX1_isNone_2_132 : decode cX1_isNone_2 132 = .ok (.ireturn, 1) := dk_172 (dk_at dksX1_isNone_2_5 8 rfl rfl)
theorem dX1_isNone_2_133 : decode cX1_isNone_2 133 = .ok (.fload_n 1, 1) := dk_35 (dk_at dksX1_isNone_2_5 9 rfl rfl)
theorem dX1_isNone_2_134 : decode cX1_isNone_2 134 = .ok (.fconst 0, 1) := dk_11 (dk_at dksX1_isNone_2_5 10 rfl rfl)
theorem dX1_isNone_2_135 : decode cX1_isNone_2 135 = .ok (.fcmp .l, 1) := dk_149 (dk_at dksX1_isNone_2_5 11 rfl rfl)
theorem dX1_isNone_2_136 : decode cX1_isNone_2 136 = .ok (.ifCond .ne 9, 3) := dk_154 0 9 (dk_at dksX1_isNone_2_5 12 rfl rfl)
theorem dX1_isNone_2_139 : decode cX1_isNone_2 139 = .ok (.fload_n 2, 1) := dk_36 (dk_at dksX1_isNone_2_5 15 rfl rfl)
theorem dX1_isNone_2_140 : decode cX1_isNone_2 140 = .ok (.fconst 0, 1) := dk_11 (dk_at dksX1_isNone_2_5 16 rfl rfl)
theorem dX1_isNone_2_141 : decode cX1_isNone_2 141 = .ok (.fcmp .l, 1) := dk_149 (dk_at dksX1_isNone_2_5 17 rfl rfl)
theorem dX1_isNone_2_142 : decode cX1_isNone_2 142 = .ok (.ifCond .eq 17, 3) := dk_153 0 17 (dk_at dksX1_isNone_2_5 18 rfl rfl)
theorem dX1_isNone_2_145 : decode cX1_isNone_2 145 = .ok (.fload_n 1, 1) := dk_35 (dk_at dksX1_isNone_2_5 21 rfl rfl)
theorem dX1_isNone_2_146 : decode cX1_isNone_2 146 = .ok (.invokestatic 295, 3) := dk_184 1 39 (dk_at dksX1_isNone_2_6 0 rfl rfl)
theorem dX1_isNone_2_149 : decode cX1_isNone_2 149 = .ok (.ifCond .eq 14, 3) := dk_153 0 14 (dk_at dksX1_isNone_2_6 3 rfl rfl)
theorem dX1_isNone_2_152 : decode cX1_isNone_2 152 = .ok (.fload_n 2, 1) := dk_36 (dk_at dksX1_isNone_2_6 6 rfl rfl)
theorem dX1_isNone_2_153 : decode cX1_isNone_2 153 = .ok (.invokestatic 295, 3) := dk_184 1 39 (dk_at dksX1_isNone_2_6 7 rfl rfl)
theorem dX1_isNone_2_156 : decode cX1_isNone_2 156 = .ok (.ifCond .eq 7, 3) := dk_153 0 7 (dk_at dksX1_isNone_2_6 10 rfl rfl)
theorem dX1_isNone_2_159 : decode cX1_isNone_2 159 = .ok (.iconst 1, 1) := dk_4 (dk_at dksX1_isNone_2_6 13 rfl rfl)
theorem dX1_isNone_2_160 : decode cX1_isNone_2 160 = .ok (.goto 4, 3) := dk_167 0 4 (dk_at dksX1_isNone_2_6 14 rfl rfl)
theorem dX1_isNone_2_163 : decode cX1_isNone_2 163 = .ok (.iconst 0, 1) := dk_3 (dk_at dksX1_isNone_2_6 17 rfl rfl)
theorem dX1_isNone_2_164 : decode cX1_isNone_2 164 = .ok (.ireturn, 1) := dk_172 (dk_at dksX1_isNone_2_6 18 rfl rfl)
theorem dX1_isNone_2_165 : decode cX1_isNone_2 165 = .ok (.fload_n 1, 1) := dk_35 (dk_at dksX1_isNone_2_6 19 rfl rfl)
theorem dX1_isNone_2_166 : decode cX1_isNone_2 166 = .ok (.invokestatic 295, 3) := dk_184 1 39 (dk_at dksX1_isNone_2_6 20 rfl rfl)
theorem dX1_isNone_2_169 : decode cX1_isNone_2 169 = .ok (.ifCond .ne 9, 3) := dk_154 0 9 (dk_at dksX1_isNone_2_7 0 rfl rfl)
theorem dX1_isNone_2_172 : decode cX1_isNone_2 172 = .ok (.fload_n 2, 1) := dk_36 (dk_at dksX1_isNone_2_7 3 rfl rfl)
theorem dX1_isNone_2_173 : decode cX1_isNone_2 173 = .ok (.fconst 0, 1) := dk_11 (dk_at dksX1_isNone_2_7 4 rfl rfl)
theorem dX1_isNone_2_174 : decode cX1_isNone_2 174 = .ok (.fcmp .l, 1) := dk_149 (dk_at dksX1_isNone_2_7 5 rfl rfl)
theorem dX1_isNone_2_175 : decode cX1_isNone_2 175 = .ok (.ifCond .ne 7, 3) := dk_154 0 7 (dk_at dksX1_isNone_2_7 6 rfl rfl)
theorem dX1_isNone_2_178 : decode cX1_isNone_2 178 = .ok (.iconst 1, 1) := dk_4 (dk_at dksX1_isNone_2_7 9 rfl rfl)
theorem dX1_isNone_2_179 : decode cX1_isNone_2 179 = .ok (.goto 4, 3) := dk_167 0 4 (dk_at dksX1_isNone_2_7 10 rfl rfl)
theorem dX1_isNone_2_182 : decode cX1_isNone_2 182 = .ok (.iconst 0, 1) := dk_3 (dk_at dksX1_isNone_2_7 13 rfl rfl)
theorem dX1_isNone_2_183 : decode cX1_isNone_2 183 = .ok (.ireturn, 1) := dk_172 (dk_at dksX1_isNone_2_7 14 rfl rfl)
theorem dX1_isNone_2_184 : decode cX1_isNone_2 184 = .ok (.iconst 0, 1) := dk_3 (dk_at dksX1_isNone_2_7 15 rfl rfl)
theorem dX1_isNone_2_185 : decode cX1_isNone_2 185 = .ok (.ireturn, 1) := dk_172 (dk_at dksX1_isNone_2_7 16 rfl rfl)
abbrev cX1_isEndless_2 : ByteArray := prog_1_method_54_code
def yX1_isEndless_2 : MethodName := ⟨RX1, "isEndless", "(F)Z"⟩
def dkwX1_isEndless_2_0 : List UInt8 := [34, 19, 1, 37, 149, 153, 0, 11, 34, 19, 1, 38, 149, 154, 0, 7, 4, 167, 0, 4, 3, 172]
abbrev dktX1_isEndless_2_0 : List UInt8 := dkwX1_isEndless_2_0 ++ []
theorem dksX1_isEndless_2_0 : cX1_isEndless_2.data.toList.drop 0 = dktX1_isEndless_2_0 := by decide +kernel
theorem dX1_isEndless_2_0 : decode cX1_isEndless_2 0 = .ok (.fload_n 0, 1) := dk_34 (dk_at dksX1_isEndless_2_0 0 rfl rfl)
theorem dX1_isEndless_2_1 : decode cX1_isEndless_2 1 = .ok (.ldc_w 293, 3) := dk_19 1 37 (dk_at dksX1_isEndless_2_0 1 rfl rfl)
theorem dX1_isEndless_2_4 : decode cX1_isEndless_2 4 = .ok (.fcmp .l, 1) := dk_149 (dk_at dksX1_isEndless_2_0 4 rfl rfl)
theorem dX1_isEndless_2_5 : decode cX1_isEndless_2 5 = .ok (.ifCond .eq 11, 3) := dk_153 0 11 (dk_at dksX1_isEndless_2_0 5 rfl rfl)
theorem dX1_isEndless_2_8 : decode cX1_isEndless_2 8 = .ok (.fload_n 0, 1) := dk_34 (dk_at dksX1_isEndless_2_0 8 rfl rfl)
theorem dX1_isEndless_2_9 : decode cX1_isEndless_2 9 = .ok (.ldc_w 294, 3) := dk_19 1 38 (dk_at dksX1_isEndless_2_0 9 rfl rfl)
theorem dX1_isEndless_2_12 : decode cX1_isEndless_2 12 = .ok (.fcmp .l, 1) := dk_149 (dk_at dksX1_isEndless_2_0 12 rfl rfl)
theorem dX1_isEndless_2_13 : decode cX1_isEndless_2 13 = .ok (.ifCond .ne 7, 3) := dk_154 0 7 (dk_at dksX1_isEndless_2_0 13 rfl rfl)
theorem dX1_isEndless_2_16 : decode cX1_isEndless_2 16 = .ok (.iconst 1, 1) := dk_4 (dk_at dksX1_isEndless_2_0 16 rfl rfl)
theorem dX1_isEndless_2_17 : decode cX1_isEndless_2 17 = .ok (.goto 4, 3) := dk_167 0 4 (dk_at dksX1_isEndless_2_0 17 rfl rfl)
theorem dX1_isEndless_2_20 : decode cX1_isEndless_2 20 = .ok (.iconst 0, 1) := dk_3 (dk_at dksX1_isEndless_2_0 20 rfl rfl)
theorem dX1_isEndless_2_21 : decode cX1_isEndless_2 21 = .ok (.ireturn, 1) := dk_172 (dk_at dksX1_isEndless_2_0 21 rfl rfl)
abbrev cX1_compare : ByteArray := prog_1_method_58_code
def yX1_compare : MethodName := ⟨RX1, "compare", "(JJZ)I"⟩
def dkwX1_compare_8 : List UInt8 := [16, 16, 167, 0, 4, 3, 96, 24, 6, 24, 8, 151, 155, 0, 8, 16, 32, 167, 0, 4, 3, 96, 172]
abbrev dktX1_compare_8 : List UInt8 := dkwX1_compare_8 ++ []
def dkwX1_compare_7 : List UInt8 := [24, 6, 24, 8, 151, 153, 0, 8, 16, 8, 167, 0, 4, 3, 96, 24, 6, 24, 8, 151, 158, 0, 8]
abbrev dktX1_compare_7 : List UInt8 := dkwX1_compare_7 ++ dktX1_compare_8
def dkwX1_compare_6 : List UInt8 := [157, 0, 7, 5, 167, 0, 4, 3, 96, 24, 6, 24, 8, 151, 154, 0, 7, 7, 167, 0, 4, 3, 96]
abbrev dktX1_compare_6 : List UInt8 := dkwX1_compare_6 ++ dktX1_compare_7
def dkwX1_compare_5 : List UInt8 := [184, 0, 178, 57, 8, 24, 6, 24, 8, 152, 156, 0, 7, 4, 167, 0, 4, 3, 24, 6, 24, 8, 152]
abbrev dktX1_compare_5 : List UInt8 := dkwX1_compare_5 ++ dktX1_compare_6
def dkwX1_compare_4 : List UInt8 := [96, 23, 6, 23, 7, 149, 155, 0, 8, 16, 32, 167, 0, 4, 3, 96, 172, 31, 184, 0, 178, 57, 6, 33]
abbrev dktX1_compare_4 : List UInt8 := dkwX1_compare_4 ++ dktX1_compare_5
def dkwX1_compare_3 : List UInt8 := [153, 0, 8, 16, 8, 167, 0, 4, 3, 96, 23, 6, 23, 7, 149, 158, 0, 8, 16, 16, 167, 0, 4, 3]
abbrev dktX1_compare_3 : List UInt8 := dkwX1_compare_3 ++ dktX1_compare_4
def dkwX1_compare_2 : List UInt8 := [167, 0, 4, 3, 96, 23, 6, 23, 7, 149, 154, 0, 7, 7, 167, 0, 4, 3, 96, 23, 6, 23, 7, 149]
abbrev dktX1_compare_2 : List UInt8 := dkwX1_compare_2 ++ dktX1_compare_3
def dkwX1_compare_1 : List UInt8 := [23, 6, 23, 7, 150, 156, 0, 7, 4, 167, 0, 4, 3, 23, 6, 23, 7, 150, 157, 0, 7, 5]
abbrev dktX1_compare_1 : List UInt8 := dkwX1_compare_1 ++ dktX1_compare_2
def dkwX1_compare_0 : List UInt8 := [42, 3, 181, 0, 33, 21, 5, 153, 0, 104, 31, 136, 184, 0, 181, 56, 6, 33, 136, 184, 0, 181, 56, 7]
abbrev dktX1_compare_0 : List UInt8 := dkwX1_compare_0 ++ dktX1_compare_1
theorem dksX1_compare_0 : cX1_compare.data.toList.drop 0 = dktX1_compare_0 := by decide +kernel
theorem dksX1_compare_1 : cX1_compare.data.toList.drop 24 = dktX1_compare_1 := dk_seg dksX1_compare_0 24 rfl rfl
theorem dksX1_compare_2 : cX1_compare.data.toList.drop 46 = dktX1_compare_2 := dk_seg dksX1_compare_1 22 rfl rfl
theorem dksX1_compare_3 : cX1_compare.data.toList.drop 70 = dktX1_compare_3 := dk_seg dksX1_compare_2 24 rfl rfl
theorem dksX1_compare_4 : cX1_compare.data.toList.drop 94 = dktX1_compare_4 := dk_seg dksX1_compare_3 24 rfl rfl
theorem dksX1_compare_5 : cX1_compare.data.toList.drop 118 = dktX1_compare_5 := dk_seg dksX1_compare_4 24 rfl rfl
theorem dksX1_compare_6 : cX1_compare.data.toList.drop 141 = dktX1_compare_6 := dk_seg dksX1_compare_5 23 rfl rfl
theorem dksX1_compare_7 : cX1_compare.data.toList.drop 164 = dktX1_compare_7 := dk_seg dksX1_compare_6 23 rfl rfl
theorem dksX1_compare_8 : cX1_compare.data.toList.drop 187 = dktX1_compare_8 := dk_seg dksX1_compare_7 23 rfl rfl
theorem dX1_compare_0 : decode cX1_compare 0 = .ok (.aload_n 0, 1) := dk_42 (dk_at dksX1_compare_0 0 rfl rfl)
theorem dX1_compare_1 : decode cX1_compare 1 = .ok (.iconst 0, 1) := dk_3 (dk_at dksX1_compare_0 1 rfl rfl)
theorem dX1_compare_2 : decode cX1_compare 2 = .ok (.putfield 33, 3) := dk_181 0 33 (dk_at dksX1_compare_0 2 rfl rfl)
theorem dX1_compare_5 : decode cX1_compare 5 = .ok (.iload 5, 2) := dk_21 5 (dk_at dksX1_compare_0 5 rfl rfl)
theorem dX1_compare_7 : decode cX1_compare 7 = .ok (.ifCond .eq 104, 3) := dk_153 0 104 (dk_at dksX1_compare_0 7 rfl rfl)
theorem dX1_compare_10 : decode cX1_compare 10 = .ok (.lload_n 1, 1) := dk_31 (dk_at dksX1_compare_0 10 rfl rfl)
theorem dX1_compare_11 : decode cX1_compare 11 = .ok (.l2i, 1) := dk_136 (dk_at dksX1_compare_0 11 rfl rfl)
theorem dX1_compare_12 : decode cX1_compare 12 = .ok (.invokestatic 181, 3) := dk_184 0 181 (dk_at dksX1_compare_0 12 rfl rfl)
theorem dX1_compare_15 : decode cX1_compare 15 = .ok (.fstore 6, 2) := dk_56 6 (dk_at dksX1_compare_0 15 rfl rfl)
theorem dX1_compare_17 : decode cX1_compare 17 = .ok (.lload_n 3, 1) := dk_33 (dk_at dksX1_compare_0 17 rfl rfl)
theorem dX1_compare_18 : decode cX1_compare 18 = .ok (.l2i, 1) := dk_136 (dk_at dksX1_compare_0 18 rfl rfl)
theorem dX1_compare_19 : decode cX1_compare 19 = .ok (.invokestatic 181, 3) := dk_184 0 181 (dk_at dksX1_compare_0 19 rfl rfl)
theorem dX1_compare_22 : decode cX1_compare 22 = .ok (.fstore 7, 2) := dk_56 7 (dk_at dksX1_compare_0 22 rfl rfl)
theorem dX1_compare_24 : decode cX1_compare 24 = .ok (.fload 6, 2) := dk_23 6 (dk_at dksX1_compare_1 0 rfl rfl)
theorem dX1_compare_26 : decode cX1_compare 26 = .ok (.fload 7, 2) := dk_23 7 (dk_at dksX1_compare_1 2 rfl rfl)
theorem dX1_compare_28 : decode cX1_compare 28 = .ok (.fcmp .g, 1) := dk_150 (dk_at dksX1_compare_1 4 rfl rfl)
theorem dX1_compare_29 : decode cX1_compare 29 = .ok (.ifCond .ge 7, 3) := dk_156 0 7 (dk_at dksX1_compare_1 5 rfl rfl)
theorem dX1_compare_32 : decode cX1_compare 32 = .ok (.iconst 1, 1) := dk_4 (dk_at dksX1_compare_1 8 rfl rfl)
theorem dX1_compare_33 : decode cX1_compare 33 = .ok (.goto 4, 3) := dk_167 0 4 (dk_at dksX1_compare_1 9 rfl rfl)
theorem dX1_compare_36 : decode cX1_compare 36 = .ok (.iconst 0, 1) := dk_3 (dk_at dksX1_compare_1 12 rfl rfl)
theorem dX1_compare_37 : decode cX1_compare 37 = .ok (.fload 6, 2) := dk_23 6 (dk_at dksX1_compare_1 13 rfl rfl)
theorem dX1_compare_39 : decode cX1_compare 39 = .ok (.fload 7, 2) := dk_23 7 (dk_at dksX1_compare_1 15 rfl rfl)
theorem dX1_compare_41 : decode cX1_compare 41 = .ok (.fcmp .g, 1) := dk_150 (dk_at dksX1_compare_1 17 rfl rfl)
theorem dX1_compare_42 : decode cX1_compare 42 = .ok (.ifCond .gt 7, 3) := dk_157 0 7 (dk_at dksX1_compare_1 18 rfl rfl)
theorem dX1_compare_45 : decode cX1_compare 45 = .ok (.iconst 2, 1) := dk_5 (dk_at dksX1_compare_1 21 rfl rfl)
theorem dX1_compare_46 : decode cX1_compare 46 = .ok (.goto 4, 3) := dk_167 0 4 (dk_at dksX1_compare_2 0 rfl rfl)
theorem dX1_compare_49 : decode cX1_compare 49 = .ok (.iconst 0, 1) := dk_3 (dk_at dksX1_compare_2 3 rfl rfl)
theorem dX1_compare_50 : decode cX1_compare 50 = .ok (.iadd, 1) := dk_96 (dk_at dksX1_compare_2 4 rfl rfl)
theorem dX1_compare_51 : decode cX1_compare 51 = .ok (.fload 6, 2) := dk_23 6 (dk_at dksX1_compare_2 5 rfl rfl)
theorem dX1_compare_53 : decode cX1_compare 53 = .ok (.fload 7, 2) := dk_23 7 (dk_at dksX1_compare_2 7 rfl rfl)
theorem dX1_compare_55 : decode cX1_compare 55 = .ok (.fcmp .l, 1) := dk_149 (dk_at dksX1_compare_2 9 rfl rfl)
theorem dX1_compare_56 : decode cX1_compare 56 = .ok (.ifCond .ne 7, 3) := dk_154 0 7 (dk_at dksX1_compare_2 10 rfl rfl)
theorem dX1_compare_59 : decode cX1_compare 59 = .ok (.iconst 4, 1) := dk_7 (dk_at dksX1_compare_2 13 rfl rfl)
theorem dX1_compare_60 : decode cX1_compare 60 = .ok (.goto 4, 3) := dk_167 0 4 (dk_at dksX1_compare_2 14 rfl rfl)
theorem dX1_compare_63 : decode cX1_compare 63 = .ok (.iconst 0, 1) := dk_3 (dk_at dksX1_compare_2 17 rfl rfl)
theorem dX1_compare_64 : decode cX1_compare 64 = .ok (.iadd, 1) := dk_96 (dk_at dksX1_compare_2 18 rfl rfl)
theorem dX1_compare_65 : decode cX1_compare 65 = .ok (.fload 6, 2) := dk_23 6 (dk_at dksX1_compare_2 19 rfl rfl)
theorem dX1_compare_67 : decode cX1_compare 67 = .ok (.fload 7, 2) := dk_23 7 (dk_at dksX1_compare_2 21 rfl rfl)
theorem dX1_compare_69 : decode cX1_compare 69 = .ok (.fcmp .l, 1) := dk_149 (dk_at dksX1_compare_2 23 rfl rfl)
theorem dX1_compare_70 : decode cX1_compare 70 = .ok (.ifCond .eq 8, 3) := dk_153 0 8 (dk_at dksX1_compare_3 0 rfl rfl)
theorem dX1_compare_73 : decode cX1_compare 73 = .ok (.bipush 8, 2) := dk_16 8 (dk_at dksX1_compare_3 3 rfl rfl)
theorem dX1_compare_75 : decode cX1_compare 75 = .ok (.goto 4, 3) := dk_167 0 4 (dk_at dksX1_compare_3 5 rfl rfl)
theorem dX1_compare_78 : decode cX1_compare 78 = .ok (.iconst 0, 1) := dk_3 (dk_at dksX1_compare_3 8 rfl rfl)
theorem dX1_compare_79 : decode cX1_compare 79 = .ok (.iadd, 1) := dk_96 (dk_at dksX1_compare_3 9 rfl rfl)
theorem dX1_compare_80 : decode cX1_compare 80 = .ok (.fload 6, 2) := dk_23 6 (dk_at dksX1_compare_3 10 rfl rfl)
theorem dX1_compare_82 : decode cX1_compare 82 = .ok (.fload 7, 2) := dk_23 7 (dk_at dksX1_compare_3 12 rfl rfl)
theorem dX1_compare_84 : decode cX1_compare 84 = .ok (.fcmp .l, 1) := dk_149 (dk_at dksX1_compare_3 14 rfl rfl)
theorem dX1_compare_85 : decode cX1_compare 85 = .ok (.ifCond .le 8, 3) := dk_158 0 8 (dk_at dksX1_compare_3 15 rfl rfl)
theorem dX1_compare_88 : decode cX1_compare 88 = .ok (.bipush 16, 2) := dk_16 16 (dk_at dksX1_compare_3 18 rfl rfl)
theorem dX1_compare_90 : decode cX1_compare 90 = .ok (.goto 4, 3) := dk_167 0 4 (dk_at dksX1_compare_3 20 rfl rfl)
theorem dX1_compare_93 : decode cX1_compare 93 = .ok (.iconst 0, 1) := dk_3 (dk_at dksX1_compare_3 23 rfl rfl)
theorem dX1_compare_94 : decode cX1_compare 94 = .ok (.iadd, 1) := dk_96 (dk_at dksX1_compare_4 0 rfl rfl)
theorem dX1_compare_95 : decode cX1_compare 95 = .ok (.fload 6, 2) := dk_23 6 (dk_at dksX1_compare_4 1 rfl rfl)
theorem dX1_compare_97 : decode cX1_compare 97 = .ok (.fload 7, 2) := dk_23 7 (dk_at dksX1_compare_4 3 rfl rfl)
theorem dX1_compare_99 : decode cX1_compare 99 = .ok (.fcmp .l, 1) := dk_149 (dk_at dksX1_compare_4 5 rfl rfl)
theorem dX1_compare_100 : decode cX1_compare 100 = .ok (.ifCond .lt 8, 3) := dk_155 0 8 (dk_at dksX1_compare_4 6 rfl rfl)
theorem dX1_compare_103 : decode cX1_compare 103 = .ok (.bipush 32, 2) := dk_16 32 (dk_at dksX1_compare_4 9 rfl rfl)
theorem dX1_compare_105 : decode cX1_compare 105 = .ok (.goto 4, 3) := dk_167 0 4 (dk_at dksX1_compare_4 11 rfl rfl)
theorem dX1_compare_108 : decode cX1_compare 108 = .ok (.iconst 0, 1) := dk_3 (dk_at dksX1_compare_4 14 rfl rfl)
theorem dX1_compare_109 : decode cX1_compare 109 = .ok (.iadd, 1) := dk_96 (dk_at dksX1_compare_4 15 rfl rfl)
theorem dX1_compare_110 : decode cX1_compare 110 = .ok (.ireturn, 1) := dk_172 (dk_at dksX1_compare_4 16 rfl rfl)
theorem dX1_compare_111 : decode cX1_compare 111 = .ok (.lload_n 1, 1) := dk_31 (dk_at dksX1_compare_4 17 rfl rfl)
theorem dX1_compare_112 : decode cX1_compare 112 = .ok (.invokestatic 178, 3) := dk_184 0 178 (dk_at dksX1_compare_4 18 rfl rfl)
theorem dX1_compare_115 : decode cX1_compare 115 = .ok (.dstore 6, 2) := dk_57 6 (dk_at dksX1_compare_4 21 rfl rfl)
theorem dX1_compare_117 : decode cX1_compare 117 = .ok (.lload_n 3, 1) := dk_33 (dk_at dksX1_compare_4 23 rfl rfl)
theorem dX1_compare_118 : decode cX1_compare 118 = .ok (.invokestatic 178, 3) := dk_184 0 178 (dk_at dksX1_compare_5 0 rfl rfl)
theorem dX1_compare_121 : decode cX1_compare 121 = .ok (.dstore 8, 2) := dk_57 8 (dk_at dksX1_compare_5 3 rfl rfl)
theorem dX1_compare_123 : decode cX1_compare 123 = .ok (.dload 6, 2) := dk_24 6 (dk_at dksX1_compare_5 5 rfl rfl)
theorem dX1_compare_125 : decode cX1_compare 125 = .ok (.dload 8, 2) := dk_24 8 (dk_at dksX1_compare_5 7 rfl rfl)
theorem dX1_compare_127 : decode cX1_compare 127 = .ok (.dcmp .g, 1) := dk_152 (dk_at dksX1_compare_5 9 rfl rfl)
theorem dX1_compare_128 : decode cX1_compare 128 = .ok (.ifCond .ge 7, 3) := dk_156 0 7 (dk_at dksX1_compare_5 10 rfl rfl)
theorem dX1_compare_131 : decode cX1_compare 131 = .ok (.iconst 1, 1) := dk_4 (dk_at dksX1_compare_5 13 rfl rfl)
theorem dX1_compare_132 : decode cX1_compare 132 = .ok (.goto 4, 3) := dk_167 0 4 (dk_at dksX1_compare_5 14 rfl rfl)
theorem dX1_compare_135 : decode cX1_compare 135 = .ok (.iconst 0, 1) := dk_3 (dk_at dksX1_compare_5 17 rfl rfl)
theorem dX1_compare_136 : decode cX1_compare 136 = .ok (.dload 6, 2) := dk_24 6 (dk_at dksX1_compare_5 18 rfl rfl)
theorem dX1_compare_138 : decode cX1_compare 138 = .ok (.dload 8, 2) := dk_24 8 (dk_at dksX1_compare_5 20 rfl rfl)
theorem dX1_compare_140 : decode cX1_compare 140 = .ok (.dcmp .g, 1) := dk_152 (dk_at dksX1_compare_5 22 rfl rfl)
theorem dX1_compare_141 : decode cX1_compare 141 = .ok (.ifCond .gt 7, 3) := dk_157 0 7 (dk_at dksX1_compare_6 0 rfl rfl)
theorem dX1_compare_144 : decode cX1_compare 144 = .ok (.iconst 2, 1) := dk_5 (dk_at dksX1_compare_6 3 rfl rfl)
theorem dX1_compare_145 : decode cX1_compare 145 = .ok (.goto 4, 3) := dk_167 0 4 (dk_at dksX1_compare_6 4 rfl rfl)
theorem dX1_compare_148 : decode cX1_compare 148 = .ok (.iconst 0, 1) := dk_3 (dk_at dksX1_compare_6 7 rfl rfl)
theorem dX1_compare_149 : decode cX1_compare 149 = .ok (.iadd, 1) := dk_96 (dk_at dksX1_compare_6 8 rfl rfl)
theorem dX1_compare_150 : decode cX1_compare 150 = .ok (.dload 6, 2) := dk_24 6 (dk_at dksX1_compare_6 9 rfl rfl)
theorem dX1_compare_152 : decode cX1_compare 152 = .ok (.dload 8, 2) := dk_24 8 (dk_at dksX1_compare_6 11 rfl rfl)
theorem dX1_compare_154 : decode cX1_compare 154 = .ok (.dcmp .l, 1) := dk_151 (dk_at dksX1_compare_6 13 rfl rfl)
theorem dX1_compare_155 : decode cX1_compare 155 = .ok (.ifCond .ne 7, 3) := dk_154 0 7 (dk_at dksX1_compare_6 14 rfl rfl)
theorem dX1_compare_158 : decode cX1_compare 158 = .ok (.iconst 4, 1) := dk_7 (dk_at dksX1_compare_6 17 rfl rfl)
theorem dX1_compare_159 : decode cX1_compare 159 = .ok (.goto 4, 3) := dk_167 0 4 (dk_at dksX1_compare_6 18 rfl rfl)
theorem dX1_compare_162 : decode cX1_compare 162 = .ok (.iconst 0, 1) := dk_3 (dk_at dksX1_compare_6 21 rfl rfl)
theorem dX1_compare_163 : decode cX1_compare 163 = .ok (.iadd, 1) := dk_96 (dk_at dksX1_compare_6 22 rfl rfl)
theorem dX1_compare_164 : decode cX1_compare 164 = .ok (.dload 6, 2) := dk_24 6 (dk_at dksX1_compare_7 0 rfl rfl)
theorem dX1_compare_166 : decode cX1_compare 166 = .ok (.dload 8, 2) := dk_24 8 (dk_at dksX1_compare_7 2 rfl rfl)
theorem dX1_compare_168 : decode cX1_compare 168 = .ok (.dcmp .l, 1) := dk_151 (dk_at dksX1_compare_7 4 rfl rfl)
theorem dX1_compare_169 : decode cX1_compare 169 = .ok (.ifCond .eq 8, 3) := dk_153 0 8 (dk_at dksX1_compare_7 5 rfl rfl)
theorem dX1_compare_172 : decode cX1_compare 172 = .ok (.bipush 8, 2) := dk_16 8 (dk_at dksX1_compare_7 8 rfl rfl)
theorem dX1_compare_174 : decode cX1_compare 174 = .ok (.goto 4, 3) := dk_167 0 4 (dk_at dksX1_compare_7 10 rfl rfl)
theorem dX1_compare_177 : decode cX1_compare 177 = .ok (.iconst 0, 1) := dk_3 (dk_at dksX1_compare_7 13 rfl rfl)
theorem dX1_compare_178 : decode cX1_compare 178 = .ok (.iadd, 1) := dk_96 (dk_at dksX1_compare_7 14 rfl rfl)
theorem dX1_compare_179 : decode cX1_compare 179 = .ok (.dload 6, 2) := dk_24 6 (dk_at dksX1_compare_7 15 rfl rfl)
theorem dX1_compare_181 : decode cX1_compare 181 = .ok (.dload 8, 2) := dk_24 8 (dk_at dksX1_compare_7 17 rfl rfl)
theorem dX1_compare_183 : decode cX1_compare 183 = .ok (.dcmp .l, 1) := dk_151 (dk_at dksX1_compare_7 19 rfl rfl)
theorem dX1_compare_184 : decode cX1_compare 184 = .ok (.ifCond .le 8, 3) := dk_158 0 8 (dk_at dksX1_compare_7 20 rfl rfl)
theorem dX1_compare_187 : decode cX1_compare 187 = .ok (.bipush 16, 2) := dk_16 16 (dk_at dksX1_compare_8 0 rfl rfl)
theorem dX1_compare_189 : decode cX1_compare 189 = .ok (.goto 4, 3) := dk_167 0 4 (dk_at dksX1_compare_8 2 rfl rfl)
theorem dX1_compare_192 : decode cX1_compare 192 = .ok (.iconst 0, 1) := dk_3 (dk_at dksX1_compare_8 5 rfl rfl)
theorem dX1_compare_193 : decode cX1_compare 193 = .ok (.iadd, 1) := dk_96 (dk_at dksX1_compare_8 6 rfl rfl)
theorem dX1_compare_194 : decode cX1_compare 194 = .ok (.dload 6, 2) := dk_24 6 (dk_at dksX1_compare_8 7 rfl rfl)
theorem dX1_compare_196 : decode cX1_compare 196 = .ok (.dload 8, 2) := dk_24 8 (dk_at dksX1_compare_8 9 rfl rfl)
theorem dX1_compare_198 : decode cX1_compare 198 = .ok (.dcmp .l, 1) := dk_151 (dk_at dksX1_compare_8 11 rfl rfl)
theorem dX1_compare_199 : decode cX1_compare 199 = .ok (.ifCond .lt 8, 3) := dk_155 0 8 (dk_at dksX1_compare_8 12 rfl rfl)
theorem dX1_compare_202 : decode cX1_compare 202 = .ok (.bipush 32, 2) := dk_16 32 (dk_at dksX1_compare_8 15 rfl rfl)
theorem dX1_compare_204 : decode cX1_compare 204 = .ok (.goto 4, 3) := dk_167 0 4 (dk_at dksX1_compare_8 17 rfl rfl)
theorem dX1_compare_207 : decode cX1_compare 207 = .ok (.iconst 0, 1) := dk_3 (dk_at dksX1_compare_8 20 rfl rfl)
theorem dX1_compare_208 : decode cX1_compare 208 = .ok (.iadd, 1) := dk_96 (dk_at dksX1_compare_8 21 rfl rfl)
theorem dX1_compare_209 : decode cX1_compare 209 = .ok (.ireturn, 1) := dk_172 (dk_at dksX1_compare_8 22 rfl rfl)
abbrev cX1_turn : ByteArray := prog_1_method_61_code
def yX1_turn : MethodName := ⟨RX1, "turn", "(IIJ)J"⟩
def dkwX1_turn_4 : List UInt8 := [184, 0, 156, 167, 0, 9, 28, 22, 5, 184, 0, 184, 173]
abbrev dktX1_turn_4 : List UInt8 := dkwX1_turn_4 ++ []
def dkwX1_turn_3 : List UInt8 := [184, 0, 181, 184, 1, 66, 173, 27, 33, 184, 0, 184, 55, 5, 28, 16, 6, 161, 0, 12, 22, 5, 28]
abbrev dktX1_turn_3 : List UInt8 := dkwX1_turn_3 ++ dktX1_turn_4
def dkwX1_turn_2 : List UInt8 := [16, 7, 160, 0, 12, 28, 33, 184, 0, 178, 184, 1, 62, 173, 27, 16, 6, 160, 0, 13, 28, 33, 136]
abbrev dktX1_turn_2 : List UInt8 := dkwX1_turn_2 ++ dktX1_turn_3
def dkwX1_turn_1 : List UInt8 := [167, 0, 4, 3, 28, 154, 0, 7, 4, 167, 0, 4, 3, 159, 0, 10, 42, 4, 182, 0, 49, 133, 173, 27]
abbrev dktX1_turn_1 : List UInt8 := dkwX1_turn_1 ++ dktX1_turn_2
def dkwX1_turn_0 : List UInt8 := [42, 3, 181, 0, 33, 27, 184, 0, 164, 153, 0, 31, 28, 184, 0, 164, 153, 0, 24, 27, 154, 0, 7, 4]
abbrev dktX1_turn_0 : List UInt8 := dkwX1_turn_0 ++ dktX1_turn_1
theorem dksX1_turn_0 : cX1_turn.data.toList.drop 0 = dktX1_turn_0 := by decide +kernel
theorem dksX1_turn_1 : cX1_turn.data.toList.drop 24 = dktX1_turn_1 := dk_seg dksX1_turn_0 24 rfl rfl
theorem dksX1_turn_2 : cX1_turn.data.toList.drop 48 = dktX1_turn_2 := dk_seg dksX1_turn_1 24 rfl rfl
theorem dksX1_turn_3 : cX1_turn.data.toList.drop 71 = dktX1_turn_3 := dk_seg dksX1_turn_2 23 rfl rfl
theorem dksX1_turn_4 : cX1_turn.data.toList.drop 94 = dktX1_turn_4 := dk_seg dksX1_turn_3 23 rfl rfl
theorem dX1_turn_0 : decode cX1_turn 0 = .ok (.aload_n 0, 1) := dk_42 (dk_at dksX1_turn_0 0 rfl rfl)
theorem dX1_turn_1 : decode cX1_turn 1 = .ok (.iconst 0, 1) := dk_3 (dk_at dksX1_turn_0 1 rfl rfl)
theorem dX1_turn_2 : decode cX1_turn 2 = .ok (.putfield 33, 3) := dk_181 0 33 (dk_at dksX1_turn_0 2 rfl rfl)
theorem dX1_turn_5 : decode cX1_turn 5 = .ok (.iload_n 1, 1) := dk_27 (dk_at dksX1_turn_0 5 rfl rfl)
theorem dX1_turn_6 : decode cX1_turn 6 = .ok (.invokestatic 164, 3) := dk_184 0 164 (dk_at dksX1_turn_0 6 rfl rfl)
theorem dX1_turn_9 : decode cX1_turn 9 = .ok (.ifCond .eq 31, 3) := dk_153 0 31 (dk_at dksX1_turn_0 9 rfl rfl)
theorem dX1_turn_12 : decode cX1_turn 12 = .ok (.iload_n 2, 1) := dk_28 (dk_at dksX1_turn_0 12 rfl rfl)
theorem dX1_turn_13 : decode cX1_turn 13 = .ok (.invokestatic 164, 3) := dk_184 0 164 (dk_at dksX1_turn_0 13 rfl rfl)
theorem dX1_turn_16 : decode cX1_turn 16 = .ok (.ifCond .eq 24, 3) := dk_153 0 24 (dk_at dksX1_turn_0 16 rfl rfl)
theorem dX1_turn_19 : decode cX1_turn 19 = .ok (.iload_n 1, 1) := dk_27 (dk_at dksX1_turn_0 19 rfl rfl)
theorem dX1_turn_20 : decode cX1_turn 20 = .ok (.ifCond .ne 7, 3) := dk_154 0 7 (dk_at dksX1_turn_0 20 rfl rfl)
theorem dX1_turn_23 : decode cX1_turn 23 = .ok (.iconst 1, 1) := dk_4 (dk_at dksX1_turn_0 23 rfl rfl)
theorem dX1_turn_24 : decode cX1_turn 24 = .ok (.goto 4, 3) := dk_167 0 4 (dk_at dksX1_turn_1 0 rfl rfl)
theorem dX1_turn_27 : decode cX1_turn 27 = .ok (.iconst 0, 1) := dk_3 (dk_at dksX1_turn_1 3 rfl rfl)
theorem dX1_turn_28 : decode cX1_turn 28 = .ok (.iload_n 2, 1) := dk_28 (dk_at dksX1_turn_1 4 rfl rfl)
theorem dX1_turn_29 : decode cX1_turn 29 = .ok (.ifCond .ne 7, 3) := dk_154 0 7 (dk_at dksX1_turn_1 5 rfl rfl)
theorem dX1_turn_32 : decode cX1_turn 32 = .ok (.iconst 1, 1) := dk_4 (dk_at dksX1_turn_1 8 rfl rfl)
theorem dX1_turn_33 : decode cX1_turn 33 = .ok (.goto 4, 3) := dk_167 0 4 (dk_at dksX1_turn_1 9 rfl rfl)
theorem dX1_turn_36 : decode cX1_turn 36 = .ok (.iconst 0, 1) := dk_3 (dk_at dksX1_turn_1 12 rfl rfl)
theorem dX1_turn_37 : decode cX1_turn 37 = .ok (.if_icmp .eq 10, 3) := dk_159 0 10 (dk_at dksX1_turn_1 13 rfl rfl)
theorem dX1_turn_40 : decode cX1_turn 40 = .ok (.aload_n 0, 1) := dk_42 (dk_at dksX1_turn_1 16 rfl rfl)
theorem dX1_turn_41 : decode cX1_turn 41 = .ok (.iconst 1, 1) := dk_4 (dk_at dksX1_turn_1 17 rfl rfl)
theorem dX1_turn_42 : decode cX1_turn 42 = .ok (.invokevirtual 49, 3) := dk_182 0 49 (dk_at dksX1_turn_1 18 rfl rfl)
theorem dX1_turn_45 : decode cX1_turn 45 = .ok (.i2l, 1) := dk_133 (dk_at dksX1_turn_1 21 rfl rfl)
theorem dX1_turn_46 : decode cX1_turn 46 = .ok (.lreturn, 1) := dk_173 (dk_at dksX1_turn_1 22 rfl rfl)
theorem dX1_turn_47 : decode cX1_turn 47 = .ok (.iload_n 1, 1) := dk_27 (dk_at dksX1_turn_1 23 rfl rfl)
theorem dX1_turn_48 : decode cX1_turn 48 = .ok (.bipush 7, 2) := dk_16 7 (dk_at dksX1_turn_2 0 rfl rfl)
theorem dX1_turn_50 : decode cX1_turn 50 = .ok (.if_icmp .ne 12, 3) := dk_160 0 12 (dk_at dksX1_turn_2 2 rfl rfl)
theorem dX1_turn_53 : decode cX1_turn 53 = .ok (.iload_n 2, 1) := dk_28 (dk_at dksX1_turn_2 5 rfl rfl)
theorem dX1_turn_54 : decode cX1_turn 54 = .ok (.lload_n 3, 1) := dk_33 (dk_at dksX1_turn_2 6 rfl rfl)
theorem dX1_turn_55 : decode cX1_turn 55 = .ok (.invokestatic 178, 3) := dk_184 0 178 (dk_at dksX1_turn_2 7 rfl rfl)
theorem dX1_turn_58 : decode cX1_turn 58 = .ok (.invokestatic 318, 3) := dk_184 1 62 (dk_at dksX1_turn_2 10 rfl rfl)
theorem dX1_turn_61 : decode cX1_turn 61 = .ok (.lreturn, 1) := dk_173 (dk_at dksX1_turn_2 13 rfl rfl)
theorem dX1_turn_62 : decode cX1_turn 62 = .ok (.iload_n 1, 1) := dk_27 (dk_at dksX1_turn_2 14 rfl rfl)
theorem dX1_turn_63 : decode cX1_turn 63 = .ok (.bipush 6, 2) := dk_16 6 (dk_at dksX1_turn_2 15 rfl rfl)
theorem dX1_turn_65 : decode cX1_turn 65 = .ok (.if_icmp .ne 13, 3) := dk_160 0 13 (dk_at dksX1_turn_2 17 rfl rfl)
theorem dX1_turn_68 : decode cX1_turn 68 = .ok (.iload_n 2, 1) := dk_28 (dk_at dksX1_turn_2 20 rfl rfl)
theorem dX1_turn_69 : decode cX1_turn 69 = .ok (.lload_n 3, 1) := dk_33 (dk_at dksX1_turn_2 21 rfl rfl)
theorem dX1_turn_70 : decode cX1_turn 70 = .ok (.l2i, 1) := dk_136 (dk_at dksX1_turn_2 22 rfl rfl)
theorem dX1_turn_71 : decode cX1_turn 71 = .ok (.invokestatic 181, 3) := dk_184 0 181 (dk_at dksX1_turn_3 0 rfl rfl)
theorem dX1_turn_74 : decode cX1_turn 74 = .ok (.invokestatic 322, 3) := dk_184 1 66 (dk_at dksX1_turn_3 3 rfl rfl)
theorem dX1_turn_77 : decode cX1_turn 77 = .ok (.lreturn, 1) := dk_173 (dk_at dksX1_turn_3 6 rfl rfl)
theorem dX1_turn_78 : decode cX1_turn 78 = .ok (.iload_n 1, 1) := dk_27 (dk_at dksX1_turn_3 7 rfl rfl)
theorem dX1_turn_79 : decode cX1_turn 79 = .ok (.lload_n 3, 1) := dk_33 (dk_at dksX1_turn_3 8 rfl rfl)
theorem dX1_turn_80 : decode cX1_turn 80 = .ok (.invokestatic 184, 3) := dk_184 0 184 (dk_at dksX1_turn_3 9 rfl rfl)
theorem dX1_turn_83 : decode cX1_turn 83 = .ok (.lstore 5, 2) := dk_55 5 (dk_at dksX1_turn_3 12 rfl rfl)
theorem dX1_turn_85 : decode cX1_turn 85 = .ok (.iload_n 2, 1) := dk_28 (dk_at dksX1_turn_3 14 rfl rfl)
theorem dX1_turn_86 : decode cX1_turn 86 = .ok (.bipush 6, 2) := dk_16 6 (dk_at dksX1_turn_3 15 rfl rfl)
theorem dX1_turn_88 : decode cX1_turn 88 = .ok (.if_icmp .lt 12, 3) := dk_161 0 12 (dk_at dksX1_turn_3 17 rfl rfl)
theorem dX1_turn_91 : decode cX1_turn 91 = .ok (.lload 5, 2) := dk_22 5 (dk_at dksX1_turn_3 20 rfl rfl)
theorem dX1_turn_93 : decode cX1_turn 93 = .ok (.iload_n 2, 1) := dk_28 (dk_at dksX1_turn_3 22 rfl rfl)
theorem dX1_turn_94 : decode cX1_turn 94 = .ok (.invokestatic 156, 3) := dk_184 0 156 (dk_at dksX1_turn_4 0 rfl rfl)
theorem dX1_turn_97 : decode cX1_turn 97 = .ok (.goto 9, 3) := dk_167 0 9 (dk_at dksX1_turn_4 3 rfl rfl)
theorem dX1_turn_100 : decode cX1_turn 100 = .ok (.iload_n 2, 1) := dk_28 (dk_at dksX1_turn_4 6 rfl rfl)
theorem dX1_turn_101 : decode cX1_turn 101 = .ok (.lload 5, 2) := dk_22 5 (dk_at dksX1_turn_4 7 rfl rfl)
theorem dX1_turn_103 : decode cX1_turn 103 = .ok (.invokestatic 184, 3) := dk_184 0 184 (dk_at dksX1_turn_4 9 rfl rfl)
theorem dX1_turn_106 : decode cX1_turn 106 = .ok (.lreturn, 1) := dk_173 (dk_at dksX1_turn_4 12 rfl rfl)
abbrev cX1_turned : ByteArray := prog_1_method_59_code
def yX1_turned : MethodName := ⟨RX1, "turned", "(ID)J"⟩
def dkwX1_turned_3 : List UInt8 := [151, 153, 0, 8, 18, 143, 167, 0, 5, 39, 144, 184, 0, 148, 133, 173, 39, 184, 0, 152, 173]
abbrev dktX1_turned_3 : List UInt8 := dkwX1_turned_3 ++ []
def dkwX1_turned_2 : List UInt8 := [39, 142, 145, 133, 173, 39, 142, 146, 133, 173, 39, 142, 147, 133, 173, 39, 142, 133, 173, 39, 143, 173, 39, 39]
abbrev dktX1_turned_2 : List UInt8 := dkwX1_turned_2 ++ dktX1_turned_3
def dkwX1_turned_1 : List UInt8 := [170, 0, 0, 0, 0, 0, 79, 0, 0, 0, 1, 0, 0, 0, 6, 0, 0, 0, 39, 0, 0, 0, 44, 0, 0, 0, 49, 0, 0, 0, 54, 0, 0, 0, 58, 0, 0, 0, 61]
abbrev dktX1_turned_1 : List UInt8 := dkwX1_turned_1 ++ dktX1_turned_2
def dkwX1_turned_0 : List UInt8 := [26]
abbrev dktX1_turned_0 : List UInt8 := dkwX1_turned_0 ++ dktX1_turned_1
theorem dksX1_turned_0 : cX1_turned.data.toList.drop 0 = dktX1_turned_0 := by decide +kernel
theorem dksX1_turned_1 : cX1_turned.data.toList.drop 1 = dktX1_turned_1 := dk_seg dksX1_turned_0 1 rfl rfl
theorem dksX1_turned_2 : cX1_turned.data.toList.drop 40 = dktX1_turned_2 := dk_seg dksX1_turned_1 39 rfl rfl
theorem dksX1_turned_3 : cX1_turned.data.toList.drop 64 = dktX1_turned_3 := dk_seg dksX1_turned_2 24 rfl rfl
theorem dX1_turned_0 : decode cX1_turned 0 = .ok (.iload_n 0, 1) := dk_26 (dk_at dksX1_turned_0 0 rfl rfl)
theorem dX1_turned_1 : decode cX1_turned 1 = .ok (.tableswitch 79 1 6 #[39, 44, 49, 54, 58, 61], 39) := by decide +kernel
theorem dX1_turned_40 : decode cX1_turned 40 = .ok (.dload_n 1, 1) := dk_39 (dk_at dksX1_turned_2 0 rfl rfl)
theorem dX1_turned_41 : decode cX1_turned 41 = .ok (.d2i, 1) := dk_142 (dk_at dksX1_turned_2 1 rfl rfl)
theorem dX1_turned_42 : decode cX1_turned 42 = .ok (.i2b, 1) := dk_145 (dk_at dksX1_turned_2 2 rfl rfl)
theorem dX1_turned_43 : decode cX1_turned 43 = .ok (.i2l, 1) := dk_133 (dk_at dksX1_turned_2 3 rfl rfl)
theorem dX1_turned_44 : decode cX1_turned 44 = .ok (.lreturn, 1) := dk_173 (dk_at dksX1_turned_2 4 rfl rfl)
theorem dX1_turned_45 : decode cX1_turned 45 = .ok (.dload_n 1, 1) := dk_39 (dk_at dksX1_turned_2 5 rfl rfl)
theorem dX1_turned_46 : decode cX1_turned 46 = .ok (.d2i, 1) := dk_142 (dk_at dksX1_turned_2 6 rfl rfl)
theorem dX1_turned_47 : decode cX1_turned 47 = .ok (.i2c, 1) := dk_146 (dk_at dksX1_turned_2 7 rfl rfl)
theorem dX1_turned_48 : decode cX1_turned 48 = .ok (.i2l, 1) := dk_133 (dk_at dksX1_turned_2 8 rfl rfl)
theorem dX1_turned_49 : decode cX1_turned 49 = .ok (.lreturn, 1) := dk_173 (dk_at dksX1_turned_2 9 rfl rfl)
theorem dX1_turned_50 : decode cX1_turned 50 = .ok (.dload_n 1, 1) := dk_39 (dk_at dksX1_turned_2 10 rfl rfl)
theorem dX1_turned_51 : decode cX1_turned 51 = .ok (.d2i, 1) := dk_142 (dk_at dksX1_turned_2 11 rfl rfl)
theorem dX1_turned_52 : decode cX1_turned 52 = .ok (.i2s, 1) := dk_147 (dk_at dksX1_turned_2 12 rfl rfl)
theorem dX1_turned_53 : decode cX1_turned 53 = .ok (.i2l, 1) := dk_133 (dk_at dksX1_turned_2 13 rfl rfl)
theorem dX1_turned_54 : decode cX1_turned 54 = .ok (.lreturn, 1) := dk_173 (dk_at dksX1_turned_2 14 rfl rfl)
theorem dX1_turned_55 : decode cX1_turned 55 = .ok (.dload_n 1, 1) := dk_39 (dk_at dksX1_turned_2 15 rfl rfl)
theorem dX1_turned_56 : decode cX1_turned 56 = .ok (.d2i, 1) := dk_142 (dk_at dksX1_turned_2 16 rfl rfl)
theorem dX1_turned_57 : decode cX1_turned 57 = .ok (.i2l, 1) := dk_133 (dk_at dksX1_turned_2 17 rfl rfl)
theorem dX1_turned_58 : decode cX1_turned 58 = .ok (.lreturn, 1) := dk_173 (dk_at dksX1_turned_2 18 rfl rfl)
theorem dX1_turned_59 : decode cX1_turned 59 = .ok (.dload_n 1, 1) := dk_39 (dk_at dksX1_turned_2 19 rfl rfl)
theorem dX1_turned_60 : decode cX1_turned 60 = .ok (.d2l, 1) := dk_143 (dk_at dksX1_turned_2 20 rfl rfl)
theorem dX1_turned_61 : decode cX1_turned 61 = .ok (.lreturn, 1) := dk_173 (dk_at dksX1_turned_2 21 rfl rfl)
theorem dX1_turned_62 : decode cX1_turned 62 = .ok (.dload_n 1, 1) := dk_39 (dk_at dksX1_turned_2 22 rfl rfl)
theorem dX1_turned_63 : decode cX1_turned 63 = .ok (.dload_n 1, 1) := dk_39 (dk_at dksX1_turned_2 23 rfl rfl)
theorem dX1_turned_64 : decode cX1_turned 64 = .ok (.dcmp .l, 1) := dk_151 (dk_at dksX1_turned_3 0 rfl rfl)
theorem dX1_turned_65 : decode cX1_turned 65 = .ok (.ifCond .eq 8, 3) := dk_153 0 8 (dk_at dksX1_turned_3 1 rfl rfl)
theorem dX1_turned_68 : decode cX1_turned 68 = .ok (.ldc 143, 2) := dk_18 143 (dk_at dksX1_turned_3 4 rfl rfl)
theorem dX1_turned_70 : decode cX1_turned 70 = .ok (.goto 5, 3) := dk_167 0 5 (dk_at dksX1_turned_3 6 rfl rfl)
theorem dX1_turned_73 : decode cX1_turned 73 = .ok (.dload_n 1, 1) := dk_39 (dk_at dksX1_turned_3 9 rfl rfl)
theorem dX1_turned_74 : decode cX1_turned 74 = .ok (.d2f, 1) := dk_144 (dk_at dksX1_turned_3 10 rfl rfl)
theorem dX1_turned_75 : decode cX1_turned 75 = .ok (.invokestatic 148, 3) := dk_184 0 148 (dk_at dksX1_turned_3 11 rfl rfl)
theorem dX1_turned_78 : decode cX1_turned 78 = .ok (.i2l, 1) := dk_133 (dk_at dksX1_turned_3 14 rfl rfl)
theorem dX1_turned_79 : decode cX1_turned 79 = .ok (.lreturn, 1) := dk_173 (dk_at dksX1_turned_3 15 rfl rfl)
theorem dX1_turned_80 : decode cX1_turned 80 = .ok (.dload_n 1, 1) := dk_39 (dk_at dksX1_turned_3 16 rfl rfl)
theorem dX1_turned_81 : decode cX1_turned 81 = .ok (.invokestatic 152, 3) := dk_184 0 152 (dk_at dksX1_turned_3 17 rfl rfl)
theorem dX1_turned_84 : decode cX1_turned 84 = .ok (.lreturn, 1) := dk_173 (dk_at dksX1_turned_3 20 rfl rfl)
abbrev cX1_turned_2 : ByteArray := prog_1_method_60_code
def yX1_turned_2 : MethodName := ⟨RX1, "turned", "(IF)J"⟩
def dkwX1_turned_2_3 : List UInt8 := [184, 0, 148, 133, 173, 35, 184, 0, 160, 184, 0, 152, 173]
abbrev dktX1_turned_2_3 : List UInt8 := dkwX1_turned_2_3 ++ []
def dkwX1_turned_2_2 : List UInt8 := [35, 139, 145, 133, 173, 35, 139, 146, 133, 173, 35, 139, 147, 133, 173, 35, 139, 133, 173, 35, 140, 173, 35]
abbrev dktX1_turned_2_2 : List UInt8 := dkwX1_turned_2_2 ++ dktX1_turned_2_3
def dkwX1_turned_2_1 : List UInt8 := [170, 0, 0, 0, 0, 0, 67, 0, 0, 0, 1, 0, 0, 0, 6, 0, 0, 0, 39, 0, 0, 0, 44, 0, 0, 0, 49, 0, 0, 0, 54, 0, 0, 0, 58, 0, 0, 0, 61]
abbrev dktX1_turned_2_1 : List UInt8 := dkwX1_turned_2_1 ++ dktX1_turned_2_2
def dkwX1_turned_2_0 : List UInt8 := [26]
abbrev dktX1_turned_2_0 : List UInt8 := dkwX1_turned_2_0 ++ dktX1_turned_2_1
theorem dksX1_turned_2_0 : cX1_turned_2.data.toList.drop 0 = dktX1_turned_2_0 := by decide +kernel
theorem dksX1_turned_2_1 : cX1_turned_2.data.toList.drop 1 = dktX1_turned_2_1 := dk_seg dksX1_turned_2_0 1 rfl rfl
theorem dksX1_turned_2_2 : cX1_turned_2.data.toList.drop 40 = dktX1_turned_2_2 := dk_seg dksX1_turned_2_1 39 rfl rfl
theorem dksX1_turned_2_3 : cX1_turned_2.data.toList.drop 63 = dktX1_turned_2_3 := dk_seg dksX1_turned_2_2 23 rfl rfl
theorem dX1_turned_2_0 : decode cX1_turned_2 0 = .ok (.iload_n 0, 1) := dk_26 (dk_at dksX1_turned_2_0 0 rfl rfl)
theorem dX1_turned_2_1 : decode cX1_turned_2 1 = .ok (.tableswitch 67 1 6 #[39, 44, 49, 54, 58, 61], 39) := by decide +kernel
theorem dX1_turned_2_40 : decode cX1_turned_2 40 = .ok (.fload_n 1, 1) := dk_35 (dk_at dksX1_turned_2_2 0 rfl rfl)
theorem dX1_turned_2_41 : decode cX1_turned_2 41 = .ok (.f2i, 1) := dk_139 (dk_at dksX1_turned_2_2 1 rfl rfl)
theorem dX1_turned_2_42 : decode cX1_turned_2 42 = .ok (.i2b, 1) := dk_145 (dk_at dksX1_turned_2_2 2 rfl rfl)
theorem dX1_turned_2_43 : decode cX1_turned_2 43 = .ok (.i2l, 1) := dk_133 (dk_at dksX1_turned_2_2 3 rfl rfl)
theorem dX1_turned_2_44 : decode cX1_turned_2 44 = .ok (.lreturn, 1) := dk_173 (dk_at dksX1_turned_2_2 4 rfl rfl)
theorem dX1_turned_2_45 : decode cX1_turned_2 45 = .ok (.fload_n 1, 1) := dk_35 (dk_at dksX1_turned_2_2 5 rfl rfl)
theorem dX1_turned_2_46 : decode cX1_turned_2 46 = .ok (.f2i, 1) := dk_139 (dk_at dksX1_turned_2_2 6 rfl rfl)
theorem dX1_turned_2_47 : decode cX1_turned_2 47 = .ok (.i2c, 1) := dk_146 (dk_at dksX1_turned_2_2 7 rfl rfl)
theorem dX1_turned_2_48 : decode cX1_turned_2 48 = .ok (.i2l, 1) := dk_133 (dk_at dksX1_turned_2_2 8 rfl rfl)
theorem dX1_turned_2_49 : decode cX1_turned_2 49 = .ok (.lreturn, 1) := dk_173 (dk_at dksX1_turned_2_2 9 rfl rfl)
theorem dX1_turned_2_50 : decode cX1_turned_2 50 = .ok (.fload_n 1, 1) := dk_35 (dk_at dksX1_turned_2_2 10 rfl rfl)
theorem dX1_turned_2_51 : decode cX1_turned_2 51 = .ok (.f2i, 1) := dk_139 (dk_at dksX1_turned_2_2 11 rfl rfl)
theorem dX1_turned_2_52 : decode cX1_turned_2 52 = .ok (.i2s, 1) := dk_147 (dk_at dksX1_turned_2_2 12 rfl rfl)
theorem dX1_turned_2_53 : decode cX1_turned_2 53 = .ok (.i2l, 1) := dk_133 (dk_at dksX1_turned_2_2 13 rfl rfl)
theorem dX1_turned_2_54 : decode cX1_turned_2 54 = .ok (.lreturn, 1) := dk_173 (dk_at dksX1_turned_2_2 14 rfl rfl)
theorem dX1_turned_2_55 : decode cX1_turned_2 55 = .ok (.fload_n 1, 1) := dk_35 (dk_at dksX1_turned_2_2 15 rfl rfl)
theorem dX1_turned_2_56 : decode cX1_turned_2 56 = .ok (.f2i, 1) := dk_139 (dk_at dksX1_turned_2_2 16 rfl rfl)
theorem dX1_turned_2_57 : decode cX1_turned_2 57 = .ok (.i2l, 1) := dk_133 (dk_at dksX1_turned_2_2 17 rfl rfl)
theorem dX1_turned_2_58 : decode cX1_turned_2 58 = .ok (.lreturn, 1) := dk_173 (dk_at dksX1_turned_2_2 18 rfl rfl)
theorem dX1_turned_2_59 : decode cX1_turned_2 59 = .ok (.fload_n 1, 1) := dk_35 (dk_at dksX1_turned_2_2 19 rfl rfl)
theorem dX1_turned_2_60 : decode cX1_turned_2 60 = .ok (.f2l, 1) := dk_140 (dk_at dksX1_turned_2_2 20 rfl rfl)
theorem dX1_turned_2_61 : decode cX1_turned_2 61 = .ok (.lreturn, 1) := dk_173 (dk_at dksX1_turned_2_2 21 rfl rfl)
theorem dX1_turned_2_62 : decode cX1_turned_2 62 = .ok (.fload_n 1, 1) := dk_35 (dk_at dksX1_turned_2_2 22 rfl rfl)
theorem dX1_turned_2_63 : decode cX1_turned_2 63 = .ok (.invokestatic 148, 3) := dk_184 0 148 (dk_at dksX1_turned_2_3 0 rfl rfl)
theorem dX1_turned_2_66 : decode cX1_turned_2 66 = .ok (.i2l, 1) := dk_133 (dk_at dksX1_turned_2_3 3 rfl rfl)
theorem dX1_turned_2_67 : decode cX1_turned_2 67 = .ok (.lreturn, 1) := dk_173 (dk_at dksX1_turned_2_3 4 rfl rfl)
theorem dX1_turned_2_68 : decode cX1_turned_2 68 = .ok (.fload_n 1, 1) := dk_35 (dk_at dksX1_turned_2_3 5 rfl rfl)
theorem dX1_turned_2_69 : decode cX1_turned_2 69 = .ok (.invokestatic 160, 3) := dk_184 0 160 (dk_at dksX1_turned_2_3 6 rfl rfl)
theorem dX1_turned_2_72 : decode cX1_turned_2 72 = .ok (.invokestatic 152, 3) := dk_184 0 152 (dk_at dksX1_turned_2_3 9 rfl rfl)
theorem dX1_turned_2_75 : decode cX1_turned_2 75 = .ok (.lreturn, 1) := dk_173 (dk_at dksX1_turned_2_3 12 rfl rfl)
abbrev cX1_keep : ByteArray := prog_1_method_63_code
def yX1_keep : MethodName := ⟨RX1, "keep", "(I)I"⟩
def dkwX1_keep_9 : List UInt8 := [180, 0, 28, 96, 54, 8, 167, 255, 148, 45, 89, 180, 1, 75, 21, 7, 96, 181, 1, 75, 21, 7, 172]
abbrev dktX1_keep_9 : List UInt8 := dkwX1_keep_9 ++ []
def dkwX1_keep_8 : List UInt8 := [132, 10, 1, 167, 255, 190, 21, 7, 21, 9, 153, 0, 7, 4, 167, 0, 4, 3, 96, 54, 7, 21, 8, 42]
abbrev dktX1_keep_8 : List UInt8 := dkwX1_keep_8 ++ dktX1_keep_9
def dkwX1_keep_7 : List UInt8 := [21, 10, 47, 148, 153, 0, 7, 4, 167, 0, 4, 3, 128, 54, 9, 45, 180, 1, 72, 21, 10, 22, 11, 80]
abbrev dktX1_keep_7 : List UInt8 := dkwX1_keep_7 ++ dktX1_keep_8
def dkwX1_keep_6 : List UInt8 := [162, 0, 53, 44, 21, 4, 21, 10, 21, 4, 184, 0, 172, 55, 11, 21, 9, 22, 11, 45, 180, 1, 72]
abbrev dktX1_keep_6 : List UInt8 := dkwX1_keep_6 ++ dktX1_keep_7
def dkwX1_keep_5 : List UInt8 := [54, 9, 21, 8, 54, 10, 21, 10, 21, 5, 162, 0, 65, 21, 10, 21, 8, 42, 180, 0, 28, 96]
abbrev dktX1_keep_5 : List UInt8 := dkwX1_keep_5 ++ dktX1_keep_6
def dkwX1_keep_4 : List UInt8 := [45, 21, 5, 188, 11, 181, 1, 72, 3, 54, 7, 3, 54, 8, 21, 8, 21, 5, 162, 0, 107, 21, 6]
abbrev dktX1_keep_4 : List UInt8 := dkwX1_keep_4 ++ dktX1_keep_5
def dkwX1_keep_3 : List UInt8 := [190, 21, 5, 159, 0, 7, 4, 167, 0, 4, 3, 54, 6, 21, 6, 153, 0, 17, 45, 21, 4, 181, 1, 69]
abbrev dktX1_keep_3 : List UInt8 := dkwX1_keep_3 ++ dktX1_keep_4
def dkwX1_keep_2 : List UInt8 := [4, 182, 0, 49, 172, 44, 184, 0, 118, 54, 5, 45, 180, 1, 69, 21, 4, 160, 0, 13, 45, 180, 1, 72]
abbrev dktX1_keep_2 : List UInt8 := dkwX1_keep_2 ++ dktX1_keep_3
def dkwX1_keep_1 : List UInt8 := [199, 0, 15, 45, 2, 181, 1, 69, 45, 1, 181, 1, 72, 3, 172, 21, 4, 184, 0, 164, 154, 0, 9, 42]
abbrev dktX1_keep_1 : List UInt8 := dkwX1_keep_1 ++ dktX1_keep_2
def dkwX1_keep_0 : List UInt8 := [42, 27, 182, 0, 45, 77, 42, 180, 0, 11, 27, 16, 15, 126, 50, 78, 44, 184, 0, 98, 54, 4, 44]
abbrev dktX1_keep_0 : List UInt8 := dkwX1_keep_0 ++ dktX1_keep_1
theorem dksX1_keep_0 : cX1_keep.data.toList.drop 0 = dktX1_keep_0 := by decide +kernel
theorem dksX1_keep_1 : cX1_keep.data.toList.drop 23 = dktX1_keep_1 := dk_seg dksX1_keep_0 23 rfl rfl
theorem dksX1_keep_2 : cX1_keep.data.toList.drop 47 = dktX1_keep_2 := dk_seg dksX1_keep_1 24 rfl rfl
theorem dksX1_keep_3 : cX1_keep.data.toList.drop 71 = dktX1_keep_3 := dk_seg dksX1_keep_2 24 rfl rfl
theorem dksX1_keep_4 : cX1_keep.data.toList.drop 95 = dktX1_keep_4 := dk_seg dksX1_keep_3 24 rfl rfl
theorem dksX1_keep_5 : cX1_keep.data.toList.drop 118 = dktX1_keep_5 := dk_seg dksX1_keep_4 23 rfl rfl
theorem dksX1_keep_6 : cX1_keep.data.toList.drop 140 = dktX1_keep_6 := dk_seg dksX1_keep_5 22 rfl rfl
theorem dksX1_keep_7 : cX1_keep.data.toList.drop 163 = dktX1_keep_7 := dk_seg dksX1_keep_6 23 rfl rfl
theorem dksX1_keep_8 : cX1_keep.data.toList.drop 187 = dktX1_keep_8 := dk_seg dksX1_keep_7 24 rfl rfl
theorem dksX1_keep_9 : cX1_keep.data.toList.drop 211 = dktX1_keep_9 := dk_seg dksX1_keep_8 24 rfl rfl
theorem dX1_keep_0 : decode cX1_keep 0 = .ok (.aload_n 0, 1) := dk_42 (dk_at dksX1_keep_0 0 rfl rfl)
theorem dX1_keep_1 : decode cX1_keep 1 = .ok (.iload_n 1, 1) := dk_27 (dk_at dksX1_keep_0 1 rfl rfl)
theorem dX1_keep_2 : decode cX1_keep 2 = .ok (.invokevirtual 45, 3) := dk_182 0 45 (dk_at dksX1_keep_0 2 rfl rfl)
theorem dX1_keep_5 : decode cX1_keep 5 = .ok (.astore_n 2, 1) := dk_77 (dk_at dksX1_keep_0 5 rfl rfl)
theorem dX1_keep_6 : decode cX1_keep 6 = .ok (.aload_n 0, 1) := dk_42 (dk_at dksX1_keep_0 6 rfl rfl)
theorem dX1_keep_7 : decode cX1_keep 7 = .ok (.getfield 11, 3) := dk_180 0 11 (dk_at dksX1_keep_0 7 rfl rfl)
theorem dX1_keep_10 : decode cX1_keep 10 = .ok (.iload_n 1, 1) := dk_27 (dk_at dksX1_keep_0 10 rfl rfl)
theorem dX1_keep_11 : decode cX1_keep 11 = .ok (.bipush 15, 2) := dk_16 15 (dk_at dksX1_keep_0 11 rfl rfl)
theorem dX1_keep_13 : decode cX1_keep 13 = .ok (.iand, 1) := dk_126 (dk_at dksX1_keep_0 13 rfl rfl)
theorem dX1_keep_14 : decode cX1_keep 14 = .ok (.aaload, 1) := dk_50 (dk_at dksX1_keep_0 14 rfl rfl)
theorem dX1_keep_15 : decode cX1_keep 15 = .ok (.astore_n 3, 1) := dk_78 (dk_at dksX1_keep_0 15 rfl rfl)
theorem dX1_keep_16 : decode cX1_keep 16 = .ok (.aload_n 2, 1) := dk_44 (dk_at dksX1_keep_0 16 rfl rfl)
theorem dX1_keep_17 : decode cX1_keep 17 = .ok (.invokestatic 98, 3) := dk_184 0 98 (dk_at dksX1_keep_0 17 rfl rfl)
theorem dX1_keep_20 : decode cX1_keep 20 = .ok (.istore 4, 2) := dk_54 4 (dk_at dksX1_keep_0 20 rfl rfl)
theorem dX1_keep_22 : decode cX1_keep 22 = .ok (.aload_n 2, 1) := dk_44 (dk_at dksX1_keep_0 22 rfl rfl)
theorem dX1_keep_23 : decode cX1_keep 23 = .ok (.ifnonnull 15, 3) := dk_199 0 15 (dk_at dksX1_keep_1 0 rfl rfl)
theorem dX1_keep_26 : decode cX1_keep 26 = .ok (.aload_n 3, 1) := dk_45 (dk_at dksX1_keep_1 3 rfl rfl)
theorem dX1_keep_27 : decode cX1_keep 27 = .ok (.iconst (-1), 1) := dk_2 (dk_at dksX1_keep_1 4 rfl rfl)
theorem dX1_keep_28 : decode cX1_keep 28 = .ok (.putfield 325, 3) := dk_181 1 69 (dk_at dksX1_keep_1 5 rfl rfl)
theorem dX1_keep_31 : decode cX1_keep 31 = .ok (.aload_n 3, 1) := dk_45 (dk_at dksX1_keep_1 8 rfl rfl)
theorem dX1_keep_32 : decode cX1_keep 32 = .ok (.aconst_null, 1) := dk_1 (dk_at dksX1_keep_1 9 rfl rfl)
theorem dX1_keep_33 : decode cX1_keep 33 = .ok (.putfield 328, 3) := dk_181 1 72 (dk_at dksX1_keep_1 10 rfl rfl)
theorem dX1_keep_36 : decode cX1_keep 36 = .ok (.iconst 0, 1) := dk_3 (dk_at dksX1_keep_1 13 rfl rfl)
theorem dX1_keep_37 : decode cX1_keep 37 = .ok (.ireturn, 1) := dk_172 (dk_at dksX1_keep_1 14 rfl rfl)
theorem dX1_keep_38 : decode cX1_keep 38 = .ok (.iload 4, 2) := dk_21 4 (dk_at dksX1_keep_1 15 rfl rfl)
theorem dX1_keep_40 : decode cX1_keep 40 = .ok (.invokestatic 164, 3) := dk_184 0 164 (dk_at dksX1_keep_1 17 rfl rfl)
theorem dX1_keep_43 : decode cX1_keep 43 = .ok (.ifCond .ne 9, 3) := dk_154 0 9 (dk_at dksX1_keep_1 20 rfl rfl)
theorem dX1_keep_46 : decode cX1_keep 46 = .ok (.aload_n 0, 1) := dk_42 (dk_at dksX1_keep_1 23 rfl rfl)
theorem dX1_keep_47 : decode cX1_keep 47 = .ok (.iconst 1, 1) := dk_4 (dk_at dksX1_keep_2 0 rfl rfl)
theorem dX1_keep_48 : decode cX1_keep 48 = .ok (.invokevirtual 49, 3) := dk_182 0 49 (dk_at dksX1_keep_2 1 rfl rfl)
theorem dX1_keep_51 : decode cX1_keep 51 = .ok (.ireturn, 1) := dk_172 (dk_at dksX1_keep_2 4 rfl rfl)
theorem dX1_keep_52 : decode cX1_keep 52 = .ok (.aload_n 2, 1) := dk_44 (dk_at dksX1_keep_2 5 rfl rfl)
theorem dX1_keep_53 : decode cX1_keep 53 = .ok (.invokestatic 118, 3) := dk_184 0 118 (dk_at dksX1_keep_2 6 rfl rfl)
theorem dX1_keep_56 : decode cX1_keep 56 = .ok (.istore 5, 2) := dk_54 5 (dk_at dksX1_keep_2 9 rfl rfl)
theorem dX1_keep_58 : decode cX1_keep 58 = .ok (.aload_n 3, 1) := dk_45 (dk_at dksX1_keep_2 11 rfl rfl)
theorem dX1_keep_59 : decode cX1_keep 59 = .ok (.getfield 325, 3) := dk_180 1 69 (dk_at dksX1_keep_2 12 rfl rfl)
theorem dX1_keep_62 : decode cX1_keep 62 = .ok (.iload 4, 2) := dk_21 4 (dk_at dksX1_keep_2 15 rfl rfl)
theorem dX1_keep_64 : decode cX1_keep 64 = .ok (.if_icmp .ne 13, 3) := dk_160 0 13 (dk_at dksX1_keep_2 17 rfl rfl)
theorem dX1_keep_67 : decode cX1_keep 67 = .ok (.aload_n 3, 1) := dk_45 (dk_at dksX1_keep_2 20 rfl rfl)
theorem dX1_keep_68 : decode cX1_keep 68 = .ok (.getfield 328, 3) := dk_180 1 72 (dk_at dksX1_keep_2 21 rfl rfl)
theorem dX1_keep_71 : decode cX1_keep 71 = .ok (.arraylength, 1) := dk_190 (dk_at dksX1_keep_3 0 rfl rfl)
theorem dX1_keep_72 : decode cX1_keep 72 = .ok (.iload 5, 2) := dk_21 5 (dk_at dksX1_keep_3 1 rfl rfl)
theorem dX1_keep_74 : decode cX1_keep 74 = .ok (.if_icmp .eq 7, 3) := dk_159 0 7 (dk_at dksX1_keep_3 3 rfl rfl)
theorem dX1_keep_77 : decode cX1_keep 77 = .ok (.iconst 1, 1) := dk_4 (dk_at dksX1_keep_3 6 rfl rfl)
theorem dX1_keep_78 : decode cX1_keep 78 = .ok (.goto 4, 3) := dk_167 0 4 (dk_at dksX1_keep_3 7 rfl rfl)
theorem dX1_keep_81 : decode cX1_keep 81 = .ok (.iconst 0, 1) := dk_3 (dk_at dksX1_keep_3 10 rfl rfl)
theorem dX1_keep_82 : decode cX1_keep 82 = .ok (.istore 6, 2) := dk_54 6 (dk_at dksX1_keep_3 11 rfl rfl)
theorem dX1_keep_84 : decode cX1_keep 84 = .ok (.iload 6, 2) := dk_21 6 (dk_at dksX1_keep_3 13 rfl rfl)
theorem dX1_keep_86 : decode cX1_keep 86 = .ok (.ifCond .eq 17, 3) := dk_153 0 17 (dk_at dksX1_keep_3 15 rfl rfl)
theorem dX1_keep_89 : decode cX1_keep 89 = .ok (.aload_n 3, 1) := dk_45 (dk_at dksX1_keep_3 18 rfl rfl)
theorem dX1_keep_90 : decode cX1_keep 90 = .ok (.iload 4, 2) := dk_21 4 (dk_at dksX1_keep_3 19 rfl rfl)
theorem dX1_keep_92 : decode cX1_keep 92 = .ok (.putfield 325, 3) := dk_181 1 69 (dk_at dksX1_keep_3 21 rfl rfl)
theorem dX1_keep_95 : decode cX1_keep 95 = .ok (.aload_n 3, 1) := dk_45 (dk_at dksX1_keep_4 0 rfl rfl)
theorem dX1_keep_96 : decode cX1_keep 96 = .ok (.iload 5, 2) := dk_21 5 (dk_at dksX1_keep_4 1 rfl rfl)
theorem dX1_keep_98 : decode cX1_keep 98 = .ok (.newarray .long, 2) := dk_188_11 (dk_at dksX1_keep_4 3 rfl rfl)
theorem dX1_keep_100 : decode cX1_keep 100 = .ok (.putfield 328, 3) := dk_181 1 72 (dk_at dksX1_keep_4 5 rfl rfl)
theorem dX1_keep_103 : decode cX1_keep 103 = .ok (.iconst 0, 1) := dk_3 (dk_at dksX1_keep_4 8 rfl rfl)
theorem dX1_keep_104 : decode cX1_keep 104 = .ok (.istore 7, 2) := dk_54 7 (dk_at dksX1_keep_4 9 rfl rfl)
theorem dX1_keep_106 : decode cX1_keep 106 = .ok (.iconst 0, 1) := dk_3 (dk_at dksX1_keep_4 11 rfl rfl)
theorem dX1_keep_107 : decode cX1_keep 107 = .ok (.istore 8, 2) := dk_54 8 (dk_at dksX1_keep_4 12 rfl rfl)
theorem dX1_keep_109 : decode cX1_keep 109 = .ok (.iload 8, 2) := dk_21 8 (dk_at dksX1_keep_4 14 rfl rfl)
theorem dX1_keep_111 : decode cX1_keep 111 = .ok (.iload 5, 2) := dk_21 5 (dk_at dksX1_keep_4 16 rfl rfl)
theorem dX1_keep_113 : decode cX1_keep 113 = .ok (.if_icmp .ge 107, 3) := dk_162 0 107 (dk_at dksX1_keep_4 18 rfl rfl)
theorem dX1_keep_116 : decode cX1_keep 116 = .ok (.iload 6, 2) := dk_21 6 (dk_at dksX1_keep_4 21 rfl rfl)
theorem dX1_keep_118 : decode cX1_keep 118 = .ok (.istore 9, 2) := dk_54 9 (dk_at dksX1_keep_5 0 rfl rfl)
theorem dX1_keep_120 : decode cX1_keep 120 = .ok (.iload 8, 2) := dk_21 8 (dk_at dksX1_keep_5 2 rfl rfl)
theorem dX1_keep_122 : decode cX1_keep 122 = .ok (.istore 10, 2) := dk_54 10 (dk_at dksX1_keep_5 4 rfl rfl)
theorem dX1_keep_124 : decode cX1_keep 124 = .ok (.iload 10, 2) := dk_21 10 (dk_at dksX1_keep_5 6 rfl rfl)
theorem dX1_keep_126 : decode cX1_keep 126 = .ok (.iload 5, 2) := dk_21 5 (dk_at dksX1_keep_5 8 rfl rfl)
theorem dX1_keep_128 : decode cX1_keep 128 = .ok (.if_icmp .ge 65, 3) := dk_162 0 65 (dk_at dksX1_keep_5 10 rfl rfl)
theorem dX1_keep_131 : decode cX1_keep 131 = .ok (.iload 10, 2) := dk_21 10 (dk_at dksX1_keep_5 13 rfl rfl)
theorem dX1_keep_133 : decode cX1_keep 133 = .ok (.iload 8, 2) := dk_21 8 (dk_at dksX1_keep_5 15 rfl rfl)
theorem dX1_keep_135 : decode cX1_keep 135 = .ok (.aload_n 0, 1) := dk_42 (dk_at dksX1_keep_5 17 rfl rfl)
theorem dX1_keep_136 : decode cX1_keep 136 = .ok (.getfield 28, 3) := dk_180 0 28 (dk_at dksX1_keep_5 18 rfl rfl)
theorem dX1_keep_139 : decode cX1_keep 139 = .ok (.iadd, 1) := dk_96 (dk_at dksX1_keep_5 21 rfl rfl)
theorem dX1_keep_140 : decode cX1_keep 140 = .ok (.if_icmp .ge 53, 3) := dk_162 0 53 (dk_at dksX1_keep_6 0 rfl rfl)
theorem dX1_keep_143 : decode cX1_keep 143 = .ok (.aload_n 2, 1) := dk_44 (dk_at dksX1_keep_6 3 rfl rfl)
theorem dX1_keep_144 : decode cX1_keep 144 = .ok (.iload 4, 2) := dk_21 4 (dk_at dksX1_keep_6 4 rfl rfl)
theorem dX1_keep_146 : decode cX1_keep 146 = .ok (.iload 10, 2) := dk_21 10 (dk_at dksX1_keep_6 6 rfl rfl)
theorem dX1_keep_148 : decode cX1_keep 148 = .ok (.iload 4, 2) := dk_21 4 (dk_at dksX1_keep_6 8 rfl rfl)
theorem dX1_keep_150 : decode cX1_keep 150 = .ok (.invokestatic 172, 3) := dk_184 0 172 (dk_at dksX1_keep_6 10 rfl rfl)
theorem dX1_keep_153 : decode cX1_keep 153 = .ok (.lstore 11, 2) := dk_55 11 (dk_at dksX1_keep_6 13 rfl rfl)
theorem dX1_keep_155 : decode cX1_keep 155 = .ok (.iload 9, 2) := dk_21 9 (dk_at dksX1_keep_6 15 rfl rfl)
theorem dX1_keep_157 : decode cX1_keep 157 = .ok (.lload 11, 2) := dk_22 11 (dk_at dksX1_keep_6 17 rfl rfl)
theorem dX1_keep_159 : decode cX1_keep 159 = .ok (.aload_n 3, 1) := dk_45 (dk_at dksX1_keep_6 19 rfl rfl)
theorem dX1_keep_160 : decode cX1_keep 160 = .ok (.getfield 328, 3) := dk_180 1 72 (dk_at dksX1_keep_6 20 rfl rfl)
theorem dX1_keep_163 : decode cX1_keep 163 = .ok (.iload 10, 2) := dk_21 10 (dk_at dksX1_keep_7 0 rfl rfl)
theorem dX1_keep_165 : decode cX1_keep 165 = .ok (.laload, 1) := dk_47 (dk_at dksX1_keep_7 2 rfl rfl)
theorem dX1_keep_166 : decode cX1_keep 166 = .ok (.lcmp, 1) := dk_148 (dk_at dksX1_keep_7 3 rfl rfl)
theorem dX1_keep_167 : decode cX1_keep 167 = .ok (.ifCond .eq 7, 3) := dk_153 0 7 (dk_at dksX1_keep_7 4 rfl rfl)
theorem dX1_keep_170 : decode cX1_keep 170 = .ok (.iconst 1, 1) := dk_4 (dk_at dksX1_keep_7 7 rfl rfl)
theorem dX1_keep_171 : decode cX1_keep 171 = .ok (.goto 4, 3) := dk_167 0 4 (dk_at dksX1_keep_7 8 rfl rfl)
theorem dX1_keep_174 : decode cX1_keep 174 = .ok (.iconst 0, 1) := dk_3 (dk_at dksX1_keep_7 11 rfl rfl)
theorem dX1_keep_175 : decode cX1_keep 175 = .ok (.ior, 1) := dk_128 (dk_at dksX1_keep_7 12 rfl rfl)
theorem dX1_keep_176 : decode cX1_keep 176 = .ok (.istore 9, 2) := dk_54 9 (dk_at dksX1_keep_7 13 rfl rfl)
theorem dX1_keep_178 : decode cX1_keep 178 = .ok (.aload_n 3, 1) := dk_45 (dk_at dksX1_keep_7 15 rfl rfl)
theorem dX1_keep_179 : decode cX1_keep 179 = .ok (.getfield 328, 3) := dk_180 1 72 (dk_at dksX1_keep_7 16 rfl rfl)
theorem dX1_keep_182 : decode cX1_keep 182 = .ok (.iload 10, 2) := dk_21 10 (dk_at dksX1_keep_7 19 rfl rfl)
theorem dX1_keep_184 : decode cX1_keep 184 = .ok (.lload 11, 2) := dk_22 11 (dk_at dksX1_keep_7 21 rfl rfl)
theorem dX1_keep_186 : decode cX1_keep 186 = .ok (.lastore, 1) := dk_80 (dk_at dksX1_keep_7 23 rfl rfl)
theorem dX1_keep_187 : decode cX1_keep 187 = .ok (.iinc 10 1, 3) := dk_132 10 1 (dk_at dksX1_keep_8 0 rfl rfl)
theorem dX1_keep_190 : decode cX1_keep 190 = .ok (.goto (-66), 3) := dk_167 255 190 (dk_at dksX1_keep_8 3 rfl rfl)
theorem dX1_keep_193 : decode cX1_keep 193 = .ok (.iload 7, 2) := dk_21 7 (dk_at dksX1_keep_8 6 rfl rfl)
theorem dX1_keep_195 : decode cX1_keep 195 = .ok (.iload 9, 2) := dk_21 9 (dk_at dksX1_keep_8 8 rfl rfl)
theorem dX1_keep_197 : decode cX1_keep 197 = .ok (.ifCond .eq 7, 3) := dk_153 0 7 (dk_at dksX1_keep_8 10 rfl rfl)
theorem dX1_keep_200 : decode cX1_keep 200 = .ok (.iconst 1, 1) := dk_4 (dk_at dksX1_keep_8 13 rfl rfl)
theorem dX1_keep_201 : decode cX1_keep 201 = .ok (.goto 4, 3) := dk_167 0 4 (dk_at dksX1_keep_8 14 rfl rfl)
theorem dX1_keep_204 : decode cX1_keep 204 = .ok (.iconst 0, 1) := dk_3 (dk_at dksX1_keep_8 17 rfl rfl)
theorem dX1_keep_205 : decode cX1_keep 205 = .ok (.iadd, 1) := dk_96 (dk_at dksX1_keep_8 18 rfl rfl)
theorem dX1_keep_206 : decode cX1_keep 206 = .ok (.istore 7, 2) := dk_54 7 (dk_at dksX1_keep_8 19 rfl rfl)
theorem dX1_keep_208 : decode cX1_keep 208 = .ok (.iload 8, 2) := dk_21 8 (dk_at dksX1_keep_8 21 rfl rfl)
theorem dX1_keep_210 : decode cX1_keep 210 = .ok (.aload_n 0, 1) := dk_42 (dk_at dksX1_keep_8 23 rfl rfl)
theorem dX1_keep_211 : decode cX1_keep 211 = .ok (.getfield 28, 3) := dk_180 0 28 (dk_at dksX1_keep_9 0 rfl rfl)
theorem dX1_keep_214 : decode cX1_keep 214 = .ok (.iadd, 1) := dk_96 (dk_at dksX1_keep_9 3 rfl rfl)
theorem dX1_keep_215 : decode cX1_keep 215 = .ok (.istore 8, 2) := dk_54 8 (dk_at dksX1_keep_9 4 rfl rfl)
theorem dX1_keep_217 : decode cX1_keep 217 = .ok (.goto (-108), 3) := dk_167 255 148 (dk_at dksX1_keep_9 6 rfl rfl)
theorem dX1_keep_220 : decode cX1_keep 220 = .ok (.aload_n 3, 1) := dk_45 (dk_at dksX1_keep_9 9 rfl rfl)
theorem dX1_keep_221 : decode cX1_keep 221 = .ok (.dup, 1) := dk_89 (dk_at dksX1_keep_9 10 rfl rfl)
theorem dX1_keep_222 : decode cX1_keep 222 = .ok (.getfield 331, 3) := dk_180 1 75 (dk_at dksX1_keep_9 11 rfl rfl)
theorem dX1_keep_225 : decode cX1_keep 225 = .ok (.iload 7, 2) := dk_21 7 (dk_at dksX1_keep_9 14 rfl rfl)
theorem dX1_keep_227 : decode cX1_keep 227 = .ok (.iadd, 1) := dk_96 (dk_at dksX1_keep_9 16 rfl rfl)
theorem dX1_keep_228 : decode cX1_keep 228 = .ok (.putfield 331, 3) := dk_181 1 75 (dk_at dksX1_keep_9 17 rfl rfl)
theorem dX1_keep_231 : decode cX1_keep 231 = .ok (.iload 7, 2) := dk_21 7 (dk_at dksX1_keep_9 20 rfl rfl)
theorem dX1_keep_233 : decode cX1_keep 233 = .ok (.ireturn, 1) := dk_172 (dk_at dksX1_keep_9 22 rfl rfl)
abbrev cX1_back : ByteArray := prog_1_method_64_code
def yX1_back : MethodName := ⟨RX1, "back", "(II)I"⟩
def dkwX1_back_4 : List UInt8 := [180, 1, 72, 190, 172]
abbrev dktX1_back_4 : List UInt8 := dkwX1_back_4 ++ []
def dkwX1_back_3 : List UInt8 := [180, 1, 72, 21, 5, 47, 184, 0, 196, 132, 5, 1, 167, 255, 221, 42, 28, 25, 4, 182, 0, 57, 45]
abbrev dktX1_back_3 : List UInt8 := dkwX1_back_3 ++ dktX1_back_4
def dkwX1_back_2 : List UInt8 := [21, 5, 45, 180, 1, 72, 190, 162, 0, 31, 25, 4, 45, 180, 1, 69, 21, 5, 45, 180, 1, 69, 45]
abbrev dktX1_back_2 : List UInt8 := dkwX1_back_2 ++ dktX1_back_3
def dkwX1_back_1 : List UInt8 := [42, 4, 182, 0, 49, 172, 45, 180, 1, 69, 45, 180, 1, 72, 190, 184, 0, 53, 58, 4, 3, 54, 5]
abbrev dktX1_back_1 : List UInt8 := dkwX1_back_1 ++ dktX1_back_2
def dkwX1_back_0 : List UInt8 := [42, 27, 182, 0, 45, 87, 42, 180, 0, 11, 27, 16, 15, 126, 50, 78, 45, 180, 1, 69, 2, 160, 0, 9]
abbrev dktX1_back_0 : List UInt8 := dkwX1_back_0 ++ dktX1_back_1
theorem dksX1_back_0 : cX1_back.data.toList.drop 0 = dktX1_back_0 := by decide +kernel
theorem dksX1_back_1 : cX1_back.data.toList.drop 24 = dktX1_back_1 := dk_seg dksX1_back_0 24 rfl rfl
theorem dksX1_back_2 : cX1_back.data.toList.drop 47 = dktX1_back_2 := dk_seg dksX1_back_1 23 rfl rfl
theorem dksX1_back_3 : cX1_back.data.toList.drop 70 = dktX1_back_3 := dk_seg dksX1_back_2 23 rfl rfl
theorem dksX1_back_4 : cX1_back.data.toList.drop 93 = dktX1_back_4 := dk_seg dksX1_back_3 23 rfl rfl
theorem dX1_back_0 : decode cX1_back 0 = .ok (.aload_n 0, 1) := dk_42 (dk_at dksX1_back_0 0 rfl rfl)
theorem dX1_back_1 : decode cX1_back 1 = .ok (.iload_n 1, 1) := dk_27 (dk_at dksX1_back_0 1 rfl rfl)
theorem dX1_back_2 : decode cX1_back 2 = .ok (.invokevirtual 45, 3) := dk_182 0 45 (dk_at dksX1_back_0 2 rfl rfl)
theorem dX1_back_5 : decode cX1_back 5 = .ok (.pop, 1) := dk_87 (dk_at dksX1_back_0 5 rfl rfl)
theorem dX1_back_6 : decode cX1_back 6 = .ok (.aload_n 0, 1) := dk_42 (dk_at dksX1_back_0 6 rfl rfl)
theorem dX1_back_7 : decode cX1_back 7 = .ok (.getfield 11, 3) := dk_180 0 11 (dk_at dksX1_back_0 7 rfl rfl)
theorem dX1_back_10 : decode cX1_back 10 = .ok (.iload_n 1, 1) := dk_27 (dk_at dksX1_back_0 10 rfl rfl)
theorem dX1_back_11 : decode cX1_back 11 = .ok (.bipush 15, 2) := dk_16 15 (dk_at dksX1_back_0 11 rfl rfl)
theorem dX1_back_13 : decode cX1_back 13 = .ok (.iand, 1) := dk_126 (dk_at dksX1_back_0 13 rfl rfl)
theorem dX1_back_14 : decode cX1_back 14 = .ok (.aaload, 1) := dk_50 (dk_at dksX1_back_0 14 rfl rfl)
theorem dX1_back_15 : decode cX1_back 15 = .ok (.astore_n 3, 1) := dk_78 (dk_at dksX1_back_0 15 rfl rfl)
theorem dX1_back_16 : decode cX1_back 16 = .ok (.aload_n 3, 1) := dk_45 (dk_at dksX1_back_0 16 rfl rfl)
theorem dX1_back_17 : decode cX1_back 17 = .ok (.getfield 325, 3) := dk_180 1 69 (dk_at dksX1_back_0 17 rfl rfl)
theorem dX1_back_20 : decode cX1_back 20 = .ok (.iconst (-1), 1) := dk_2 (dk_at dksX1_back_0 20 rfl rfl)
theorem dX1_back_21 : decode cX1_back 21 = .ok (.if_icmp .ne 9, 3) := dk_160 0 9 (dk_at dksX1_back_0 21 rfl rfl)
theorem dX1_back_24 : decode cX1_back 24 = .ok (.aload_n 0, 1) := dk_42 (dk_at dksX1_back_1 0 rfl rfl)
theorem dX1_back_25 : decode cX1_back 25 = .ok (.iconst 1, 1) := dk_4 (dk_at dksX1_back_1 1 rfl rfl)
theorem dX1_back_26 : decode cX1_back 26 = .ok (.invokevirtual 49, 3) := dk_182 0 49 (dk_at dksX1_back_1 2 rfl rfl)
theorem dX1_back_29 : decode cX1_back 29 = .ok (.ireturn, 1) := dk_172 (dk_at dksX1_back_1 5 rfl rfl)
theorem dX1_back_30 : decode cX1_back 30 = .ok (.aload_n 3, 1) := dk_45 (dk_at dksX1_back_1 6 rfl rfl)
theorem dX1_back_31 : decode cX1_back 31 = .ok (.getfield 325, 3) := dk_180 1 69 (dk_at dksX1_back_1 7 rfl rfl)
theorem dX1_back_34 : decode cX1_back 34 = .ok (.aload_n 3, 1) := dk_45 (dk_at dksX1_back_1 10 rfl rfl)
theorem dX1_back_35 : decode cX1_back 35 = .ok (.getfield 328, 3) := dk_180 1 72 (dk_at dksX1_back_1 11 rfl rfl)
theorem dX1_back_38 : decode cX1_back 38 = .ok (.arraylength, 1) := dk_190 (dk_at dksX1_back_1 14 rfl rfl)
theorem dX1_back_39 : decode cX1_back 39 = .ok (.invokestatic 53, 3) := dk_184 0 53 (dk_at dksX1_back_1 15 rfl rfl)
theorem dX1_back_42 : decode cX1_back 42 = .ok (.astore 4, 2) := dk_58 4 (dk_at dksX1_back_1 18 rfl rfl)
theorem dX1_back_44 : decode cX1_back 44 = .ok (.iconst 0, 1) := dk_3 (dk_at dksX1_back_1 20 rfl rfl)
theorem dX1_back_45 : decode cX1_back 45 = .ok (.istore 5, 2) := dk_54 5 (dk_at dksX1_back_1 21 rfl rfl)
theorem dX1_back_47 : decode cX1_back 47 = .ok (.iload 5, 2) := dk_21 5 (dk_at dksX1_back_2 0 rfl rfl)
theorem dX1_back_49 : decode cX1_back 49 = .ok (.aload_n 3, 1) := dk_45 (dk_at dksX1_back_2 2 rfl rfl)
theorem dX1_back_50 : decode cX1_back 50 = .ok (.getfield 328, 3) := dk_180 1 72 (dk_at dksX1_back_2 3 rfl rfl)
theorem dX1_back_53 : decode cX1_back 53 = .ok (.arraylength, 1) := dk_190 (dk_at dksX1_back_2 6 rfl rfl)
theorem dX1_back_54 : decode cX1_back 54 = .ok (.if_icmp .ge 31, 3) := dk_162 0 31 (dk_at dksX1_back_2 7 rfl rfl)
theorem dX1_back_57 : decode cX1_back 57 = .ok (.aload 4, 2) := dk_25 4 (dk_at dksX1_back_2 10 rfl rfl)
theorem dX1_back_59 : decode cX1_back 59 = .ok (.aload_n 3, 1) := dk_45 (dk_at dksX1_back_2 12 rfl rfl)
theorem dX1_back_60 : decode cX1_back 60 = .ok (.getfield 325, 3) := dk_180 1 69 (dk_at dksX1_back_2 13 rfl rfl)
theorem dX1_back_63 : decode cX1_back 63 = .ok (.iload 5, 2) := dk_21 5 (dk_at dksX1_back_2 16 rfl rfl)
theorem dX1_back_65 : decode cX1_back 65 = .ok (.aload_n 3, 1) := dk_45 (dk_at dksX1_back_2 18 rfl rfl)
theorem dX1_back_66 : decode cX1_back 66 = .ok (.getfield 325, 3) := dk_180 1 69 (dk_at dksX1_back_2 19 rfl rfl)
theorem dX1_back_69 : decode cX1_back 69 = .ok (.aload_n 3, 1) := dk_45 (dk_at dksX1_back_2 22 rfl rfl)
theorem dX1_back_70 : decode cX1_back 70 = .ok (.getfield 328, 3) := dk_180 1 72 (dk_at dksX1_back_3 0 rfl rfl)
theorem dX1_back_73 : decode cX1_back 73 = .ok (.iload 5, 2) := dk_21 5 (dk_at dksX1_back_3 3 rfl rfl)
theorem dX1_back_75 : decode cX1_back 75 = .ok (.laload, 1) := dk_47 (dk_at dksX1_back_3 5 rfl rfl)
theorem dX1_back_76 : decode cX1_back 76 = .ok (.invokestatic 196, 3) := dk_184 0 196 (dk_at dksX1_back_3 6 rfl rfl)
theorem dX1_back_79 : decode cX1_back 79 = .ok (.iinc 5 1, 3) := dk_132 5 1 (dk_at dksX1_back_3 9 rfl rfl)
theorem dX1_back_82 : decode cX1_back 82 = .ok (.goto (-35), 3) := dk_167 255 221 (dk_at dksX1_back_3 12 rfl rfl)
theorem dX1_back_85 : decode cX1_back 85 = .ok (.aload_n 0, 1) := dk_42 (dk_at dksX1_back_3 15 rfl rfl)
theorem dX1_back_86 : decode cX1_back 86 = .ok (.iload_n 2, 1) := dk_28 (dk_at dksX1_back_3 16 rfl rfl)
theorem dX1_back_87 : decode cX1_back 87 = .ok (.aload 4, 2) := dk_25 4 (dk_at dksX1_back_3 17 rfl rfl)
theorem dX1_back_89 : decode cX1_back 89 = .ok (.invokevirtual 57, 3) := dk_182 0 57 (dk_at dksX1_back_3 19 rfl rfl)
theorem dX1_back_92 : decode cX1_back 92 = .ok (.aload_n 3, 1) := dk_45 (dk_at dksX1_back_3 22 rfl rfl)
theorem dX1_back_93 : decode cX1_back 93 = .ok (.getfield 328, 3) := dk_180 1 72 (dk_at dksX1_back_4 0 rfl rfl)
theorem dX1_back_96 : decode cX1_back 96 = .ok (.arraylength, 1) := dk_190 (dk_at dksX1_back_4 3 rfl rfl)
theorem dX1_back_97 : decode cX1_back 97 = .ok (.ireturn, 1) := dk_172 (dk_at dksX1_back_4 4 rfl rfl)
abbrev cX1_leaf : ByteArray := prog_1_method_65_code
def yX1_leaf : MethodName := ⟨RX1, "leaf", "(II)I"⟩
def dkwX1_leaf_4 : List UInt8 := [182, 0, 49, 172]
abbrev dktX1_leaf_4 : List UInt8 := dkwX1_leaf_4 ++ []
def dkwX1_leaf_3 : List UInt8 := [45, 180, 1, 69, 172, 21, 4, 172, 42, 21, 4, 182, 1, 78, 172, 45, 180, 1, 75, 172, 42, 4]
abbrev dktX1_leaf_3 : List UInt8 := dkwX1_leaf_3 ++ dktX1_leaf_4
def dkwX1_leaf_2 : List UInt8 := [170, 0, 0, 0, 0, 0, 0, 52, 0, 0, 0, 0, 0, 0, 0, 3, 0, 0, 0, 32, 0, 0, 0, 37, 0, 0, 0, 40, 0, 0, 0, 47]
abbrev dktX1_leaf_2 : List UInt8 := dkwX1_leaf_2 ++ dktX1_leaf_3
def dkwX1_leaf_1 : List UInt8 := [3, 167, 0, 8, 45, 180, 1, 72, 190, 54, 4, 28]
abbrev dktX1_leaf_1 : List UInt8 := dkwX1_leaf_1 ++ dktX1_leaf_2
def dkwX1_leaf_0 : List UInt8 := [42, 27, 182, 0, 45, 87, 42, 180, 0, 11, 27, 16, 15, 126, 50, 78, 45, 180, 1, 69, 2, 160, 0, 7]
abbrev dktX1_leaf_0 : List UInt8 := dkwX1_leaf_0 ++ dktX1_leaf_1
theorem dksX1_leaf_0 : cX1_leaf.data.toList.drop 0 = dktX1_leaf_0 := by decide +kernel
theorem dksX1_leaf_1 : cX1_leaf.data.toList.drop 24 = dktX1_leaf_1 := dk_seg dksX1_leaf_0 24 rfl rfl
theorem dksX1_leaf_2 : cX1_leaf.data.toList.drop 36 = dktX1_leaf_2 := dk_seg dksX1_leaf_1 12 rfl rfl
theorem dksX1_leaf_3 : cX1_leaf.data.toList.drop 68 = dktX1_leaf_3 := dk_seg dksX1_leaf_2 32 rfl rfl
theorem dksX1_leaf_4 : cX1_leaf.data.toList.drop 90 = dktX1_leaf_4 := dk_seg dksX1_leaf_3 22 rfl rfl
theorem dX1_leaf_0 : decode cX1_leaf 0 = .ok (.aload_n 0, 1) := dk_42 (dk_at dksX1_leaf_0 0 rfl rfl)
theorem dX1_leaf_1 : decode cX1_leaf 1 = .ok (.iload_n 1, 1) := dk_27 (dk_at dksX1_leaf_0 1 rfl rfl)
theorem dX1_leaf_2 : decode cX1_leaf 2 = .ok (.invokevirtual 45, 3) := dk_182 0 45 (dk_at dksX1_leaf_0 2 rfl rfl)
theorem dX1_leaf_5 : decode cX1_leaf 5 = .ok (.pop, 1) := dk_87 (dk_at dksX1_leaf_0 5 rfl rfl)
theorem dX1_leaf_6 : decode cX1_leaf 6 = .ok (.aload_n 0, 1) := dk_42 (dk_at dksX1_leaf_0 6 rfl rfl)
theorem dX1_leaf_7 : decode cX1_leaf 7 = .ok (.getfield 11, 3) := dk_180 0 11 (dk_at dksX1_leaf_0 7 rfl rfl)
theorem dX1_leaf_10 : decode cX1_leaf 10 = .ok (.iload_n 1, 1) := dk_27 (dk_at dksX1_leaf_0 10 rfl rfl)
theorem dX1_leaf_11 : decode cX1_leaf 11 = .ok (.bipush 15, 2) := dk_16 15 (dk_at dksX1_leaf_0 11 rfl rfl)
theorem dX1_leaf_13 : decode cX1_leaf 13 = .ok (.iand, 1) := dk_126 (dk_at dksX1_leaf_0 13 rfl rfl)
theorem dX1_leaf_14 : decode cX1_leaf 14 = .ok (.aaload, 1) := dk_50 (dk_at dksX1_leaf_0 14 rfl rfl)
theorem dX1_leaf_15 : decode cX1_leaf 15 = .ok (.astore_n 3, 1) := dk_78 (dk_at dksX1_leaf_0 15 rfl rfl)
theorem dX1_leaf_16 : decode cX1_leaf 16 = .ok (.aload_n 3, 1) := dk_45 (dk_at dksX1_leaf_0 16 rfl rfl)
theorem dX1_leaf_17 : decode cX1_leaf 17 = .ok (.getfield 325, 3) := dk_180 1 69 (dk_at dksX1_leaf_0 17 rfl rfl)
theorem dX1_leaf_20 : decode cX1_leaf 20 = .ok (.iconst (-1), 1) := dk_2 (dk_at dksX1_leaf_0 20 rfl rfl)
theorem dX1_leaf_21 : decode cX1_leaf 21 = .ok (.if_icmp .ne 7, 3) := dk_160 0 7 (dk_at dksX1_leaf_0 21 rfl rfl)
theorem dX1_leaf_24 : decode cX1_leaf 24 = .ok (.iconst 0, 1) := dk_3 (dk_at dksX1_leaf_1 0 rfl rfl)
theorem dX1_leaf_25 : decode cX1_leaf 25 = .ok (.goto 8, 3) := dk_167 0 8 (dk_at dksX1_leaf_1 1 rfl rfl)
theorem dX1_leaf_28 : decode cX1_leaf 28 = .ok (.aload_n 3, 1) := dk_45 (dk_at dksX1_leaf_1 4 rfl rfl)
theorem dX1_leaf_29 : decode cX1_leaf 29 = .ok (.getfield 328, 3) := dk_180 1 72 (dk_at dksX1_leaf_1 5 rfl rfl)
theorem dX1_leaf_32 : decode cX1_leaf 32 = .ok (.arraylength, 1) := dk_190 (dk_at dksX1_leaf_1 8 rfl rfl)
theorem dX1_leaf_33 : decode cX1_leaf 33 = .ok (.istore 4, 2) := dk_54 4 (dk_at dksX1_leaf_1 9 rfl rfl)
theorem dX1_leaf_35 : decode cX1_leaf 35 = .ok (.iload_n 2, 1) := dk_28 (dk_at dksX1_leaf_1 11 rfl rfl)
theorem dX1_leaf_36 : decode cX1_leaf 36 = .ok (.tableswitch 52 0 3 #[32, 37, 40, 47], 32) := by decide +kernel
theorem dX1_leaf_68 : decode cX1_leaf 68 = .ok (.aload_n 3, 1) := dk_45 (dk_at dksX1_leaf_3 0 rfl rfl)
theorem dX1_leaf_69 : decode cX1_leaf 69 = .ok (.getfield 325, 3) := dk_180 1 69 (dk_at dksX1_leaf_3 1 rfl rfl)
theorem dX1_leaf_72 : decode cX1_leaf 72 = .ok (.ireturn, 1) := dk_172 (dk_at dksX1_leaf_3 4 rfl rfl)
theorem dX1_leaf_73 : decode cX1_leaf 73 = .ok (.iload 4, 2) := dk_21 4 (dk_at dksX1_leaf_3 5 rfl rfl)
theorem dX1_leaf_75 : decode cX1_leaf 75 = .ok (.ireturn, 1) := dk_172 (dk_at dksX1_leaf_3 7 rfl rfl)
theorem dX1_leaf_76 : decode cX1_leaf 76 = .ok (.aload_n 0, 1) := dk_42 (dk_at dksX1_leaf_3 8 rfl rfl)
theorem dX1_leaf_77 : decode cX1_leaf 77 = .ok (.iload 4, 2) := dk_21 4 (dk_at dksX1_leaf_3 9 rfl rfl)
theorem dX1_leaf_79 : decode cX1_leaf 79 = .ok (.invokevirtual 334, 3) := dk_182 1 78 (dk_at dksX1_leaf_3 11 rfl rfl)
theorem dX1_leaf_82 : decode cX1_leaf 82 = .ok (.ireturn, 1) := dk_172 (dk_at dksX1_leaf_3 14 rfl rfl)
theorem dX1_leaf_83 : decode cX1_leaf 83 = .ok (.aload_n 3, 1) := dk_45 (dk_at dksX1_leaf_3 15 rfl rfl)
theorem dX1_leaf_84 : decode cX1_leaf 84 = .ok (.getfield 331, 3) := dk_180 1 75 (dk_at dksX1_leaf_3 16 rfl rfl)
theorem dX1_leaf_87 : decode cX1_leaf 87 = .ok (.ireturn, 1) := dk_172 (dk_at dksX1_leaf_3 19 rfl rfl)
theorem dX1_leaf_88 : decode cX1_leaf 88 = .ok (.aload_n 0, 1) := dk_42 (dk_at dksX1_leaf_3 20 rfl rfl)
theorem dX1_leaf_89 : decode cX1_leaf 89 = .ok (.iconst 1, 1) := dk_4 (dk_at dksX1_leaf_3 21 rfl rfl)
theorem dX1_leaf_90 : decode cX1_leaf 90 = .ok (.invokevirtual 49, 3) := dk_182 0 49 (dk_at dksX1_leaf_4 0 rfl rfl)
theorem dX1_leaf_93 : decode cX1_leaf 93 = .ok (.ireturn, 1) := dk_172 (dk_at dksX1_leaf_4 3 rfl rfl)
abbrev cX1_blocksOf : ByteArray := prog_1_method_62_code
def yX1_blocksOf : MethodName := ⟨RX1, "blocksOf", "(I)I"⟩
def dkwX1_blocksOf_0 : List UInt8 := [27, 42, 180, 0, 28, 96, 4, 100, 42, 180, 0, 28, 108, 172]
abbrev dktX1_blocksOf_0 : List UInt8 := dkwX1_blocksOf_0 ++ []
theorem dksX1_blocksOf_0 : cX1_blocksOf.data.toList.drop 0 = dktX1_blocksOf_0 := by decide +kernel
theorem dX1_blocksOf_0 : decode cX1_blocksOf 0 = .ok (.iload_n 1, 1) := dk_27 (dk_at dksX1_blocksOf_0 0 rfl rfl)
theorem dX1_blocksOf_1 : decode cX1_blocksOf 1 = .ok (.aload_n 0, 1) := dk_42 (dk_at dksX1_blocksOf_0 1 rfl rfl)
theorem dX1_blocksOf_2 : decode cX1_blocksOf 2 = .ok (.getfield 28, 3) := dk_180 0 28 (dk_at dksX1_blocksOf_0 2 rfl rfl)
theorem dX1_blocksOf_5 : decode cX1_blocksOf 5 = .ok (.iadd, 1) := dk_96 (dk_at dksX1_blocksOf_0 5 rfl rfl)
theorem dX1_blocksOf_6 : decode cX1_blocksOf 6 = .ok (.iconst 1, 1) := dk_4 (dk_at dksX1_blocksOf_0 6 rfl rfl)
theorem dX1_blocksOf_7 : decode cX1_blocksOf 7 = .ok (.isub, 1) := dk_100 (dk_at dksX1_blocksOf_0 7 rfl rfl)
theorem dX1_blocksOf_8 : decode cX1_blocksOf 8 = .ok (.aload_n 0, 1) := dk_42 (dk_at dksX1_blocksOf_0 8 rfl rfl)
theorem dX1_blocksOf_9 : decode cX1_blocksOf 9 = .ok (.getfield 28, 3) := dk_180 0 28 (dk_at dksX1_blocksOf_0 9 rfl rfl)
theorem dX1_blocksOf_12 : decode cX1_blocksOf 12 = .ok (.idiv, 1) := dk_108 (dk_at dksX1_blocksOf_0 12 rfl rfl)
theorem dX1_blocksOf_13 : decode cX1_blocksOf 13 = .ok (.ireturn, 1) := dk_172 (dk_at dksX1_blocksOf_0 13 rfl rfl)
abbrev cX1_leafAt : ByteArray := prog_1_method_66_code
def yX1_leafAt : MethodName := ⟨RX1, "leafAt", "(II)J"⟩
def dkwX1_leafAt_1 : List UInt8 := [42, 4, 182, 0, 49, 133, 173, 45, 180, 1, 72, 28, 47, 173, 58, 4, 42, 5, 182, 0, 49, 133, 173]
abbrev dktX1_leafAt_1 : List UInt8 := dkwX1_leafAt_1 ++ []
def dkwX1_leafAt_0 : List UInt8 := [42, 27, 182, 0, 45, 87, 42, 180, 0, 11, 27, 16, 15, 126, 50, 78, 45, 180, 1, 69, 2, 160, 0, 10]
abbrev dktX1_leafAt_0 : List UInt8 := dkwX1_leafAt_0 ++ dktX1_leafAt_1
theorem dksX1_leafAt_0 : cX1_leafAt.data.toList.drop 0 = dktX1_leafAt_0 := by decide +kernel
theorem dksX1_leafAt_1 : cX1_leafAt.data.toList.drop 24 = dktX1_leafAt_1 := dk_seg dksX1_leafAt_0 24 rfl rfl
theorem dX1_leafAt_0 : decode cX1_leafAt 0 = .ok (.aload_n 0, 1) := dk_42 (dk_at dksX1_leafAt_0 0 rfl rfl)
theorem dX1_leafAt_1 : decode cX1_leafAt 1 = .ok (.iload_n 1, 1) := dk_27 (dk_at dksX1_leafAt_0 1 rfl rfl)
theorem dX1_leafAt_2 : decode cX1_leafAt 2 = .ok (.invokevirtual 45, 3) := dk_182 0 45 (dk_at dksX1_leafAt_0 2 rfl rfl)
theorem dX1_leafAt_5 : decode cX1_leafAt 5 = .ok (.pop, 1) := dk_87 (dk_at dksX1_leafAt_0 5 rfl rfl)
theorem dX1_leafAt_6 : decode cX1_leafAt 6 = .ok (.aload_n 0, 1) := dk_42 (dk_at dksX1_leafAt_0 6 rfl rfl)
theorem dX1_leafAt_7 : decode cX1_leafAt 7 = .ok (.getfield 11, 3) := dk_180 0 11 (dk_at dksX1_leafAt_0 7 rfl rfl)
theorem dX1_leafAt_10 : decode cX1_leafAt 10 = .ok (.iload_n 1, 1) := dk_27 (dk_at dksX1_leafAt_0 10 rfl rfl)
theorem dX1_leafAt_11 : decode cX1_leafAt 11 = .ok (.bipush 15, 2) := dk_16 15 (dk_at dksX1_leafAt_0 11 rfl rfl)
theorem dX1_leafAt_13 : decode cX1_leafAt 13 = .ok (.iand, 1) := dk_126 (dk_at dksX1_leafAt_0 13 rfl rfl)
theorem dX1_leafAt_14 : decode cX1_leafAt 14 = .ok (.aaload, 1) := dk_50 (dk_at dksX1_leafAt_0 14 rfl rfl)
theorem dX1_leafAt_15 : decode cX1_leafAt 15 = .ok (.astore_n 3, 1) := dk_78 (dk_at dksX1_leafAt_0 15 rfl rfl)
theorem dX1_leafAt_16 : decode cX1_leafAt 16 = .ok (.aload_n 3, 1) := dk_45 (dk_at dksX1_leafAt_0 16 rfl rfl)
theorem dX1_leafAt_17 : decode cX1_leafAt 17 = .ok (.getfield 325, 3) := dk_180 1 69 (dk_at dksX1_leafAt_0 17 rfl rfl)
theorem dX1_leafAt_20 : decode cX1_leafAt 20 = .ok (.iconst (-1), 1) := dk_2 (dk_at dksX1_leafAt_0 20 rfl rfl)
theorem dX1_leafAt_21 : decode cX1_leafAt 21 = .ok (.if_icmp .ne 10, 3) := dk_160 0 10 (dk_at dksX1_leafAt_0 21 rfl rfl)
theorem dX1_leafAt_24 : decode cX1_leafAt 24 = .ok (.aload_n 0, 1) := dk_42 (dk_at dksX1_leafAt_1 0 rfl rfl)
theorem dX1_leafAt_25 : decode cX1_leafAt 25 = .ok (.iconst 1, 1) := dk_4 (dk_at dksX1_leafAt_1 1 rfl rfl)
theorem dX1_leafAt_26 : decode cX1_leafAt 26 = .ok (.invokevirtual 49, 3) := dk_182 0 49 (dk_at dksX1_leafAt_1 2 rfl rfl)
theorem dX1_leafAt_29 : decode cX1_leafAt 29 = .ok (.i2l, 1) := dk_133 (dk_at dksX1_leafAt_1 5 rfl rfl)
theorem dX1_leafAt_30 : decode cX1_leafAt 30 = .ok (.lreturn, 1) := dk_173 (dk_at dksX1_leafAt_1 6 rfl rfl)
theorem dX1_leafAt_31 : decode cX1_leafAt 31 = .ok (.aload_n 3, 1) := dk_45 (dk_at dksX1_leafAt_1 7 rfl rfl)
theorem dX1_leafAt_32 : decode cX1_leafAt 32 = .ok (.getfield 328, 3) := dk_180 1 72 (dk_at dksX1_leafAt_1 8 rfl rfl)
theorem dX1_leafAt_35 : decode cX1_leafAt 35 = .ok (.iload_n 2, 1) := dk_28 (dk_at dksX1_leafAt_1 11 rfl rfl)
theorem dX1_leafAt_36 : decode cX1_leafAt 36 = .ok (.laload, 1) := dk_47 (dk_at dksX1_leafAt_1 12 rfl rfl)
theorem dX1_leafAt_37 : decode cX1_leafAt 37 = .ok (.lreturn, 1) := dk_173 (dk_at dksX1_leafAt_1 13 rfl rfl)
theorem dX1_leafAt_38 : decode cX1_leafAt 38 = .ok (.astore 4, 2) := dk_58 4 (dk_at dksX1_leafAt_1 14 rfl rfl)
theorem dX1_leafAt_40 : decode cX1_leafAt 40 = .ok (.aload_n 0, 1) := dk_42 (dk_at dksX1_leafAt_1 16 rfl rfl)
theorem dX1_leafAt_41 : decode cX1_leafAt 41 = .ok (.iconst 2, 1) := dk_5 (dk_at dksX1_leafAt_1 17 rfl rfl)
theorem dX1_leafAt_42 : decode cX1_leafAt 42 = .ok (.invokevirtual 49, 3) := dk_182 0 49 (dk_at dksX1_leafAt_1 18 rfl rfl)
theorem dX1_leafAt_45 : decode cX1_leafAt 45 = .ok (.i2l, 1) := dk_133 (dk_at dksX1_leafAt_1 21 rfl rfl)
theorem dX1_leafAt_46 : decode cX1_leafAt 46 = .ok (.lreturn, 1) := dk_173 (dk_at dksX1_leafAt_1 22 rfl rfl)
theorem q25 : (Jvm.Cond.initialized "MixedLeaves") ∈ lw_all := lw_g (lw_at lw_m1 1 rfl) rfl
theorem q51 : (Jvm.Cond.instantiable "MixedLeaves" (6 : Nat)) ∈ lw_all := lw_g (lw_at lw_m1 27 rfl) rfl
theorem q53 : (Jvm.Cond.instanceMethod ({ cls := "MixedLeaves", name := "<init>", desc := "(I)V" } : Jvm.MethodName)) ∈ lw_all := lw_g (lw_at lw_m1 29 rfl) rfl
theorem q54 : (Jvm.Cond.code ({ cls := "MixedLeaves", name := "<init>", desc := "(I)V" } : Jvm.MethodName) prog_1_method_1_code (3 : Nat) (Option.none : Option Jvm.ClassFile.FieldType)) ∈ lw_all := lw_g (lw_at lw_m1 30 rfl) rfl
theorem q55 : (Jvm.Cond.methodLink "MixedLeaves" (1 : Nat) ({ cls := "java/lang/Object", name := "<init>", desc := "()V" } : Jvm.MethodName)) ∈ lw_all := lw_g (lw_at lw_m1 31 rfl) rfl
theorem q58 : (Jvm.Cond.classLink "MixedLeaves" (9 : Nat) "MixedLeaves$Slot") ∈ lw_all := lw_g (lw_at lw_m1 34 rfl) rfl
theorem q60 : (Jvm.Cond.methodLink "MixedLeaves" (19 : Nat) ({ cls := "java/lang/Math", name := "min", desc := "(II)I" } : Jvm.MethodName)) ∈ lw_all := lw_g (lw_at lw_m1 36 rfl) rfl
theorem q63 : (Jvm.Cond.methodLink "MixedLeaves" (25 : Nat) ({ cls := "java/lang/Math", name := "max", desc := "(II)I" } : Jvm.MethodName)) ∈ lw_all := lw_g (lw_at lw_m1 39 rfl) rfl
theorem q67 : (Jvm.Cond.methodLinkNest "MixedLeaves" (32 : Nat) ({ cls := "MixedLeaves$Slot", name := "<init>", desc := "()V" } : Jvm.MethodName) "MixedLeaves") ∈ lw_tbl := lw_at lw_m1 43 rfl
theorem q71 : (Jvm.Cond.fieldLinkNest "MixedLeaves" (36 : Nat) "MixedLeaves$Slot" "held" "Ljava/lang/Object;" "MixedLeaves") ∈ lw_tbl := lw_at lw_m1 47 rfl
theorem q73 : (Jvm.Cond.fieldLinkNest "MixedLeaves" (325 : Nat) "MixedLeaves$Slot" "kind" "I" "MixedLeaves") ∈ lw_tbl := lw_at lw_m1 49 rfl
theorem q74 : (Jvm.Cond.fieldLinkNest "MixedLeaves" (328 : Nat) "MixedLeaves$Slot" "bits" "[J" "MixedLeaves") ∈ lw_tbl := lw_at lw_m1 50 rfl
theorem q75 : (Jvm.Cond.fieldLinkNest "MixedLeaves" (331 : Nat) "MixedLeaves$Slot" "written" "I" "MixedLeaves") ∈ lw_tbl := lw_at lw_m1 51 rfl
theorem q86 : (Jvm.Cond.fieldLink "MixedLeaves" (28 : Nat) "MixedLeaves" "block" "I") ∈ lw_all := lw_g (lw_at lw_m1 62 rfl) rfl
theorem q87 : (Jvm.Cond.fieldLink "MixedLeaves" (11 : Nat) "MixedLeaves" "slot" "[LMixedLeaves$Slot;") ∈ lw_all := lw_g (lw_at lw_m1 63 rfl) rfl
theorem q88 : (Jvm.Cond.fieldLink "MixedLeaves" (33 : Nat) "MixedLeaves" "fault" "I") ∈ lw_all := lw_g (lw_at lw_m1 64 rfl) rfl
theorem q89 : (Jvm.Cond.fieldLink "MixedLeaves" (15 : Nat) "MixedLeaves" "counts" "[I") ∈ lw_all := lw_g (lw_at lw_m1 65 rfl) rfl
theorem q90 : (Jvm.Cond.fieldLink "MixedLeaves" (245 : Nat) "MixedLeaves" "frames" "I") ∈ lw_all := lw_g (lw_at lw_m1 66 rfl) rfl
theorem q91 : (Jvm.Cond.fieldLink "MixedLeaves" (241 : Nat) "MixedLeaves" "trail" "I") ∈ lw_all := lw_g (lw_at lw_m1 67 rfl) rfl
theorem q92 : (Jvm.Cond.laysFinal "MixedLeaves" "MixedLeaves" "block" "I") ∈ lw_all := lw_g (lw_at lw_m1 68 rfl) rfl
theorem q93 : (Jvm.Cond.soleField "MixedLeaves" "block") ∈ lw_all := lw_g (lw_at lw_m1 69 rfl) rfl
theorem q94 : (Jvm.Cond.laysFinal "MixedLeaves" "MixedLeaves" "slot" "[LMixedLeaves$Slot;") ∈ lw_all := lw_g (lw_at lw_m1 70 rfl) rfl
theorem q95 : (Jvm.Cond.soleField "MixedLeaves" "slot") ∈ lw_all := lw_g (lw_at lw_m1 71 rfl) rfl
theorem q96 : (Jvm.Cond.lays "MixedLeaves" "MixedLeaves" "fault" "I") ∈ lw_all := lw_g (lw_at lw_m1 72 rfl) rfl
theorem q97 : (Jvm.Cond.soleField "MixedLeaves" "fault") ∈ lw_all := lw_g (lw_at lw_m1 73 rfl) rfl
theorem q98 : (Jvm.Cond.laysFinal "MixedLeaves" "MixedLeaves" "counts" "[I") ∈ lw_all := lw_g (lw_at lw_m1 74 rfl) rfl
theorem q99 : (Jvm.Cond.soleField "MixedLeaves" "counts") ∈ lw_all := lw_g (lw_at lw_m1 75 rfl) rfl
theorem q100 : (Jvm.Cond.lays "MixedLeaves" "MixedLeaves" "frames" "I") ∈ lw_all := lw_g (lw_at lw_m1 76 rfl) rfl
theorem q101 : (Jvm.Cond.soleField "MixedLeaves" "frames") ∈ lw_all := lw_g (lw_at lw_m1 77 rfl) rfl
theorem q102 : (Jvm.Cond.lays "MixedLeaves" "MixedLeaves" "trail" "I") ∈ lw_all := lw_g (lw_at lw_m1 78 rfl) rfl
theorem q103 : (Jvm.Cond.soleField "MixedLeaves" "trail") ∈ lw_all := lw_g (lw_at lw_m1 79 rfl) rfl
theorem q104 : (Jvm.Cond.superclass "MixedLeaves" "java/lang/Object") ∈ lw_all := lw_g (lw_at lw_m1 80 rfl) rfl
theorem q106 : (Jvm.Cond.instanceMethod ({ cls := "MixedLeaves", name := "fault", desc := "()I" } : Jvm.MethodName)) ∈ lw_all := lw_g (lw_at lw_m1 82 rfl) rfl
theorem q107 : (Jvm.Cond.selects "MixedLeaves" ({ cls := "MixedLeaves", name := "fault", desc := "()I" } : Jvm.MethodName) ({ cls := "MixedLeaves", name := "fault", desc := "()I" } : Jvm.MethodName)) ∈ lw_all := lw_g (lw_at lw_m1 83 rfl) rfl
theorem q108 : (Jvm.Cond.code ({ cls := "MixedLeaves", name := "fault", desc := "()I" } : Jvm.MethodName) prog_1_method_5_code (1 : Nat) (Option.some Jvm.ClassFile.FieldType.int)) ∈ lw_all := lw_g (lw_at lw_m1 84 rfl) rfl
theorem q110 : (Jvm.Cond.instanceMethod ({ cls := "MixedLeaves", name := "faults", desc := "(I)I" } : Jvm.MethodName)) ∈ lw_all := lw_g (lw_at lw_m1 86 rfl) rfl
theorem q111 : (Jvm.Cond.selects "MixedLeaves" ({ cls := "MixedLeaves", name := "faults", desc := "(I)I" } : Jvm.MethodName) ({ cls := "MixedLeaves", name := "faults", desc := "(I)I" } : Jvm.MethodName)) ∈ lw_all := lw_g (lw_at lw_m1 87 rfl) rfl
theorem q112 : (Jvm.Cond.code ({ cls := "MixedLeaves", name := "faults", desc := "(I)I" } : Jvm.MethodName) prog_1_method_6_code (2 : Nat) (Option.some Jvm.ClassFile.FieldType.int)) ∈ lw_all := lw_g (lw_at lw_m1 88 rfl) rfl
theorem q114 : (Jvm.Cond.instanceMethod ({ cls := "MixedLeaves", name := "row", desc := "(III)I" } : Jvm.MethodName)) ∈ lw_all := lw_g (lw_at lw_m1 90 rfl) rfl
theorem q115 : (Jvm.Cond.selects "MixedLeaves" ({ cls := "MixedLeaves", name := "row", desc := "(III)I" } : Jvm.MethodName) ({ cls := "MixedLeaves", name := "row", desc := "(III)I" } : Jvm.MethodName)) ∈ lw_all := lw_g (lw_at lw_m1 91 rfl) rfl
theorem q116 : (Jvm.Cond.codeWith ({ cls := "MixedLeaves", name := "row", desc := "(III)I" } : Jvm.MethodName) prog_1_method_8_code (5 : Nat) (Option.some Jvm.ClassFile.FieldType.int) [((28 : Nat), (39 : Nat), (40 : Nat), (61 : Nat))]) ∈ lw_all := lw_g (lw_at lw_m1 92 rfl) rfl
theorem q117 : (Jvm.Cond.classLink "MixedLeaves" (61 : Nat) "java/lang/NegativeArraySizeException") ∈ lw_all := lw_g (lw_at lw_m1 93 rfl) rfl
theorem q205 : (Jvm.Cond.methodLink "MixedLeaves" (45 : Nat) ({ cls := "MixedLeaves", name := "begin", desc := "(I)Ljava/lang/Object;" } : Jvm.MethodName)) ∈ lw_all := lw_g (lw_at lw_m1 181 rfl) rfl
theorem q206 : (Jvm.Cond.privateMethod ({ cls := "MixedLeaves", name := "begin", desc := "(I)Ljava/lang/Object;" } : Jvm.MethodName)) ∈ lw_tbl := lw_at lw_m1 182 rfl
theorem q207 : (Jvm.Cond.instanceMethod ({ cls := "MixedLeaves", name := "begin", desc := "(I)Ljava/lang/Object;" } : Jvm.MethodName)) ∈ lw_all := lw_g (lw_at lw_m1 183 rfl) rfl
theorem q208 : (Jvm.Cond.code ({ cls := "MixedLeaves", name := "begin", desc := "(I)Ljava/lang/Object;" } : Jvm.MethodName) prog_1_method_2_code (2 : Nat) (Option.some (Jvm.ClassFile.FieldType.object "java/lang/Object"))) ∈ lw_all := lw_g (lw_at lw_m1 184 rfl) rfl
theorem q209 : (Jvm.Cond.methodLink "MixedLeaves" (49 : Nat) ({ cls := "MixedLeaves", name := "fail", desc := "(I)I" } : Jvm.MethodName)) ∈ lw_all := lw_g (lw_at lw_m1 185 rfl) rfl
theorem q210 : (Jvm.Cond.privateMethod ({ cls := "MixedLeaves", name := "fail", desc := "(I)I" } : Jvm.MethodName)) ∈ lw_tbl := lw_at lw_m1 186 rfl
theorem q211 : (Jvm.Cond.instanceMethod ({ cls := "MixedLeaves", name := "fail", desc := "(I)I" } : Jvm.MethodName)) ∈ lw_all := lw_g (lw_at lw_m1 187 rfl) rfl
theorem q212 : (Jvm.Cond.code ({ cls := "MixedLeaves", name := "fail", desc := "(I)I" } : Jvm.MethodName) prog_1_method_3_code (2 : Nat) (Option.some Jvm.ClassFile.FieldType.int)) ∈ lw_all := lw_g (lw_at lw_m1 188 rfl) rfl
theorem q213 : (Jvm.Cond.methodLink "MixedLeaves" (53 : Nat) ({ cls := "MixedLeaves", name := "made", desc := "(II)Ljava/lang/Object;" } : Jvm.MethodName)) ∈ lw_all := lw_g (lw_at lw_m1 189 rfl) rfl
theorem q214 : (Jvm.Cond.static ({ cls := "MixedLeaves", name := "made", desc := "(II)Ljava/lang/Object;" } : Jvm.MethodName)) ∈ lw_all := lw_g (lw_at lw_m1 190 rfl) rfl
theorem q215 : (Jvm.Cond.code ({ cls := "MixedLeaves", name := "made", desc := "(II)Ljava/lang/Object;" } : Jvm.MethodName) prog_1_method_7_code (2 : Nat) (Option.some (Jvm.ClassFile.FieldType.object "java/lang/Object"))) ∈ lw_all := lw_g (lw_at lw_m1 191 rfl) rfl
theorem q216 : (Jvm.Cond.classLink "MixedLeaves" (40 : Nat) "[I") ∈ lw_all := lw_g (lw_at lw_m1 192 rfl) rfl
theorem q218 : (Jvm.Cond.classLink "MixedLeaves" (41 : Nat) "MixedLeaves$Plain") ∈ lw_all := lw_g (lw_at lw_m1 194 rfl) rfl
theorem q220 : (Jvm.Cond.classLink "MixedLeaves" (43 : Nat) "MixedLeaves$Grown") ∈ lw_all := lw_g (lw_at lw_m1 196 rfl) rfl
theorem q222 : (Jvm.Cond.methodLink "MixedLeaves" (57 : Nat) ({ cls := "MixedLeaves", name := "keepAt", desc := "(ILjava/lang/Object;)V" } : Jvm.MethodName)) ∈ lw_all := lw_g (lw_at lw_m1 198 rfl) rfl
theorem q223 : (Jvm.Cond.privateMethod ({ cls := "MixedLeaves", name := "keepAt", desc := "(ILjava/lang/Object;)V" } : Jvm.MethodName)) ∈ lw_tbl := lw_at lw_m1 199 rfl
theorem q224 : (Jvm.Cond.instanceMethod ({ cls := "MixedLeaves", name := "keepAt", desc := "(ILjava/lang/Object;)V" } : Jvm.MethodName)) ∈ lw_all := lw_g (lw_at lw_m1 200 rfl) rfl
theorem q225 : (Jvm.Cond.code ({ cls := "MixedLeaves", name := "keepAt", desc := "(ILjava/lang/Object;)V" } : Jvm.MethodName) prog_1_method_4_code (3 : Nat) (Option.none : Option Jvm.ClassFile.FieldType)) ∈ lw_all := lw_g (lw_at lw_m1 201 rfl) rfl
theorem q233 : (Jvm.Cond.instanceMethod ({ cls := "MixedLeaves", name := "rows", desc := "(III)I" } : Jvm.MethodName)) ∈ lw_all := lw_g (lw_at lw_m1 209 rfl) rfl
theorem q234 : (Jvm.Cond.selects "MixedLeaves" ({ cls := "MixedLeaves", name := "rows", desc := "(III)I" } : Jvm.MethodName) ({ cls := "MixedLeaves", name := "rows", desc := "(III)I" } : Jvm.MethodName)) ∈ lw_all := lw_g (lw_at lw_m1 210 rfl) rfl
theorem q235 : (Jvm.Cond.codeWith ({ cls := "MixedLeaves", name := "rows", desc := "(III)I" } : Jvm.MethodName) prog_1_method_9_code (5 : Nat) (Option.some Jvm.ClassFile.FieldType.int) [((24 : Nat), (38 : Nat), (39 : Nat), (61 : Nat))]) ∈ lw_all := lw_g (lw_at lw_m1 211 rfl) rfl
theorem q236 : (Jvm.Cond.classLink "MixedLeaves" (63 : Nat) "[[I") ∈ lw_all := lw_g (lw_at lw_m1 212 rfl) rfl
theorem q238 : (Jvm.Cond.instanceMethod ({ cls := "MixedLeaves", name := "thing", desc := "(III)I" } : Jvm.MethodName)) ∈ lw_all := lw_g (lw_at lw_m1 214 rfl) rfl
theorem q239 : (Jvm.Cond.selects "MixedLeaves" ({ cls := "MixedLeaves", name := "thing", desc := "(III)I" } : Jvm.MethodName) ({ cls := "MixedLeaves", name := "thing", desc := "(III)I" } : Jvm.MethodName)) ∈ lw_all := lw_g (lw_at lw_m1 215 rfl) rfl
theorem q240 : (Jvm.Cond.code ({ cls := "MixedLeaves", name := "thing", desc := "(III)I" } : Jvm.MethodName) prog_1_method_10_code (4 : Nat) (Option.some Jvm.ClassFile.FieldType.int)) ∈ lw_all := lw_g (lw_at lw_m1 216 rfl) rfl
theorem q242 : (Jvm.Cond.methodLink "MixedLeaves" (65 : Nat) ({ cls := "MixedLeaves$Plain", name := "<init>", desc := "(I)V" } : Jvm.MethodName)) ∈ lw_all := lw_g (lw_at lw_m1 218 rfl) rfl
theorem q249 : (Jvm.Cond.fieldLink "MixedLeaves" (236 : Nat) "MixedLeaves$Plain" "n" "I") ∈ lw_all := lw_g (lw_at lw_m1 225 rfl) rfl
theorem q254 : (Jvm.Cond.methodLink "MixedLeaves" (68 : Nat) ({ cls := "MixedLeaves$Grown", name := "<init>", desc := "(I)V" } : Jvm.MethodName)) ∈ lw_all := lw_g (lw_at lw_m1 230 rfl) rfl
theorem q260 : (Jvm.Cond.classLink "MixedLeaves" (69 : Nat) "MixedLeaves$Tall") ∈ lw_all := lw_g (lw_at lw_m1 236 rfl) rfl
theorem q262 : (Jvm.Cond.methodLink "MixedLeaves" (71 : Nat) ({ cls := "MixedLeaves$Tall", name := "<init>", desc := "(I)V" } : Jvm.MethodName)) ∈ lw_all := lw_g (lw_at lw_m1 238 rfl) rfl
theorem q268 : (Jvm.Cond.classLink "MixedLeaves" (72 : Nat) "MixedLeaves$Apart") ∈ lw_all := lw_g (lw_at lw_m2 4 rfl) rfl
theorem q270 : (Jvm.Cond.methodLink "MixedLeaves" (74 : Nat) ({ cls := "MixedLeaves$Apart", name := "<init>", desc := "(I)V" } : Jvm.MethodName)) ∈ lw_all := lw_g (lw_at lw_m2 6 rfl) rfl
theorem q275 : (Jvm.Cond.fieldLinkNest "MixedLeaves" (223 : Nat) "MixedLeaves$Apart" "n" "I" "MixedLeaves") ∈ lw_tbl := lw_at lw_m2 11 rfl
theorem q279 : (Jvm.Cond.classLink "MixedLeaves" (75 : Nat) "MixedLeaves$Trouble") ∈ lw_all := lw_g (lw_at lw_m2 15 rfl) rfl
theorem q288 : (Jvm.Cond.methodLink "MixedLeaves" (77 : Nat) ({ cls := "MixedLeaves$Trouble", name := "<init>", desc := "(I)V" } : Jvm.MethodName)) ∈ lw_all := lw_g (lw_at lw_m2 24 rfl) rfl
theorem q302 : (Jvm.Cond.fieldLinkNest "MixedLeaves" (244 : Nat) "MixedLeaves$Trouble" "n" "I" "MixedLeaves") ∈ lw_tbl := lw_at lw_m2 38 rfl
theorem q308 : (Jvm.Cond.instanceMethod ({ cls := "MixedLeaves", name := "hold", desc := "(II)I" } : Jvm.MethodName)) ∈ lw_all := lw_g (lw_at lw_m2 44 rfl) rfl
theorem q309 : (Jvm.Cond.selects "MixedLeaves" ({ cls := "MixedLeaves", name := "hold", desc := "(II)I" } : Jvm.MethodName) ({ cls := "MixedLeaves", name := "hold", desc := "(II)I" } : Jvm.MethodName)) ∈ lw_all := lw_g (lw_at lw_m2 45 rfl) rfl
theorem q310 : (Jvm.Cond.code ({ cls := "MixedLeaves", name := "hold", desc := "(II)I" } : Jvm.MethodName) prog_1_method_12_code (4 : Nat) (Option.some Jvm.ClassFile.FieldType.int)) ∈ lw_all := lw_g (lw_at lw_m2 46 rfl) rfl
theorem q311 : (Jvm.Cond.methodLink "MixedLeaves" (98 : Nat) ({ cls := "MixedLeaves", name := "sortOf", desc := "(Ljava/lang/Object;)I" } : Jvm.MethodName)) ∈ lw_all := lw_g (lw_at lw_m2 47 rfl) rfl
theorem q312 : (Jvm.Cond.static ({ cls := "MixedLeaves", name := "sortOf", desc := "(Ljava/lang/Object;)I" } : Jvm.MethodName)) ∈ lw_all := lw_g (lw_at lw_m2 48 rfl) rfl
theorem q313 : (Jvm.Cond.code ({ cls := "MixedLeaves", name := "sortOf", desc := "(Ljava/lang/Object;)I" } : Jvm.MethodName) prog_1_method_11_code (2 : Nat) (Option.some Jvm.ClassFile.FieldType.int)) ∈ lw_all := lw_g (lw_at lw_m2 49 rfl) rfl
theorem q314 : (Jvm.Cond.classLink "MixedLeaves" (78 : Nat) "MixedLeaves$Named") ∈ lw_all := lw_g (lw_at lw_m2 50 rfl) rfl
theorem q315 : (Jvm.Cond.classLink "MixedLeaves" (80 : Nat) "[LMixedLeaves$Plain;") ∈ lw_all := lw_g (lw_at lw_m2 51 rfl) rfl
theorem q316 : (Jvm.Cond.classLink "MixedLeaves" (82 : Nat) "[LMixedLeaves$Grown;") ∈ lw_all := lw_g (lw_at lw_m2 52 rfl) rfl
theorem q317 : (Jvm.Cond.classLink "MixedLeaves" (84 : Nat) "[Z") ∈ lw_all := lw_g (lw_at lw_m2 53 rfl) rfl
theorem q318 : (Jvm.Cond.classLink "MixedLeaves" (86 : Nat) "[B") ∈ lw_all := lw_g (lw_at lw_m2 54 rfl) rfl
theorem q319 : (Jvm.Cond.classLink "MixedLeaves" (88 : Nat) "[C") ∈ lw_all := lw_g (lw_at lw_m2 55 rfl) rfl
theorem q320 : (Jvm.Cond.classLink "MixedLeaves" (90 : Nat) "[S") ∈ lw_all := lw_g (lw_at lw_m2 56 rfl) rfl
theorem q321 : (Jvm.Cond.classLink "MixedLeaves" (92 : Nat) "[J") ∈ lw_all := lw_g (lw_at lw_m2 57 rfl) rfl
theorem q322 : (Jvm.Cond.classLink "MixedLeaves" (94 : Nat) "[F") ∈ lw_all := lw_g (lw_at lw_m2 58 rfl) rfl
theorem q323 : (Jvm.Cond.classLink "MixedLeaves" (96 : Nat) "[D") ∈ lw_all := lw_g (lw_at lw_m2 59 rfl) rfl
theorem q325 : (Jvm.Cond.instanceMethod ({ cls := "MixedLeaves", name := "clear", desc := "(I)I" } : Jvm.MethodName)) ∈ lw_all := lw_g (lw_at lw_m2 61 rfl) rfl
theorem q326 : (Jvm.Cond.selects "MixedLeaves" ({ cls := "MixedLeaves", name := "clear", desc := "(I)I" } : Jvm.MethodName) ({ cls := "MixedLeaves", name := "clear", desc := "(I)I" } : Jvm.MethodName)) ∈ lw_all := lw_g (lw_at lw_m2 62 rfl) rfl
theorem q327 : (Jvm.Cond.code ({ cls := "MixedLeaves", name := "clear", desc := "(I)I" } : Jvm.MethodName) prog_1_method_13_code (3 : Nat) (Option.some Jvm.ClassFile.FieldType.int)) ∈ lw_all := lw_g (lw_at lw_m2 63 rfl) rfl
theorem q329 : (Jvm.Cond.instanceMethod ({ cls := "MixedLeaves", name := "sort", desc := "(I)I" } : Jvm.MethodName)) ∈ lw_all := lw_g (lw_at lw_m2 65 rfl) rfl
theorem q330 : (Jvm.Cond.selects "MixedLeaves" ({ cls := "MixedLeaves", name := "sort", desc := "(I)I" } : Jvm.MethodName) ({ cls := "MixedLeaves", name := "sort", desc := "(I)I" } : Jvm.MethodName)) ∈ lw_all := lw_g (lw_at lw_m2 66 rfl) rfl
theorem q331 : (Jvm.Cond.code ({ cls := "MixedLeaves", name := "sort", desc := "(I)I" } : Jvm.MethodName) prog_1_method_14_code (2 : Nat) (Option.some Jvm.ClassFile.FieldType.int)) ∈ lw_all := lw_g (lw_at lw_m2 67 rfl) rfl
theorem q333 : (Jvm.Cond.instanceMethod ({ cls := "MixedLeaves", name := "alike", desc := "(II)I" } : Jvm.MethodName)) ∈ lw_all := lw_g (lw_at lw_m2 69 rfl) rfl
theorem q334 : (Jvm.Cond.selects "MixedLeaves" ({ cls := "MixedLeaves", name := "alike", desc := "(II)I" } : Jvm.MethodName) ({ cls := "MixedLeaves", name := "alike", desc := "(II)I" } : Jvm.MethodName)) ∈ lw_all := lw_g (lw_at lw_m2 70 rfl) rfl
theorem q335 : (Jvm.Cond.code ({ cls := "MixedLeaves", name := "alike", desc := "(II)I" } : Jvm.MethodName) prog_1_method_15_code (3 : Nat) (Option.some Jvm.ClassFile.FieldType.int)) ∈ lw_all := lw_g (lw_at lw_m2 71 rfl) rfl
theorem q337 : (Jvm.Cond.instanceMethod ({ cls := "MixedLeaves", name := "is", desc := "(II)I" } : Jvm.MethodName)) ∈ lw_all := lw_g (lw_at lw_m2 73 rfl) rfl
theorem q338 : (Jvm.Cond.selects "MixedLeaves" ({ cls := "MixedLeaves", name := "is", desc := "(II)I" } : Jvm.MethodName) ({ cls := "MixedLeaves", name := "is", desc := "(II)I" } : Jvm.MethodName)) ∈ lw_all := lw_g (lw_at lw_m2 74 rfl) rfl
theorem q339 : (Jvm.Cond.code ({ cls := "MixedLeaves", name := "is", desc := "(II)I" } : Jvm.MethodName) prog_1_method_17_code (4 : Nat) (Option.some Jvm.ClassFile.FieldType.int)) ∈ lw_all := lw_g (lw_at lw_m2 75 rfl) rfl
theorem q340 : (Jvm.Cond.methodLink "MixedLeaves" (104 : Nat) ({ cls := "MixedLeaves", name := "isSo", desc := "(Ljava/lang/Object;I)Z" } : Jvm.MethodName)) ∈ lw_all := lw_g (lw_at lw_m2 76 rfl) rfl
theorem q341 : (Jvm.Cond.static ({ cls := "MixedLeaves", name := "isSo", desc := "(Ljava/lang/Object;I)Z" } : Jvm.MethodName)) ∈ lw_all := lw_g (lw_at lw_m2 77 rfl) rfl
theorem q342 : (Jvm.Cond.code ({ cls := "MixedLeaves", name := "isSo", desc := "(Ljava/lang/Object;I)Z" } : Jvm.MethodName) prog_1_method_16_code (2 : Nat) (Option.some Jvm.ClassFile.FieldType.boolean)) ∈ lw_all := lw_g (lw_at lw_m2 78 rfl) rfl
theorem q343 : (Jvm.Cond.classLink "MixedLeaves" (102 : Nat) "MixedLeaves$Wide") ∈ lw_all := lw_g (lw_at lw_m2 79 rfl) rfl
theorem q345 : (Jvm.Cond.instanceMethod ({ cls := "MixedLeaves", name := "as", desc := "(II)I" } : Jvm.MethodName)) ∈ lw_all := lw_g (lw_at lw_m2 81 rfl) rfl
theorem q346 : (Jvm.Cond.selects "MixedLeaves" ({ cls := "MixedLeaves", name := "as", desc := "(II)I" } : Jvm.MethodName) ({ cls := "MixedLeaves", name := "as", desc := "(II)I" } : Jvm.MethodName)) ∈ lw_all := lw_g (lw_at lw_m2 82 rfl) rfl
theorem q347 : (Jvm.Cond.codeWith ({ cls := "MixedLeaves", name := "as", desc := "(II)I" } : Jvm.MethodName) prog_1_method_19_code (5 : Nat) (Option.some Jvm.ClassFile.FieldType.int) [((22 : Nat), (29 : Nat), (30 : Nat), (112 : Nat))]) ∈ lw_all := lw_g (lw_at lw_m2 83 rfl) rfl
theorem q348 : (Jvm.Cond.classLink "MixedLeaves" (112 : Nat) "java/lang/ClassCastException") ∈ lw_all := lw_g (lw_at lw_m2 84 rfl) rfl
theorem q362 : (Jvm.Cond.methodLink "MixedLeaves" (108 : Nat) ({ cls := "MixedLeaves", name := "cast", desc := "(Ljava/lang/Object;I)Ljava/lang/Object;" } : Jvm.MethodName)) ∈ lw_all := lw_g (lw_at lw_m2 98 rfl) rfl
theorem q363 : (Jvm.Cond.static ({ cls := "MixedLeaves", name := "cast", desc := "(Ljava/lang/Object;I)Ljava/lang/Object;" } : Jvm.MethodName)) ∈ lw_all := lw_g (lw_at lw_m2 99 rfl) rfl
theorem q364 : (Jvm.Cond.code ({ cls := "MixedLeaves", name := "cast", desc := "(Ljava/lang/Object;I)Ljava/lang/Object;" } : Jvm.MethodName) prog_1_method_18_code (2 : Nat) (Option.some (Jvm.ClassFile.FieldType.object "java/lang/Object"))) ∈ lw_all := lw_g (lw_at lw_m2 100 rfl) rfl
theorem q366 : (Jvm.Cond.instanceMethod ({ cls := "MixedLeaves", name := "length", desc := "(I)I" } : Jvm.MethodName)) ∈ lw_all := lw_g (lw_at lw_m2 102 rfl) rfl
theorem q367 : (Jvm.Cond.selects "MixedLeaves" ({ cls := "MixedLeaves", name := "length", desc := "(I)I" } : Jvm.MethodName) ({ cls := "MixedLeaves", name := "length", desc := "(I)I" } : Jvm.MethodName)) ∈ lw_all := lw_g (lw_at lw_m2 103 rfl) rfl
theorem q368 : (Jvm.Cond.codeWith ({ cls := "MixedLeaves", name := "length", desc := "(I)I" } : Jvm.MethodName) prog_1_method_22_code (4 : Nat) (Option.some Jvm.ClassFile.FieldType.int) [((23 : Nat), (27 : Nat), (28 : Nat), (121 : Nat))]) ∈ lw_all := lw_g (lw_at lw_m2 104 rfl) rfl
theorem q369 : (Jvm.Cond.classLink "MixedLeaves" (121 : Nat) "java/lang/NullPointerException") ∈ lw_all := lw_g (lw_at lw_m2 105 rfl) rfl
theorem q394 : (Jvm.Cond.methodLink "MixedLeaves" (114 : Nat) ({ cls := "MixedLeaves", name := "isRow", desc := "(Ljava/lang/Object;)Z" } : Jvm.MethodName)) ∈ lw_all := lw_g (lw_at lw_m2 130 rfl) rfl
theorem q395 : (Jvm.Cond.static ({ cls := "MixedLeaves", name := "isRow", desc := "(Ljava/lang/Object;)Z" } : Jvm.MethodName)) ∈ lw_all := lw_g (lw_at lw_m2 131 rfl) rfl
theorem q396 : (Jvm.Cond.code ({ cls := "MixedLeaves", name := "isRow", desc := "(Ljava/lang/Object;)Z" } : Jvm.MethodName) prog_1_method_20_code (2 : Nat) (Option.some Jvm.ClassFile.FieldType.boolean)) ∈ lw_all := lw_g (lw_at lw_m2 132 rfl) rfl
theorem q397 : (Jvm.Cond.methodLink "MixedLeaves" (118 : Nat) ({ cls := "MixedLeaves", name := "lengthOf", desc := "(Ljava/lang/Object;)I" } : Jvm.MethodName)) ∈ lw_all := lw_g (lw_at lw_m2 133 rfl) rfl
theorem q398 : (Jvm.Cond.static ({ cls := "MixedLeaves", name := "lengthOf", desc := "(Ljava/lang/Object;)I" } : Jvm.MethodName)) ∈ lw_all := lw_g (lw_at lw_m2 134 rfl) rfl
theorem q399 : (Jvm.Cond.code ({ cls := "MixedLeaves", name := "lengthOf", desc := "(Ljava/lang/Object;)I" } : Jvm.MethodName) prog_1_method_21_code (1 : Nat) (Option.some Jvm.ClassFile.FieldType.int)) ∈ lw_all := lw_g (lw_at lw_m2 135 rfl) rfl
theorem q401 : (Jvm.Cond.instanceMethod ({ cls := "MixedLeaves", name := "get", desc := "(III)J" } : Jvm.MethodName)) ∈ lw_all := lw_g (lw_at lw_m2 137 rfl) rfl
theorem q402 : (Jvm.Cond.selects "MixedLeaves" ({ cls := "MixedLeaves", name := "get", desc := "(III)J" } : Jvm.MethodName) ({ cls := "MixedLeaves", name := "get", desc := "(III)J" } : Jvm.MethodName)) ∈ lw_all := lw_g (lw_at lw_m2 138 rfl) rfl
theorem q403 : (Jvm.Cond.codeWith ({ cls := "MixedLeaves", name := "get", desc := "(III)J" } : Jvm.MethodName) prog_1_method_29_code (7 : Nat) (Option.some Jvm.ClassFile.FieldType.long) [((50 : Nat), (59 : Nat), (60 : Nat), (121 : Nat)), ((50 : Nat), (59 : Nat), (69 : Nat), (176 : Nat))]) ∈ lw_all := lw_g (lw_at lw_m2 139 rfl) rfl
theorem q404 : (Jvm.Cond.classLink "MixedLeaves" (176 : Nat) "java/lang/ArrayIndexOutOfBoundsException") ∈ lw_all := lw_g (lw_at lw_m2 140 rfl) rfl
theorem q423 : (Jvm.Cond.methodLink "MixedLeaves" (164 : Nat) ({ cls := "MixedLeaves", name := "isKind", desc := "(I)Z" } : Jvm.MethodName)) ∈ lw_all := lw_g (lw_at lw_m2 159 rfl) rfl
theorem q424 : (Jvm.Cond.static ({ cls := "MixedLeaves", name := "isKind", desc := "(I)Z" } : Jvm.MethodName)) ∈ lw_all := lw_g (lw_at lw_m2 160 rfl) rfl
theorem q425 : (Jvm.Cond.code ({ cls := "MixedLeaves", name := "isKind", desc := "(I)Z" } : Jvm.MethodName) prog_1_method_23_code (1 : Nat) (Option.some Jvm.ClassFile.FieldType.boolean)) ∈ lw_all := lw_g (lw_at lw_m2 161 rfl) rfl
theorem q426 : (Jvm.Cond.methodLink "MixedLeaves" (168 : Nat) ({ cls := "MixedLeaves", name := "isWider", desc := "(II)Z" } : Jvm.MethodName)) ∈ lw_all := lw_g (lw_at lw_m2 162 rfl) rfl
theorem q427 : (Jvm.Cond.static ({ cls := "MixedLeaves", name := "isWider", desc := "(II)Z" } : Jvm.MethodName)) ∈ lw_all := lw_g (lw_at lw_m2 163 rfl) rfl
theorem q428 : (Jvm.Cond.code ({ cls := "MixedLeaves", name := "isWider", desc := "(II)Z" } : Jvm.MethodName) prog_1_method_24_code (2 : Nat) (Option.some Jvm.ClassFile.FieldType.boolean)) ∈ lw_all := lw_g (lw_at lw_m2 164 rfl) rfl
theorem q429 : (Jvm.Cond.methodLink "MixedLeaves" (172 : Nat) ({ cls := "MixedLeaves", name := "load", desc := "(Ljava/lang/Object;III)J" } : Jvm.MethodName)) ∈ lw_all := lw_g (lw_at lw_m2 165 rfl) rfl
theorem q430 : (Jvm.Cond.static ({ cls := "MixedLeaves", name := "load", desc := "(Ljava/lang/Object;III)J" } : Jvm.MethodName)) ∈ lw_all := lw_g (lw_at lw_m2 166 rfl) rfl
theorem q431 : (Jvm.Cond.code ({ cls := "MixedLeaves", name := "load", desc := "(Ljava/lang/Object;III)J" } : Jvm.MethodName) prog_1_method_28_code (5 : Nat) (Option.some Jvm.ClassFile.FieldType.long)) ∈ lw_all := lw_g (lw_at lw_m2 167 rfl) rfl
theorem q432 : (Jvm.Cond.methodLink "MixedLeaves" (156 : Nat) ({ cls := "MixedLeaves", name := "bitsOf", desc := "(JI)J" } : Jvm.MethodName)) ∈ lw_all := lw_g (lw_at lw_m2 168 rfl) rfl
theorem q433 : (Jvm.Cond.static ({ cls := "MixedLeaves", name := "bitsOf", desc := "(JI)J" } : Jvm.MethodName)) ∈ lw_all := lw_g (lw_at lw_m2 169 rfl) rfl
theorem q434 : (Jvm.Cond.code ({ cls := "MixedLeaves", name := "bitsOf", desc := "(JI)J" } : Jvm.MethodName) prog_1_method_27_code (3 : Nat) (Option.some Jvm.ClassFile.FieldType.long)) ∈ lw_all := lw_g (lw_at lw_m2 170 rfl) rfl
theorem q435 : (Jvm.Cond.methodLink "MixedLeaves" (148 : Nat) ({ cls := "java/lang/Float", name := "floatToIntBits", desc := "(F)I" } : Jvm.MethodName)) ∈ lw_all := lw_g (lw_at lw_m2 171 rfl) rfl
theorem q445 : (Jvm.Cond.methodLink "MixedLeaves" (152 : Nat) ({ cls := "java/lang/Double", name := "doubleToLongBits", desc := "(D)J" } : Jvm.MethodName)) ∈ lw_all := lw_g (lw_at lw_m2 181 rfl) rfl
theorem q455 : (Jvm.Cond.methodLink "MixedLeaves" (160 : Nat) ({ cls := "MixedLeaves", name := "wide", desc := "(F)D" } : Jvm.MethodName)) ∈ lw_all := lw_g (lw_at lw_m2 191 rfl) rfl
theorem q456 : (Jvm.Cond.static ({ cls := "MixedLeaves", name := "wide", desc := "(F)D" } : Jvm.MethodName)) ∈ lw_all := lw_g (lw_at lw_m2 192 rfl) rfl
theorem q457 : (Jvm.Cond.code ({ cls := "MixedLeaves", name := "wide", desc := "(F)D" } : Jvm.MethodName) prog_1_method_31_code (1 : Nat) (Option.some Jvm.ClassFile.FieldType.double)) ∈ lw_all := lw_g (lw_at lw_m2 193 rfl) rfl
theorem q458 : (Jvm.Cond.constantDouble "MixedLeaves" (131 : Nat) (9221120237041090560 : UInt64)) ∈ lw_all := lw_g (lw_at lw_m2 194 rfl) rfl
theorem q460 : (Jvm.Cond.instanceMethod ({ cls := "MixedLeaves", name := "put", desc := "(IIIJ)I" } : Jvm.MethodName)) ∈ lw_all := lw_g (lw_at lw_m2 196 rfl) rfl
theorem q461 : (Jvm.Cond.selects "MixedLeaves" ({ cls := "MixedLeaves", name := "put", desc := "(IIIJ)I" } : Jvm.MethodName) ({ cls := "MixedLeaves", name := "put", desc := "(IIIJ)I" } : Jvm.MethodName)) ∈ lw_all := lw_g (lw_at lw_m2 197 rfl) rfl
theorem q462 : (Jvm.Cond.codeWith ({ cls := "MixedLeaves", name := "put", desc := "(IIIJ)I" } : Jvm.MethodName) prog_1_method_35_code (9 : Nat) (Option.some Jvm.ClassFile.FieldType.int) [((49 : Nat), (61 : Nat), (62 : Nat), (121 : Nat)), ((49 : Nat), (61 : Nat), (70 : Nat), (176 : Nat))]) ∈ lw_all := lw_g (lw_at lw_m2 198 rfl) rfl
theorem q463 : (Jvm.Cond.methodLink "MixedLeaves" (196 : Nat) ({ cls := "MixedLeaves", name := "lay", desc := "(Ljava/lang/Object;IIIJ)V" } : Jvm.MethodName)) ∈ lw_all := lw_g (lw_at lw_m2 199 rfl) rfl
theorem q464 : (Jvm.Cond.static ({ cls := "MixedLeaves", name := "lay", desc := "(Ljava/lang/Object;IIIJ)V" } : Jvm.MethodName)) ∈ lw_all := lw_g (lw_at lw_m2 200 rfl) rfl
theorem q465 : (Jvm.Cond.code ({ cls := "MixedLeaves", name := "lay", desc := "(Ljava/lang/Object;IIIJ)V" } : Jvm.MethodName) prog_1_method_34_code (6 : Nat) (Option.none : Option Jvm.ClassFile.FieldType)) ∈ lw_all := lw_g (lw_at lw_m2 201 rfl) rfl
theorem q466 : (Jvm.Cond.methodLink "MixedLeaves" (184 : Nat) ({ cls := "MixedLeaves", name := "wholeOf", desc := "(IJ)J" } : Jvm.MethodName)) ∈ lw_all := lw_g (lw_at lw_m2 202 rfl) rfl
theorem q467 : (Jvm.Cond.static ({ cls := "MixedLeaves", name := "wholeOf", desc := "(IJ)J" } : Jvm.MethodName)) ∈ lw_all := lw_g (lw_at lw_m2 203 rfl) rfl
theorem q468 : (Jvm.Cond.code ({ cls := "MixedLeaves", name := "wholeOf", desc := "(IJ)J" } : Jvm.MethodName) prog_1_method_30_code (3 : Nat) (Option.some Jvm.ClassFile.FieldType.long)) ∈ lw_all := lw_g (lw_at lw_m2 204 rfl) rfl
theorem q469 : (Jvm.Cond.methodLink "MixedLeaves" (188 : Nat) ({ cls := "MixedLeaves", name := "floatOf", desc := "(IJ)F" } : Jvm.MethodName)) ∈ lw_all := lw_g (lw_at lw_m2 205 rfl) rfl
theorem q470 : (Jvm.Cond.static ({ cls := "MixedLeaves", name := "floatOf", desc := "(IJ)F" } : Jvm.MethodName)) ∈ lw_all := lw_g (lw_at lw_m2 206 rfl) rfl
theorem q471 : (Jvm.Cond.code ({ cls := "MixedLeaves", name := "floatOf", desc := "(IJ)F" } : Jvm.MethodName) prog_1_method_33_code (3 : Nat) (Option.some Jvm.ClassFile.FieldType.float)) ∈ lw_all := lw_g (lw_at lw_m2 207 rfl) rfl
theorem q472 : (Jvm.Cond.methodLink "MixedLeaves" (181 : Nat) ({ cls := "MixedLeaves", name := "floatBy", desc := "(I)F" } : Jvm.MethodName)) ∈ lw_all := lw_g (lw_at lw_m2 208 rfl) rfl
theorem q473 : (Jvm.Cond.static ({ cls := "MixedLeaves", name := "floatBy", desc := "(I)F" } : Jvm.MethodName)) ∈ lw_all := lw_g (lw_at lw_m2 209 rfl) rfl
theorem q474 : (Jvm.Cond.code ({ cls := "MixedLeaves", name := "floatBy", desc := "(I)F" } : Jvm.MethodName) prog_1_method_26_code (1 : Nat) (Option.some Jvm.ClassFile.FieldType.float)) ∈ lw_all := lw_g (lw_at lw_m2 210 rfl) rfl
theorem q475 : (Jvm.Cond.constant "MixedLeaves" (139 : Nat) (2147483647 : Int32)) ∈ lw_all := lw_g (lw_at lw_m2 211 rfl) rfl
theorem q476 : (Jvm.Cond.constant "MixedLeaves" (140 : Nat) (2139095040 : Int32)) ∈ lw_all := lw_g (lw_at lw_m2 212 rfl) rfl
theorem q477 : (Jvm.Cond.constantFloat "MixedLeaves" (143 : Nat) (2143289344 : UInt32)) ∈ lw_all := lw_g (lw_at lw_m2 213 rfl) rfl
theorem q478 : (Jvm.Cond.methodLink "MixedLeaves" (144 : Nat) ({ cls := "java/lang/Float", name := "intBitsToFloat", desc := "(I)F" } : Jvm.MethodName)) ∈ lw_all := lw_g (lw_at lw_m2 214 rfl) rfl
theorem q481 : (Jvm.Cond.methodLink "MixedLeaves" (192 : Nat) ({ cls := "MixedLeaves", name := "doubleOf", desc := "(IJ)D" } : Jvm.MethodName)) ∈ lw_all := lw_g (lw_at lw_m2 217 rfl) rfl
theorem q482 : (Jvm.Cond.static ({ cls := "MixedLeaves", name := "doubleOf", desc := "(IJ)D" } : Jvm.MethodName)) ∈ lw_all := lw_g (lw_at lw_m2 218 rfl) rfl
theorem q483 : (Jvm.Cond.code ({ cls := "MixedLeaves", name := "doubleOf", desc := "(IJ)D" } : Jvm.MethodName) prog_1_method_32_code (3 : Nat) (Option.some Jvm.ClassFile.FieldType.double)) ∈ lw_all := lw_g (lw_at lw_m2 219 rfl) rfl
theorem q484 : (Jvm.Cond.methodLink "MixedLeaves" (178 : Nat) ({ cls := "MixedLeaves", name := "doubleBy", desc := "(J)D" } : Jvm.MethodName)) ∈ lw_all := lw_g (lw_at lw_m2 220 rfl) rfl
theorem q485 : (Jvm.Cond.static ({ cls := "MixedLeaves", name := "doubleBy", desc := "(J)D" } : Jvm.MethodName)) ∈ lw_all := lw_g (lw_at lw_m2 221 rfl) rfl
theorem q486 : (Jvm.Cond.code ({ cls := "MixedLeaves", name := "doubleBy", desc := "(J)D" } : Jvm.MethodName) prog_1_method_25_code (2 : Nat) (Option.some Jvm.ClassFile.FieldType.double)) ∈ lw_all := lw_g (lw_at lw_m2 222 rfl) rfl
theorem q487 : (Jvm.Cond.constantLong "MixedLeaves" (125 : Nat) (9223372036854775807 : Int64)) ∈ lw_all := lw_g (lw_at lw_m2 223 rfl) rfl
theorem q488 : (Jvm.Cond.constantLong "MixedLeaves" (127 : Nat) (9218868437227405312 : Int64)) ∈ lw_all := lw_g (lw_at lw_m2 224 rfl) rfl
theorem q489 : (Jvm.Cond.methodLink "MixedLeaves" (133 : Nat) ({ cls := "java/lang/Double", name := "longBitsToDouble", desc := "(J)D" } : Jvm.MethodName)) ∈ lw_all := lw_g (lw_at lw_m2 225 rfl) rfl
theorem q493 : (Jvm.Cond.instanceMethod ({ cls := "MixedLeaves", name := "take", desc := "(III)I" } : Jvm.MethodName)) ∈ lw_all := lw_g (lw_at lw_m2 229 rfl) rfl
theorem q494 : (Jvm.Cond.selects "MixedLeaves" ({ cls := "MixedLeaves", name := "take", desc := "(III)I" } : Jvm.MethodName) ({ cls := "MixedLeaves", name := "take", desc := "(III)I" } : Jvm.MethodName)) ∈ lw_all := lw_g (lw_at lw_m2 230 rfl) rfl
theorem q495 : (Jvm.Cond.codeWith ({ cls := "MixedLeaves", name := "take", desc := "(III)I" } : Jvm.MethodName) prog_1_method_36_code (7 : Nat) (Option.some Jvm.ClassFile.FieldType.int) [((39 : Nat), (78 : Nat), (79 : Nat), (121 : Nat)), ((39 : Nat), (78 : Nat), (87 : Nat), (176 : Nat))]) ∈ lw_all := lw_g (lw_at lw_m2 231 rfl) rfl
theorem q497 : (Jvm.Cond.instanceMethod ({ cls := "MixedLeaves", name := "give", desc := "(IIIZ)I" } : Jvm.MethodName)) ∈ lw_all := lw_g (lw_at lw_m2 233 rfl) rfl
theorem q498 : (Jvm.Cond.selects "MixedLeaves" ({ cls := "MixedLeaves", name := "give", desc := "(IIIZ)I" } : Jvm.MethodName) ({ cls := "MixedLeaves", name := "give", desc := "(IIIZ)I" } : Jvm.MethodName)) ∈ lw_all := lw_g (lw_at lw_m2 234 rfl) rfl
theorem q499 : (Jvm.Cond.codeWith ({ cls := "MixedLeaves", name := "give", desc := "(IIIZ)I" } : Jvm.MethodName) prog_1_method_37_code (8 : Nat) (Option.some Jvm.ClassFile.FieldType.int) [((14 : Nat), (47 : Nat), (48 : Nat), (112 : Nat)), ((14 : Nat), (47 : Nat), (57 : Nat), (121 : Nat)), ((14 : Nat), (47 : Nat), (65 : Nat), (176 : Nat)), ((14 : Nat), (47 : Nat), (73 : Nat), (200 : Nat))]) ∈ lw_all := lw_g (lw_at lw_m2 235 rfl) rfl
theorem q500 : (Jvm.Cond.classLink "MixedLeaves" (200 : Nat) "java/lang/ArrayStoreException") ∈ lw_all := lw_g (lw_at lw_m2 236 rfl) rfl
theorem q515 : (Jvm.Cond.instanceMethod ({ cls := "MixedLeaves", name := "deep", desc := "(III)I" } : Jvm.MethodName)) ∈ lw_all := lw_g (lw_at lw_m3 11 rfl) rfl
theorem q516 : (Jvm.Cond.selects "MixedLeaves" ({ cls := "MixedLeaves", name := "deep", desc := "(III)I" } : Jvm.MethodName) ({ cls := "MixedLeaves", name := "deep", desc := "(III)I" } : Jvm.MethodName)) ∈ lw_all := lw_g (lw_at lw_m3 12 rfl) rfl
theorem q517 : (Jvm.Cond.codeWith ({ cls := "MixedLeaves", name := "deep", desc := "(III)I" } : Jvm.MethodName) prog_1_method_38_code (6 : Nat) (Option.some Jvm.ClassFile.FieldType.int) [((7 : Nat), (16 : Nat), (17 : Nat), (112 : Nat)), ((7 : Nat), (16 : Nat), (26 : Nat), (121 : Nat)), ((7 : Nat), (16 : Nat), (34 : Nat), (176 : Nat))]) ∈ lw_all := lw_g (lw_at lw_m3 13 rfl) rfl
theorem q519 : (Jvm.Cond.instanceMethod ({ cls := "MixedLeaves", name := "deepPut", desc := "(IIII)I" } : Jvm.MethodName)) ∈ lw_all := lw_g (lw_at lw_m3 15 rfl) rfl
theorem q520 : (Jvm.Cond.selects "MixedLeaves" ({ cls := "MixedLeaves", name := "deepPut", desc := "(IIII)I" } : Jvm.MethodName) ({ cls := "MixedLeaves", name := "deepPut", desc := "(IIII)I" } : Jvm.MethodName)) ∈ lw_all := lw_g (lw_at lw_m3 16 rfl) rfl
theorem q521 : (Jvm.Cond.codeWith ({ cls := "MixedLeaves", name := "deepPut", desc := "(IIII)I" } : Jvm.MethodName) prog_1_method_39_code (7 : Nat) (Option.some Jvm.ClassFile.FieldType.int) [((7 : Nat), (19 : Nat), (20 : Nat), (112 : Nat)), ((7 : Nat), (19 : Nat), (29 : Nat), (121 : Nat)), ((7 : Nat), (19 : Nat), (37 : Nat), (176 : Nat))]) ∈ lw_all := lw_g (lw_at lw_m3 17 rfl) rfl
theorem q523 : (Jvm.Cond.instanceMethod ({ cls := "MixedLeaves", name := "copy", desc := "(IIIII)I" } : Jvm.MethodName)) ∈ lw_all := lw_g (lw_at lw_m3 19 rfl) rfl
theorem q524 : (Jvm.Cond.selects "MixedLeaves" ({ cls := "MixedLeaves", name := "copy", desc := "(IIIII)I" } : Jvm.MethodName) ({ cls := "MixedLeaves", name := "copy", desc := "(IIIII)I" } : Jvm.MethodName)) ∈ lw_all := lw_g (lw_at lw_m3 20 rfl) rfl
theorem q525 : (Jvm.Cond.codeWith ({ cls := "MixedLeaves", name := "copy", desc := "(IIIII)I" } : Jvm.MethodName) prog_1_method_40_code (9 : Nat) (Option.some Jvm.ClassFile.FieldType.int) [((14 : Nat), (28 : Nat), (29 : Nat), (121 : Nat)), ((14 : Nat), (28 : Nat), (37 : Nat), (200 : Nat)), ((14 : Nat), (28 : Nat), (45 : Nat), (208 : Nat))]) ∈ lw_all := lw_g (lw_at lw_m3 21 rfl) rfl
theorem q526 : (Jvm.Cond.classLink "MixedLeaves" (208 : Nat) "java/lang/IndexOutOfBoundsException") ∈ lw_all := lw_g (lw_at lw_m3 22 rfl) rfl
theorem q527 : (Jvm.Cond.methodLink "MixedLeaves" (202 : Nat) ({ cls := "java/lang/System", name := "arraycopy", desc := "(Ljava/lang/Object;ILjava/lang/Object;II)V" } : Jvm.MethodName)) ∈ lw_all := lw_g (lw_at lw_m3 23 rfl) rfl
theorem q531 : (Jvm.Cond.instanceMethod ({ cls := "MixedLeaves", name := "twin", desc := "(II)I" } : Jvm.MethodName)) ∈ lw_all := lw_g (lw_at lw_m3 27 rfl) rfl
theorem q532 : (Jvm.Cond.selects "MixedLeaves" ({ cls := "MixedLeaves", name := "twin", desc := "(II)I" } : Jvm.MethodName) ({ cls := "MixedLeaves", name := "twin", desc := "(II)I" } : Jvm.MethodName)) ∈ lw_all := lw_g (lw_at lw_m3 28 rfl) rfl
theorem q533 : (Jvm.Cond.codeWith ({ cls := "MixedLeaves", name := "twin", desc := "(II)I" } : Jvm.MethodName) prog_1_method_41_code (6 : Nat) (Option.some Jvm.ClassFile.FieldType.int) [((23 : Nat), (59 : Nat), (60 : Nat), (121 : Nat))]) ∈ lw_all := lw_g (lw_at lw_m3 29 rfl) rfl
theorem q535 : (Jvm.Cond.instanceMethod ({ cls := "MixedLeaves", name := "call", desc := "(II)I" } : Jvm.MethodName)) ∈ lw_all := lw_g (lw_at lw_m3 31 rfl) rfl
theorem q536 : (Jvm.Cond.selects "MixedLeaves" ({ cls := "MixedLeaves", name := "call", desc := "(II)I" } : Jvm.MethodName) ({ cls := "MixedLeaves", name := "call", desc := "(II)I" } : Jvm.MethodName)) ∈ lw_all := lw_g (lw_at lw_m3 32 rfl) rfl
theorem q537 : (Jvm.Cond.codeWith ({ cls := "MixedLeaves", name := "call", desc := "(II)I" } : Jvm.MethodName) prog_1_method_43_code (5 : Nat) (Option.some Jvm.ClassFile.FieldType.int) [((21 : Nat), (26 : Nat), (27 : Nat), (112 : Nat)), ((21 : Nat), (26 : Nat), (36 : Nat), (121 : Nat))]) ∈ lw_all := lw_g (lw_at lw_m3 33 rfl) rfl
theorem q538 : (Jvm.Cond.methodLink "MixedLeaves" (232 : Nat) ({ cls := "MixedLeaves", name := "called", desc := "(Ljava/lang/Object;I)I" } : Jvm.MethodName)) ∈ lw_all := lw_g (lw_at lw_m3 34 rfl) rfl
theorem q539 : (Jvm.Cond.static ({ cls := "MixedLeaves", name := "called", desc := "(Ljava/lang/Object;I)I" } : Jvm.MethodName)) ∈ lw_all := lw_g (lw_at lw_m3 35 rfl) rfl
theorem q540 : (Jvm.Cond.code ({ cls := "MixedLeaves", name := "called", desc := "(Ljava/lang/Object;I)I" } : Jvm.MethodName) prog_1_method_42_code (2 : Nat) (Option.some Jvm.ClassFile.FieldType.int)) ∈ lw_all := lw_g (lw_at lw_m3 36 rfl) rfl
theorem q541 : (Jvm.Cond.interfaceEntry "MixedLeaves" (210 : Nat)) ∈ lw_tbl := lw_at lw_m3 37 rfl
theorem q542 : (Jvm.Cond.methodLink "MixedLeaves" (210 : Nat) ({ cls := "MixedLeaves$Named", name := "number", desc := "()I" } : Jvm.MethodName)) ∈ lw_all := lw_g (lw_at lw_m3 38 rfl) rfl
theorem q566 : (Jvm.Cond.interfaceEntry "MixedLeaves" (214 : Nat)) ∈ lw_tbl := lw_at lw_m3 62 rfl
theorem q567 : (Jvm.Cond.methodLink "MixedLeaves" (214 : Nat) ({ cls := "MixedLeaves$Named", name := "name", desc := "()I" } : Jvm.MethodName)) ∈ lw_all := lw_g (lw_at lw_m3 63 rfl) rfl
theorem q587 : (Jvm.Cond.interfaceEntry "MixedLeaves" (217 : Nat)) ∈ lw_tbl := lw_at lw_m3 83 rfl
theorem q588 : (Jvm.Cond.methodLink "MixedLeaves" (217 : Nat) ({ cls := "MixedLeaves$Named", name := "twice", desc := "()I" } : Jvm.MethodName)) ∈ lw_all := lw_g (lw_at lw_m3 84 rfl) rfl
theorem q614 : (Jvm.Cond.interfaceEntry "MixedLeaves" (220 : Nat)) ∈ lw_tbl := lw_at lw_m3 110 rfl
theorem q615 : (Jvm.Cond.methodLink "MixedLeaves" (220 : Nat) ({ cls := "MixedLeaves$Named", name := "far", desc := "()I" } : Jvm.MethodName)) ∈ lw_all := lw_g (lw_at lw_m3 111 rfl) rfl
theorem q638 : (Jvm.Cond.methodLink "MixedLeaves" (226 : Nat) ({ cls := "MixedLeaves$Plain", name := "kept", desc := "()I" } : Jvm.MethodName)) ∈ lw_all := lw_g (lw_at lw_m3 134 rfl) rfl
theorem q651 : (Jvm.Cond.methodLinkNest "MixedLeaves" (229 : Nat) ({ cls := "MixedLeaves$Plain", name := "square", desc := "()I" } : Jvm.MethodName) "MixedLeaves") ∈ lw_tbl := lw_at lw_m3 147 rfl
theorem q656 : (Jvm.Cond.instanceMethod ({ cls := "MixedLeaves", name := "number", desc := "(I)I" } : Jvm.MethodName)) ∈ lw_all := lw_g (lw_at lw_m3 152 rfl) rfl
theorem q657 : (Jvm.Cond.selects "MixedLeaves" ({ cls := "MixedLeaves", name := "number", desc := "(I)I" } : Jvm.MethodName) ({ cls := "MixedLeaves", name := "number", desc := "(I)I" } : Jvm.MethodName)) ∈ lw_all := lw_g (lw_at lw_m3 153 rfl) rfl
theorem q658 : (Jvm.Cond.codeWith ({ cls := "MixedLeaves", name := "number", desc := "(I)I" } : Jvm.MethodName) prog_1_method_44_code (4 : Nat) (Option.some Jvm.ClassFile.FieldType.int) [((6 : Nat), (13 : Nat), (14 : Nat), (112 : Nat)), ((6 : Nat), (13 : Nat), (22 : Nat), (121 : Nat))]) ∈ lw_all := lw_g (lw_at lw_m3 154 rfl) rfl
theorem q660 : (Jvm.Cond.instanceMethod ({ cls := "MixedLeaves", name := "setNumber", desc := "(II)I" } : Jvm.MethodName)) ∈ lw_all := lw_g (lw_at lw_m3 156 rfl) rfl
theorem q661 : (Jvm.Cond.selects "MixedLeaves" ({ cls := "MixedLeaves", name := "setNumber", desc := "(II)I" } : Jvm.MethodName) ({ cls := "MixedLeaves", name := "setNumber", desc := "(II)I" } : Jvm.MethodName)) ∈ lw_all := lw_g (lw_at lw_m3 157 rfl) rfl
theorem q662 : (Jvm.Cond.codeWith ({ cls := "MixedLeaves", name := "setNumber", desc := "(II)I" } : Jvm.MethodName) prog_1_method_45_code (5 : Nat) (Option.some Jvm.ClassFile.FieldType.int) [((6 : Nat), (25 : Nat), (26 : Nat), (112 : Nat)), ((6 : Nat), (25 : Nat), (35 : Nat), (121 : Nat))]) ∈ lw_all := lw_g (lw_at lw_m3 158 rfl) rfl
theorem q664 : (Jvm.Cond.instanceMethod ({ cls := "MixedLeaves", name := "raise", desc := "(II)I" } : Jvm.MethodName)) ∈ lw_all := lw_g (lw_at lw_m3 160 rfl) rfl
theorem q665 : (Jvm.Cond.selects "MixedLeaves" ({ cls := "MixedLeaves", name := "raise", desc := "(II)I" } : Jvm.MethodName) ({ cls := "MixedLeaves", name := "raise", desc := "(II)I" } : Jvm.MethodName)) ∈ lw_all := lw_g (lw_at lw_m3 161 rfl) rfl
theorem q666 : (Jvm.Cond.codeWith ({ cls := "MixedLeaves", name := "raise", desc := "(II)I" } : Jvm.MethodName) prog_1_method_47_code (6 : Nat) (Option.some Jvm.ClassFile.FieldType.int) [((14 : Nat), (23 : Nat), (26 : Nat), (75 : Nat)), ((14 : Nat), (23 : Nat), (38 : Nat), (112 : Nat)), ((14 : Nat), (23 : Nat), (51 : Nat), (121 : Nat))]) ∈ lw_all := lw_g (lw_at lw_m3 162 rfl) rfl
theorem q667 : (Jvm.Cond.methodLink "MixedLeaves" (237 : Nat) ({ cls := "MixedLeaves", name := "below", desc := "(Ljava/lang/Object;I)V" } : Jvm.MethodName)) ∈ lw_all := lw_g (lw_at lw_m3 163 rfl) rfl
theorem q668 : (Jvm.Cond.privateMethod ({ cls := "MixedLeaves", name := "below", desc := "(Ljava/lang/Object;I)V" } : Jvm.MethodName)) ∈ lw_tbl := lw_at lw_m3 164 rfl
theorem q669 : (Jvm.Cond.instanceMethod ({ cls := "MixedLeaves", name := "below", desc := "(Ljava/lang/Object;I)V" } : Jvm.MethodName)) ∈ lw_all := lw_g (lw_at lw_m3 165 rfl) rfl
theorem q670 : (Jvm.Cond.codeWith ({ cls := "MixedLeaves", name := "below", desc := "(Ljava/lang/Object;I)V" } : Jvm.MethodName) prog_1_method_46_code (4 : Nat) (Option.none : Option Jvm.ClassFile.FieldType) [((9 : Nat), (17 : Nat), (30 : Nat), (0 : Nat))]) ∈ lw_all := lw_g (lw_at lw_m3 166 rfl) rfl
theorem q672 : (Jvm.Cond.instanceMethod ({ cls := "MixedLeaves", name := "trail", desc := "()I" } : Jvm.MethodName)) ∈ lw_all := lw_g (lw_at lw_m3 168 rfl) rfl
theorem q673 : (Jvm.Cond.selects "MixedLeaves" ({ cls := "MixedLeaves", name := "trail", desc := "()I" } : Jvm.MethodName) ({ cls := "MixedLeaves", name := "trail", desc := "()I" } : Jvm.MethodName)) ∈ lw_all := lw_g (lw_at lw_m3 169 rfl) rfl
theorem q674 : (Jvm.Cond.code ({ cls := "MixedLeaves", name := "trail", desc := "()I" } : Jvm.MethodName) prog_1_method_48_code (1 : Nat) (Option.some Jvm.ClassFile.FieldType.int)) ∈ lw_all := lw_g (lw_at lw_m3 170 rfl) rfl
theorem q676 : (Jvm.Cond.instanceMethod ({ cls := "MixedLeaves", name := "divide", desc := "(JJZZ)J" } : Jvm.MethodName)) ∈ lw_all := lw_g (lw_at lw_m3 172 rfl) rfl
theorem q677 : (Jvm.Cond.selects "MixedLeaves" ({ cls := "MixedLeaves", name := "divide", desc := "(JJZZ)J" } : Jvm.MethodName) ({ cls := "MixedLeaves", name := "divide", desc := "(JJZZ)J" } : Jvm.MethodName)) ∈ lw_all := lw_g (lw_at lw_m3 173 rfl) rfl
theorem q678 : (Jvm.Cond.codeWith ({ cls := "MixedLeaves", name := "divide", desc := "(JJZZ)J" } : Jvm.MethodName) prog_1_method_49_code (9 : Nat) (Option.some Jvm.ClassFile.FieldType.long) [((5 : Nat), (38 : Nat), (54 : Nat), (248 : Nat)), ((39 : Nat), (53 : Nat), (54 : Nat), (248 : Nat))]) ∈ lw_all := lw_g (lw_at lw_m3 174 rfl) rfl
theorem q679 : (Jvm.Cond.classLink "MixedLeaves" (248 : Nat) "java/lang/ArithmeticException") ∈ lw_all := lw_g (lw_at lw_m3 175 rfl) rfl
theorem q694 : (Jvm.Cond.instanceMethod ({ cls := "MixedLeaves", name := "reckon", desc := "(IJJ)J" } : Jvm.MethodName)) ∈ lw_all := lw_g (lw_at lw_m3 190 rfl) rfl
theorem q695 : (Jvm.Cond.selects "MixedLeaves" ({ cls := "MixedLeaves", name := "reckon", desc := "(IJJ)J" } : Jvm.MethodName) ({ cls := "MixedLeaves", name := "reckon", desc := "(IJJ)J" } : Jvm.MethodName)) ∈ lw_all := lw_g (lw_at lw_m3 191 rfl) rfl
theorem q696 : (Jvm.Cond.code ({ cls := "MixedLeaves", name := "reckon", desc := "(IJJ)J" } : Jvm.MethodName) prog_1_method_53_code (6 : Nat) (Option.some Jvm.ClassFile.FieldType.long)) ∈ lw_all := lw_g (lw_at lw_m3 192 rfl) rfl
theorem q697 : (Jvm.Cond.methodLink "MixedLeaves" (289 : Nat) ({ cls := "MixedLeaves", name := "reckoned", desc := "(IDD)D" } : Jvm.MethodName)) ∈ lw_all := lw_g (lw_at lw_m3 193 rfl) rfl
theorem q698 : (Jvm.Cond.static ({ cls := "MixedLeaves", name := "reckoned", desc := "(IDD)D" } : Jvm.MethodName)) ∈ lw_all := lw_g (lw_at lw_m3 194 rfl) rfl
theorem q699 : (Jvm.Cond.code ({ cls := "MixedLeaves", name := "reckoned", desc := "(IDD)D" } : Jvm.MethodName) prog_1_method_52_code (5 : Nat) (Option.some Jvm.ClassFile.FieldType.double)) ∈ lw_all := lw_g (lw_at lw_m3 195 rfl) rfl
theorem q700 : (Jvm.Cond.methodLink "MixedLeaves" (258 : Nat) ({ cls := "MixedLeaves", name := "isNone", desc := "(IDD)Z" } : Jvm.MethodName)) ∈ lw_all := lw_g (lw_at lw_m3 196 rfl) rfl
theorem q701 : (Jvm.Cond.static ({ cls := "MixedLeaves", name := "isNone", desc := "(IDD)Z" } : Jvm.MethodName)) ∈ lw_all := lw_g (lw_at lw_m3 197 rfl) rfl
theorem q702 : (Jvm.Cond.code ({ cls := "MixedLeaves", name := "isNone", desc := "(IDD)Z" } : Jvm.MethodName) prog_1_method_51_code (5 : Nat) (Option.some Jvm.ClassFile.FieldType.boolean)) ∈ lw_all := lw_g (lw_at lw_m3 198 rfl) rfl
theorem q703 : (Jvm.Cond.methodLink "MixedLeaves" (254 : Nat) ({ cls := "MixedLeaves", name := "isEndless", desc := "(D)Z" } : Jvm.MethodName)) ∈ lw_all := lw_g (lw_at lw_m3 199 rfl) rfl
theorem q704 : (Jvm.Cond.static ({ cls := "MixedLeaves", name := "isEndless", desc := "(D)Z" } : Jvm.MethodName)) ∈ lw_all := lw_g (lw_at lw_m3 200 rfl) rfl
theorem q705 : (Jvm.Cond.code ({ cls := "MixedLeaves", name := "isEndless", desc := "(D)Z" } : Jvm.MethodName) prog_1_method_50_code (2 : Nat) (Option.some Jvm.ClassFile.FieldType.boolean)) ∈ lw_all := lw_g (lw_at lw_m3 201 rfl) rfl
theorem q706 : (Jvm.Cond.constantDouble "MixedLeaves" (250 : Nat) (9218868437227405312 : UInt64)) ∈ lw_all := lw_g (lw_at lw_m3 202 rfl) rfl
theorem q707 : (Jvm.Cond.constantDouble "MixedLeaves" (252 : Nat) (18442240474082181120 : UInt64)) ∈ lw_all := lw_g (lw_at lw_m3 203 rfl) rfl
theorem q708 : (Jvm.Cond.methodLink "MixedLeaves" (262 : Nat) ({ cls := "java/lang/Math", name := "max", desc := "(DD)D" } : Jvm.MethodName)) ∈ lw_all := lw_g (lw_at lw_m3 204 rfl) rfl
theorem q714 : (Jvm.Cond.methodLink "MixedLeaves" (265 : Nat) ({ cls := "java/lang/Math", name := "min", desc := "(DD)D" } : Jvm.MethodName)) ∈ lw_all := lw_g (lw_at lw_m3 210 rfl) rfl
theorem q717 : (Jvm.Cond.methodLink "MixedLeaves" (267 : Nat) ({ cls := "java/lang/Math", name := "copySign", desc := "(DD)D" } : Jvm.MethodName)) ∈ lw_all := lw_g (lw_at lw_m3 213 rfl) rfl
theorem q723 : (Jvm.Cond.methodLink "MixedLeaves" (270 : Nat) ({ cls := "java/lang/Math", name := "abs", desc := "(D)D" } : Jvm.MethodName)) ∈ lw_all := lw_g (lw_at lw_m3 219 rfl) rfl
theorem q726 : (Jvm.Cond.methodLink "MixedLeaves" (274 : Nat) ({ cls := "java/lang/Math", name := "floor", desc := "(D)D" } : Jvm.MethodName)) ∈ lw_all := lw_g (lw_at lw_m3 222 rfl) rfl
theorem q747 : (Jvm.Cond.methodLink "MixedLeaves" (277 : Nat) ({ cls := "java/lang/Math", name := "ceil", desc := "(D)D" } : Jvm.MethodName)) ∈ lw_all := lw_g (lw_at lw_m4 3 rfl) rfl
theorem q754 : (Jvm.Cond.methodLink "MixedLeaves" (280 : Nat) ({ cls := "java/lang/Math", name := "rint", desc := "(D)D" } : Jvm.MethodName)) ∈ lw_all := lw_g (lw_at lw_m4 10 rfl) rfl
theorem q763 : (Jvm.Cond.methodLink "MixedLeaves" (283 : Nat) ({ cls := "java/lang/Math", name := "signum", desc := "(D)D" } : Jvm.MethodName)) ∈ lw_all := lw_g (lw_at lw_m4 19 rfl) rfl
theorem q768 : (Jvm.Cond.methodLink "MixedLeaves" (286 : Nat) ({ cls := "java/lang/Math", name := "nextUp", desc := "(D)D" } : Jvm.MethodName)) ∈ lw_all := lw_g (lw_at lw_m4 24 rfl) rfl
theorem q774 : (Jvm.Cond.instanceMethod ({ cls := "MixedLeaves", name := "reckonFloat", desc := "(III)I" } : Jvm.MethodName)) ∈ lw_all := lw_g (lw_at lw_m4 30 rfl) rfl
theorem q775 : (Jvm.Cond.selects "MixedLeaves" ({ cls := "MixedLeaves", name := "reckonFloat", desc := "(III)I" } : Jvm.MethodName) ({ cls := "MixedLeaves", name := "reckonFloat", desc := "(III)I" } : Jvm.MethodName)) ∈ lw_all := lw_g (lw_at lw_m4 31 rfl) rfl
theorem q776 : (Jvm.Cond.code ({ cls := "MixedLeaves", name := "reckonFloat", desc := "(III)I" } : Jvm.MethodName) prog_1_method_57_code (4 : Nat) (Option.some Jvm.ClassFile.FieldType.int)) ∈ lw_all := lw_g (lw_at lw_m4 32 rfl) rfl
theorem q777 : (Jvm.Cond.methodLink "MixedLeaves" (315 : Nat) ({ cls := "MixedLeaves", name := "reckoned", desc := "(IFF)F" } : Jvm.MethodName)) ∈ lw_all := lw_g (lw_at lw_m4 33 rfl) rfl
theorem q778 : (Jvm.Cond.static ({ cls := "MixedLeaves", name := "reckoned", desc := "(IFF)F" } : Jvm.MethodName)) ∈ lw_all := lw_g (lw_at lw_m4 34 rfl) rfl
theorem q779 : (Jvm.Cond.code ({ cls := "MixedLeaves", name := "reckoned", desc := "(IFF)F" } : Jvm.MethodName) prog_1_method_56_code (3 : Nat) (Option.some Jvm.ClassFile.FieldType.float)) ∈ lw_all := lw_g (lw_at lw_m4 35 rfl) rfl
theorem q780 : (Jvm.Cond.methodLink "MixedLeaves" (298 : Nat) ({ cls := "MixedLeaves", name := "isNone", desc := "(IFF)Z" } : Jvm.MethodName)) ∈ lw_all := lw_g (lw_at lw_m4 36 rfl) rfl
theorem q781 : (Jvm.Cond.static ({ cls := "MixedLeaves", name := "isNone", desc := "(IFF)Z" } : Jvm.MethodName)) ∈ lw_all := lw_g (lw_at lw_m4 37 rfl) rfl
theorem q782 : (Jvm.Cond.code ({ cls := "MixedLeaves", name := "isNone", desc := "(IFF)Z" } : Jvm.MethodName) prog_1_method_55_code (3 : Nat) (Option.some Jvm.ClassFile.FieldType.boolean)) ∈ lw_all := lw_g (lw_at lw_m4 38 rfl) rfl
theorem q783 : (Jvm.Cond.methodLink "MixedLeaves" (295 : Nat) ({ cls := "MixedLeaves", name := "isEndless", desc := "(F)Z" } : Jvm.MethodName)) ∈ lw_all := lw_g (lw_at lw_m4 39 rfl) rfl
theorem q784 : (Jvm.Cond.static ({ cls := "MixedLeaves", name := "isEndless", desc := "(F)Z" } : Jvm.MethodName)) ∈ lw_all := lw_g (lw_at lw_m4 40 rfl) rfl
theorem q785 : (Jvm.Cond.code ({ cls := "MixedLeaves", name := "isEndless", desc := "(F)Z" } : Jvm.MethodName) prog_1_method_54_code (1 : Nat) (Option.some Jvm.ClassFile.FieldType.boolean)) ∈ lw_all := lw_g (lw_at lw_m4 41 rfl) rfl
theorem q786 : (Jvm.Cond.constantFloat "MixedLeaves" (293 : Nat) (2139095040 : UInt32)) ∈ lw_all := lw_g (lw_at lw_m4 42 rfl) rfl
theorem q787 : (Jvm.Cond.constantFloat "MixedLeaves" (294 : Nat) (4286578688 : UInt32)) ∈ lw_all := lw_g (lw_at lw_m4 43 rfl) rfl
theorem q788 : (Jvm.Cond.methodLink "MixedLeaves" (301 : Nat) ({ cls := "java/lang/Math", name := "max", desc := "(FF)F" } : Jvm.MethodName)) ∈ lw_all := lw_g (lw_at lw_m4 44 rfl) rfl
theorem q794 : (Jvm.Cond.methodLink "MixedLeaves" (304 : Nat) ({ cls := "java/lang/Math", name := "min", desc := "(FF)F" } : Jvm.MethodName)) ∈ lw_all := lw_g (lw_at lw_m4 50 rfl) rfl
theorem q797 : (Jvm.Cond.methodLink "MixedLeaves" (306 : Nat) ({ cls := "java/lang/Math", name := "copySign", desc := "(FF)F" } : Jvm.MethodName)) ∈ lw_all := lw_g (lw_at lw_m4 53 rfl) rfl
theorem q803 : (Jvm.Cond.methodLink "MixedLeaves" (308 : Nat) ({ cls := "java/lang/Math", name := "abs", desc := "(F)F" } : Jvm.MethodName)) ∈ lw_all := lw_g (lw_at lw_m4 59 rfl) rfl
theorem q806 : (Jvm.Cond.methodLink "MixedLeaves" (311 : Nat) ({ cls := "java/lang/Math", name := "signum", desc := "(F)F" } : Jvm.MethodName)) ∈ lw_all := lw_g (lw_at lw_m4 62 rfl) rfl
theorem q811 : (Jvm.Cond.methodLink "MixedLeaves" (313 : Nat) ({ cls := "java/lang/Math", name := "nextUp", desc := "(F)F" } : Jvm.MethodName)) ∈ lw_all := lw_g (lw_at lw_m4 67 rfl) rfl
theorem q816 : (Jvm.Cond.instanceMethod ({ cls := "MixedLeaves", name := "compare", desc := "(JJZ)I" } : Jvm.MethodName)) ∈ lw_all := lw_g (lw_at lw_m4 72 rfl) rfl
theorem q817 : (Jvm.Cond.selects "MixedLeaves" ({ cls := "MixedLeaves", name := "compare", desc := "(JJZ)I" } : Jvm.MethodName) ({ cls := "MixedLeaves", name := "compare", desc := "(JJZ)I" } : Jvm.MethodName)) ∈ lw_all := lw_g (lw_at lw_m4 73 rfl) rfl
theorem q818 : (Jvm.Cond.code ({ cls := "MixedLeaves", name := "compare", desc := "(JJZ)I" } : Jvm.MethodName) prog_1_method_58_code (10 : Nat) (Option.some Jvm.ClassFile.FieldType.int)) ∈ lw_all := lw_g (lw_at lw_m4 74 rfl) rfl
theorem q820 : (Jvm.Cond.instanceMethod ({ cls := "MixedLeaves", name := "turn", desc := "(IIJ)J" } : Jvm.MethodName)) ∈ lw_all := lw_g (lw_at lw_m4 76 rfl) rfl
theorem q821 : (Jvm.Cond.selects "MixedLeaves" ({ cls := "MixedLeaves", name := "turn", desc := "(IIJ)J" } : Jvm.MethodName) ({ cls := "MixedLeaves", name := "turn", desc := "(IIJ)J" } : Jvm.MethodName)) ∈ lw_all := lw_g (lw_at lw_m4 77 rfl) rfl
theorem q822 : (Jvm.Cond.code ({ cls := "MixedLeaves", name := "turn", desc := "(IIJ)J" } : Jvm.MethodName) prog_1_method_61_code (7 : Nat) (Option.some Jvm.ClassFile.FieldType.long)) ∈ lw_all := lw_g (lw_at lw_m4 78 rfl) rfl
theorem q823 : (Jvm.Cond.methodLink "MixedLeaves" (318 : Nat) ({ cls := "MixedLeaves", name := "turned", desc := "(ID)J" } : Jvm.MethodName)) ∈ lw_all := lw_g (lw_at lw_m4 79 rfl) rfl
theorem q824 : (Jvm.Cond.static ({ cls := "MixedLeaves", name := "turned", desc := "(ID)J" } : Jvm.MethodName)) ∈ lw_all := lw_g (lw_at lw_m4 80 rfl) rfl
theorem q825 : (Jvm.Cond.code ({ cls := "MixedLeaves", name := "turned", desc := "(ID)J" } : Jvm.MethodName) prog_1_method_59_code (3 : Nat) (Option.some Jvm.ClassFile.FieldType.long)) ∈ lw_all := lw_g (lw_at lw_m4 81 rfl) rfl
theorem q826 : (Jvm.Cond.methodLink "MixedLeaves" (322 : Nat) ({ cls := "MixedLeaves", name := "turned", desc := "(IF)J" } : Jvm.MethodName)) ∈ lw_all := lw_g (lw_at lw_m4 82 rfl) rfl
theorem q827 : (Jvm.Cond.static ({ cls := "MixedLeaves", name := "turned", desc := "(IF)J" } : Jvm.MethodName)) ∈ lw_all := lw_g (lw_at lw_m4 83 rfl) rfl
theorem q828 : (Jvm.Cond.code ({ cls := "MixedLeaves", name := "turned", desc := "(IF)J" } : Jvm.MethodName) prog_1_method_60_code (2 : Nat) (Option.some Jvm.ClassFile.FieldType.long)) ∈ lw_all := lw_g (lw_at lw_m4 84 rfl) rfl
theorem q830 : (Jvm.Cond.instanceMethod ({ cls := "MixedLeaves", name := "keep", desc := "(I)I" } : Jvm.MethodName)) ∈ lw_all := lw_g (lw_at lw_m4 86 rfl) rfl
theorem q831 : (Jvm.Cond.selects "MixedLeaves" ({ cls := "MixedLeaves", name := "keep", desc := "(I)I" } : Jvm.MethodName) ({ cls := "MixedLeaves", name := "keep", desc := "(I)I" } : Jvm.MethodName)) ∈ lw_all := lw_g (lw_at lw_m4 87 rfl) rfl
theorem q832 : (Jvm.Cond.code ({ cls := "MixedLeaves", name := "keep", desc := "(I)I" } : Jvm.MethodName) prog_1_method_63_code (13 : Nat) (Option.some Jvm.ClassFile.FieldType.int)) ∈ lw_all := lw_g (lw_at lw_m4 88 rfl) rfl
theorem q834 : (Jvm.Cond.instanceMethod ({ cls := "MixedLeaves", name := "back", desc := "(II)I" } : Jvm.MethodName)) ∈ lw_all := lw_g (lw_at lw_m4 90 rfl) rfl
theorem q835 : (Jvm.Cond.selects "MixedLeaves" ({ cls := "MixedLeaves", name := "back", desc := "(II)I" } : Jvm.MethodName) ({ cls := "MixedLeaves", name := "back", desc := "(II)I" } : Jvm.MethodName)) ∈ lw_all := lw_g (lw_at lw_m4 91 rfl) rfl
theorem q836 : (Jvm.Cond.code ({ cls := "MixedLeaves", name := "back", desc := "(II)I" } : Jvm.MethodName) prog_1_method_64_code (6 : Nat) (Option.some Jvm.ClassFile.FieldType.int)) ∈ lw_all := lw_g (lw_at lw_m4 92 rfl) rfl
theorem q838 : (Jvm.Cond.instanceMethod ({ cls := "MixedLeaves", name := "leaf", desc := "(II)I" } : Jvm.MethodName)) ∈ lw_all := lw_g (lw_at lw_m4 94 rfl) rfl
theorem q839 : (Jvm.Cond.selects "MixedLeaves" ({ cls := "MixedLeaves", name := "leaf", desc := "(II)I" } : Jvm.MethodName) ({ cls := "MixedLeaves", name := "leaf", desc := "(II)I" } : Jvm.MethodName)) ∈ lw_all := lw_g (lw_at lw_m4 95 rfl) rfl
theorem q840 : (Jvm.Cond.code ({ cls := "MixedLeaves", name := "leaf", desc := "(II)I" } : Jvm.MethodName) prog_1_method_65_code (5 : Nat) (Option.some Jvm.ClassFile.FieldType.int)) ∈ lw_all := lw_g (lw_at lw_m4 96 rfl) rfl
theorem q841 : (Jvm.Cond.methodLink "MixedLeaves" (334 : Nat) ({ cls := "MixedLeaves", name := "blocksOf", desc := "(I)I" } : Jvm.MethodName)) ∈ lw_all := lw_g (lw_at lw_m4 97 rfl) rfl
theorem q842 : (Jvm.Cond.privateMethod ({ cls := "MixedLeaves", name := "blocksOf", desc := "(I)I" } : Jvm.MethodName)) ∈ lw_tbl := lw_at lw_m4 98 rfl
theorem q843 : (Jvm.Cond.instanceMethod ({ cls := "MixedLeaves", name := "blocksOf", desc := "(I)I" } : Jvm.MethodName)) ∈ lw_all := lw_g (lw_at lw_m4 99 rfl) rfl
theorem q844 : (Jvm.Cond.code ({ cls := "MixedLeaves", name := "blocksOf", desc := "(I)I" } : Jvm.MethodName) prog_1_method_62_code (2 : Nat) (Option.some Jvm.ClassFile.FieldType.int)) ∈ lw_all := lw_g (lw_at lw_m4 100 rfl) rfl
theorem q846 : (Jvm.Cond.instanceMethod ({ cls := "MixedLeaves", name := "leafAt", desc := "(II)J" } : Jvm.MethodName)) ∈ lw_all := lw_g (lw_at lw_m4 102 rfl) rfl
theorem q847 : (Jvm.Cond.selects "MixedLeaves" ({ cls := "MixedLeaves", name := "leafAt", desc := "(II)J" } : Jvm.MethodName) ({ cls := "MixedLeaves", name := "leafAt", desc := "(II)J" } : Jvm.MethodName)) ∈ lw_all := lw_g (lw_at lw_m4 103 rfl) rfl
theorem q848 : (Jvm.Cond.codeWith ({ cls := "MixedLeaves", name := "leafAt", desc := "(II)J" } : Jvm.MethodName) prog_1_method_66_code (5 : Nat) (Option.some Jvm.ClassFile.FieldType.long) [((31 : Nat), (37 : Nat), (38 : Nat), (176 : Nat))]) ∈ lw_all := lw_g (lw_at lw_m4 104 rfl) rfl
theorem in_X1 : ∀ w ∈ wsX10, w ∈ lw_all := lw_in wsX10 [92, 94, 96, 98, 100, 102] (by decide +kernel) (by decide +kernel)
